set_option maxRecDepth 100000
/-! the system: X2_init, X1_init, X0_init, X0_putFour, X0_feed, X0_end, X5_init, X5_look, X5_isLetter, X5_isDigit, X5_next -/
def scp_init (bb : Nat × Nat) (a0 : Nat) (a1 : Option Nat) (σ : ST) : Option (ST) := gd (rm bb σ 3) (nm (nL σ) fun σ2 => gd (sc σ2 a0 = 3) (nm (pR σ2 33 a0 (some (sZ σ))) fun σ4 => gd (rm bb σ4 3) (nm (nL σ4) fun σ6 => gd (sc σ6 a0 = 3) (nm (pR σ6 34 a0 (some (sZ σ4))) fun σ8 => gd (rm bb σ8 3) (nm (nL σ8) fun σ10 => gd (sc σ10 a0 = 3) (nm (pR σ10 35 a0 (some (sZ σ8))) fun σ12 => gd (sc σ12 a0 = 3) (nm (pR σ12 32 a0 a1) fun σ14 => some σ14)))))))
set_option maxHeartbeats 4000000 in
theorem scp_init_ok {g : GE} (G : GG g) {τ : TT} (d : Nat) (hd1 : 4 ≤ d) (a0 : Nat) (a1 : Option Nat)  (σ : ST) (Q : VQ) : Sm (V g mX2_init d 0 [(0, vr (some a0)), (1, vr a1)] [] σ τ Q) (scp_init (gRm g) a0 a1 σ) (fun r => Q.1 none r τ) := by
  unfold scp_init
  refine sm_top (fun K hRET => ?_)
  refine sm_b (l' := [(0, vr (some a0)), (1, vr a1)]) (st' := [vr (some a0)]) (pc' := 1) [(.aload_n 0, vi 0, 1)] (by decide +kernel) rfl rfl ?_
  refine sm_obj q185 (by omega) rfl (by decide +kernel) ?_
  refine sm_b (l' := [(0, vr (some a0)), (1, vr a1)]) (st' := [vr (some a0)]) (pc' := 5) [(.aload_n 0, vi 0, 5)] (by decide +kernel) rfl rfl ?_
  refine sm_gd (fun h1 => ?_)
  refine sm_newList (i := 7) (i2 := 9) q186 rfl q188 h1 (by omega) rfl (by decide +kernel) (by decide +kernel) (by decide +kernel) ?_
  refine sm_nms (fun σ2 => ?_)
  refine sm_gd (fun h3 => ?_)
  refine sm_pF (k := 1) (x := vr (some (sZ σ))) cd2 rfl h3 rfl q215 rfl rfl rfl (nar_r _ rfl) (fit_r _ rfl) rfl (at_pR σ2 33 a0 (some (sZ σ))) (fp_33 σ2 a0 (some (sZ σ))) (by decide +kernel) ?_
  refine sm_nms (fun σ4 => ?_)
  refine sm_b (l' := [(0, vr (some a0)), (1, vr a1)]) (st' := [vr (some a0)]) (pc' := 16) [(.aload_n 0, vi 0, 16)] (by decide +kernel) rfl rfl ?_
  refine sm_gd (fun h5 => ?_)
  refine sm_newList (i := 7) (i2 := 9) q186 rfl q188 h5 (by omega) rfl (by decide +kernel) (by decide +kernel) (by decide +kernel) ?_
  refine sm_nms (fun σ6 => ?_)
  refine sm_gd (fun h7 => ?_)
  refine sm_pF (k := 2) (x := vr (some (sZ σ4))) cd2 rfl h7 rfl q217 rfl rfl rfl (nar_r _ rfl) (fit_r _ rfl) rfl (at_pR σ6 34 a0 (some (sZ σ4))) (fp_34 σ6 a0 (some (sZ σ4))) (by decide +kernel) ?_
  refine sm_nms (fun σ8 => ?_)
  refine sm_b (l' := [(0, vr (some a0)), (1, vr a1)]) (st' := [vr (some a0)]) (pc' := 27) [(.aload_n 0, vi 0, 27)] (by decide +kernel) rfl rfl ?_
  refine sm_gd (fun h9 => ?_)
  refine sm_newList (i := 7) (i2 := 9) q186 rfl q188 h9 (by omega) rfl (by decide +kernel) (by decide +kernel) (by decide +kernel) ?_
  refine sm_nms (fun σ10 => ?_)
  refine sm_gd (fun h11 => ?_)
  refine sm_pF (k := 3) (x := vr (some (sZ σ8))) cd2 rfl h11 rfl q219 rfl rfl rfl (nar_r _ rfl) (fit_r _ rfl) rfl (at_pR σ10 35 a0 (some (sZ σ8))) (fp_35 σ10 a0 (some (sZ σ8))) (by decide +kernel) ?_
  refine sm_nms (fun σ12 => ?_)
  refine sm_b (l' := [(0, vr (some a0)), (1, vr a1)]) (st' := [vr a1, vr (some a0)]) (pc' := 39) [(.aload_n 0, vi 0, 38), (.aload_n 1, vi 0, 39)] (by decide +kernel) rfl rfl ?_
  refine sm_gd (fun h13 => ?_)
  refine sm_pF (k := 0) (x := vr a1) cd2 rfl h13 rfl q213 rfl rfl rfl (nar_r _ rfl) (fit_r _ rfl) rfl (at_pR σ12 32 a0 a1) (fp_32 σ12 a0 a1) (by decide +kernel) ?_
  refine sm_nms (fun σ14 => ?_)
  exact sm_vret rfl (by decide +kernel) (fun h => hRET _ h)
def sch_init (bb : Nat × Nat) (a0 : Nat) (σ : ST) : Option (ST) := gd (rm bb σ 4) (nm (nO σ 3 4) fun σ2 => Option.bind (scp_init bb (sZ σ) none σ2) fun y3 => gd (sc y3 a0 = 2) (nm (pR y3 16 a0 (some (sZ σ))) fun σ5 => gd (rm bb σ5 3) (nm (nL σ5) fun σ7 => gd (sc σ7 a0 = 2) (nm (pR σ7 17 a0 (some (sZ σ5))) fun σ9 => gd (rm bb σ9 3) (nm (nL σ9) fun σ11 => gd (sc σ11 a0 = 2) (nm (pR σ11 18 a0 (some (sZ σ9))) fun σ13 => gd (rm bb σ13 3) (nm (nL σ13) fun σ15 => gd (sc σ15 a0 = 2) (nm (pR σ15 19 a0 (some (sZ σ13))) fun σ17 => some σ17))))))))
set_option maxHeartbeats 4000000 in
theorem sch_init_ok {g : GE} (G : GG g) {τ : TT} (d : Nat) (hd1 : 5 ≤ d) (a0 : Nat)  (σ : ST) (Q : VQ) : Sm (V g mX1_init d 0 [(0, vr (some a0))] [] σ τ Q) (sch_init (gRm g) a0 σ) (fun r => Q.1 none r τ) := by
  unfold sch_init
  refine sm_top (fun K hRET => ?_)
  refine sm_b (l' := [(0, vr (some a0))]) (st' := [vr (some a0)]) (pc' := 1) [(.aload_n 0, vi 0, 1)] (by decide +kernel) rfl rfl ?_
  refine sm_obj q179 (by omega) rfl (by decide +kernel) ?_
  refine sm_b (l' := [(0, vr (some a0))]) (st' := [vr (some a0)]) (pc' := 5) [(.aload_n 0, vi 0, 5)] (by decide +kernel) rfl rfl ?_
  refine sm_gd (fun h1 => ?_)
  refine sm_new cd2 rfl q180 q181 q133 (new_2 σ) h1 (by decide +kernel) ?_
  refine sm_nms (fun σ2 => ?_)
  refine sm_b (l' := [(0, vr (some a0))]) (st' := [vr none, vr (some (sZ σ)), vr (some (sZ σ)), vr (some a0)]) (pc' := 10) [(.dup, vi 0, 9), (.aconst_null, vi 0, 10)] (by decide +kernel) rfl rfl ?_
  refine sm_ci (N := mX2_init) (d' := d - 1) [vr none] [vr (some (sZ σ)), vr (some a0)] rfl (by decide +kernel) q182 q183 rfl q184 rfl rfl (show okN yX2_init 1 = true by decide +kernel) rfl rfl (by omega) rfl (fun Q' => scp_init_ok G (d - 1) (by omega) (sZ σ) none σ2 Q') (fun y3 => ?_)
  refine sm_gd (fun h4 => ?_)
  refine sm_pF (k := 0) (x := vr (some (sZ σ))) cd1 rfl h4 rfl q233 rfl rfl rfl (nar_r _ rfl) (fit_r _ rfl) rfl (at_pR y3 16 a0 (some (sZ σ))) (fp_16 y3 a0 (some (sZ σ))) (by decide +kernel) ?_
  refine sm_nms (fun σ5 => ?_)
  refine sm_b (l' := [(0, vr (some a0))]) (st' := [vr (some a0)]) (pc' := 17) [(.aload_n 0, vi 0, 17)] (by decide +kernel) rfl rfl ?_
  refine sm_gd (fun h6 => ?_)
  refine sm_newList (i := 18) (i2 := 20) q231 rfl q232 h6 (by omega) rfl (by decide +kernel) (by decide +kernel) (by decide +kernel) ?_
  refine sm_nms (fun σ7 => ?_)
  refine sm_gd (fun h8 => ?_)
  refine sm_pF (k := 1) (x := vr (some (sZ σ5))) cd1 rfl h8 rfl q236 rfl rfl rfl (nar_r _ rfl) (fit_r _ rfl) rfl (at_pR σ7 17 a0 (some (sZ σ5))) (fp_17 σ7 a0 (some (sZ σ5))) (by decide +kernel) ?_
  refine sm_nms (fun σ9 => ?_)
  refine sm_b (l' := [(0, vr (some a0))]) (st' := [vr (some a0)]) (pc' := 28) [(.aload_n 0, vi 0, 28)] (by decide +kernel) rfl rfl ?_
  refine sm_gd (fun h10 => ?_)
  refine sm_newList (i := 18) (i2 := 20) q231 rfl q232 h10 (by omega) rfl (by decide +kernel) (by decide +kernel) (by decide +kernel) ?_
  refine sm_nms (fun σ11 => ?_)
  refine sm_gd (fun h12 => ?_)
  refine sm_pF (k := 2) (x := vr (some (sZ σ9))) cd1 rfl h12 rfl q240 rfl rfl rfl (nar_r _ rfl) (fit_r _ rfl) rfl (at_pR σ11 18 a0 (some (sZ σ9))) (fp_18 σ11 a0 (some (sZ σ9))) (by decide +kernel) ?_
  refine sm_nms (fun σ13 => ?_)
  refine sm_b (l' := [(0, vr (some a0))]) (st' := [vr (some a0)]) (pc' := 39) [(.aload_n 0, vi 0, 39)] (by decide +kernel) rfl rfl ?_
  refine sm_gd (fun h14 => ?_)
  refine sm_newList (i := 18) (i2 := 20) q231 rfl q232 h14 (by omega) rfl (by decide +kernel) (by decide +kernel) (by decide +kernel) ?_
  refine sm_nms (fun σ15 => ?_)
  refine sm_gd (fun h16 => ?_)
  refine sm_pF (k := 3) (x := vr (some (sZ σ13))) cd1 rfl h16 rfl q244 rfl rfl rfl (nar_r _ rfl) (fit_r _ rfl) rfl (at_pR σ15 19 a0 (some (sZ σ13))) (fp_19 σ15 a0 (some (sZ σ13))) (by decide +kernel) ?_
  refine sm_nms (fun σ17 => ?_)
  exact sm_vret rfl (by decide +kernel) (fun h => hRET _ h)
def ws_init (bb : Nat × Nat) (a0 : Nat) (σ : ST) : Option (ST) := gd (0 ≤ (1000 : Int) ∧ (1000 : Int) < 16777216 ∧ rm bb σ (1000 : Int).toNat) (nm (nB σ (1000 : Int).toNat) fun σ2 => gd (sc σ2 a0 = 1) (nm (pR σ2 0 a0 (some (sZ σ))) fun σ4 => gd (0 ≤ (1000 : Int) ∧ (1000 : Int) < 16777216 ∧ rm bb σ4 (1000 : Int).toNat) (nm (nB σ4 (1000 : Int).toNat) fun σ6 => gd (sc σ6 a0 = 1) (nm (pR σ6 1 a0 (some (sZ σ4))) fun σ8 => gd (rm bb σ8 7) (nm (nO σ8 2 7) fun σ10 => Option.bind (sch_init bb (sZ σ8) σ10) fun y11 => gd (sc y11 a0 = 1) (nm (pR y11 4 a0 (some (sZ σ8))) fun σ13 => gd (rm bb σ13 2) (nm (nW σ13) fun σ15 => gd (sc σ15 a0 = 1) (nm (pR σ15 5 a0 (some (sZ σ13))) fun σ17 => gd (rm bb σ17 2) (nm (nW σ17) fun σ19 => gd (sc σ19 a0 = 1) (nm (pR σ19 6 a0 (some (sZ σ17))) fun σ21 => some σ21))))))))))
set_option maxHeartbeats 4000000 in
theorem ws_init_ok {g : GE} (G : GG g) {τ : TT} (d : Nat) (hd1 : 6 ≤ d) (a0 : Nat)  (σ : ST) (Q : VQ) : Sm (V g mX0_init d 0 [(0, vr (some a0))] [] σ τ Q) (ws_init (gRm g) a0 σ) (fun r => Q.1 none r τ) := by
  unfold ws_init
  refine sm_top (fun K hRET => ?_)
  refine sm_b (l' := [(0, vr (some a0))]) (st' := [vr (some a0)]) (pc' := 1) [(.aload_n 0, vi 0, 1)] (by decide +kernel) rfl rfl ?_
  refine sm_obj q171 (by omega) rfl (by decide +kernel) ?_
  refine sm_b (l' := [(0, vr (some a0))]) (st' := [vi 1000, vr (some a0)]) (pc' := 8) [(.aload_n 0, vi 0, 5), (.sipush 1000, vi 1000, 8)] (by decide +kernel) rfl rfl ?_
  refine sm_gd (fun h1 => ?_)
  refine sm_newB q212 h1 (by decide +kernel) ?_
  refine sm_nms (fun σ2 => ?_)
  refine sm_gd (fun h3 => ?_)
  refine sm_pF (k := 0) (x := vr (some (sZ σ))) cd0 rfl h3 rfl q290 rfl rfl rfl (nar_r _ rfl) (fit_r _ rfl) rfl (at_pR σ2 0 a0 (some (sZ σ))) (fp_0 σ2 a0 (some (sZ σ))) (by decide +kernel) ?_
  refine sm_nms (fun σ4 => ?_)
  refine sm_b (l' := [(0, vr (some a0))]) (st' := [vi 1000, vr (some a0)]) (pc' := 17) [(.aload_n 0, vi 0, 14), (.sipush 1000, vi 1000, 17)] (by decide +kernel) rfl rfl ?_
  refine sm_gd (fun h5 => ?_)
  refine sm_newB q212 h5 (by decide +kernel) ?_
  refine sm_nms (fun σ6 => ?_)
  refine sm_gd (fun h7 => ?_)
  refine sm_pF (k := 1) (x := vr (some (sZ σ4))) cd0 rfl h7 rfl q291 rfl rfl rfl (nar_r _ rfl) (fit_r _ rfl) rfl (at_pR σ6 1 a0 (some (sZ σ4))) (fp_1 σ6 a0 (some (sZ σ4))) (by decide +kernel) ?_
  refine sm_nms (fun σ8 => ?_)
  refine sm_b (l' := [(0, vr (some a0))]) (st' := [vr (some a0)]) (pc' := 23) [(.aload_n 0, vi 0, 23)] (by decide +kernel) rfl rfl ?_
  refine sm_gd (fun h9 => ?_)
  refine sm_new cd1 rfl q174 q175 q132 (new_1 σ8) h9 (by decide +kernel) ?_
  refine sm_nms (fun σ10 => ?_)
  refine sm_b (l' := [(0, vr (some a0))]) (st' := [vr (some (sZ σ8)), vr (some (sZ σ8)), vr (some a0)]) (pc' := 27) [(.dup, vi 0, 27)] (by decide +kernel) rfl rfl ?_
  refine sm_ciN (N := mX1_init) (d' := d - 1) [] [vr (some (sZ σ8)), vr (some a0)] rfl (by decide +kernel) q176 q177 rfl q178 rfl rfl (show okN yX1_init 0 = true by decide +kernel) rfl rfl (by omega) rfl (fun Q' => sch_init_ok G (d - 1) (by omega) (sZ σ8) σ10 Q') (fun y11 => ?_)
  refine sm_gd (fun h12 => ?_)
  refine sm_p (k := 4) (x := vr (some (sZ σ8))) cd0 rfl h12 rfl q294 rfl (nar_r _ rfl) (fit_r _ rfl) rfl (at_pR y11 4 a0 (some (sZ σ8))) (fp_4 y11 a0 (some (sZ σ8))) (by decide +kernel) ?_
  refine sm_nms (fun σ13 => ?_)
  refine sm_b (l' := [(0, vr (some a0))]) (st' := [vr (some a0)]) (pc' := 34) [(.aload_n 0, vi 0, 34)] (by decide +kernel) rfl rfl ?_
  refine sm_gd (fun h14 => ?_)
  refine sm_newRowN (i := 23) (i2 := 25) q266 rfl q268 h14 (by omega) rfl (by decide +kernel) (by decide +kernel) (by decide +kernel) ?_
  refine sm_nms (fun σ15 => ?_)
  refine sm_gd (fun h16 => ?_)
  refine sm_p (k := 5) (x := vr (some (sZ σ13))) cd0 rfl h16 rfl q295 rfl (nar_r _ rfl) (fit_r _ rfl) rfl (at_pR σ15 5 a0 (some (sZ σ13))) (fp_5 σ15 a0 (some (sZ σ13))) (by decide +kernel) ?_
  refine sm_nms (fun σ17 => ?_)
  refine sm_b (l' := [(0, vr (some a0))]) (st' := [vr (some a0)]) (pc' := 45) [(.aload_n 0, vi 0, 45)] (by decide +kernel) rfl rfl ?_
  refine sm_gd (fun h18 => ?_)
  refine sm_newRowN (i := 23) (i2 := 25) q266 rfl q268 h18 (by omega) rfl (by decide +kernel) (by decide +kernel) (by decide +kernel) ?_
  refine sm_nms (fun σ19 => ?_)
  refine sm_gd (fun h20 => ?_)
  refine sm_p (k := 6) (x := vr (some (sZ σ17))) cd0 rfl h20 rfl q296 rfl (nar_r _ rfl) (fit_r _ rfl) rfl (at_pR σ19 6 a0 (some (sZ σ17))) (fp_6 σ19 a0 (some (sZ σ17))) (by decide +kernel) ?_
  refine sm_nms (fun σ21 => ?_)
  exact sm_vret rfl (by decide +kernel) (fun h => hRET _ h)
def ws_putFour_L3 (bb : Nat × Nat) (u0 : Nat) (u1 : Int) : Nat → Int → ST → Option (ST)
  | 0, _, _ => none
  | n + 1, w2, σ => gd (rg w2) (if w2 < 0 then (some σ) else (gd (sc σ u0 = 1) (Option.bind (sR σ 0 u0) fun p6 => gd (sc σ p6 = 101) (gd (ib (sI σ 2 u0) (sN σ p6)) (nm (pB σ p6 (sI σ 2 u0).toNat (u8 (iB (iShr u1 w2)))) fun σ10 => gd (sc σ10 u0 = 1) (nm (pI σ10 2 u0 ((sI σ10 2 u0) + 1)) fun σ12 => ws_putFour_L3 bb u0 u1 n (w2 + (-8)) σ12))))))
def ws_putFour (bb : Nat × Nat) (a0 : Nat) (a1 : Int) (σ : ST) : Option (ST) := ws_putFour_L3 bb a0 a1 FU 24 σ
set_option maxHeartbeats 4000000 in
theorem ws_putFour_L3_ok {g : GE} (G : GG g) {τ : TT} {Q : VQ} (d : Nat) (hd1 : 0 ≤ d) (u0 : Nat) (u1 : Int)  {K : ST → Prop} (hRET : ∀ r : ST, K (r) → Q.1 none r τ) : ∀ (n : Nat) (w2 : Int) (σ : ST), Sm (V g mX0_putFour d 3 [(0, vr (some u0)), (1, vi u1), (2, vi w2)] [] σ τ Q) (ws_putFour_L3 (gRm g) u0 u1 n w2 σ) K := by
  intro n
  induction n with
  | zero => intro w2 σ; exact sm_none
  | succ n ih =>
    intro w2 σ
    rw [ws_putFour_L3.eq_2]
    refine sm_b (l' := [(0, vr (some u0)), (1, vi u1), (2, vi w2)]) (st' := [vi w2]) (pc' := 4) [(.iload_n 2, vi 0, 4)] (by decide +kernel) rfl rfl ?_
    refine sm_gd (fun h1 => ?_)
    refine sm_case (V g mX0_putFour d 36 [(0, vr (some u0)), (1, vi u1), (2, vi w2)] [] σ τ Q) (V g mX0_putFour d 7 [(0, vr (some u0)), (1, vi u1), (2, vi w2)] [] σ τ Q) ?_ ?_ (fun f13 p14 n15 => ?_)
    · exact sm_vret rfl (by decide +kernel) (fun h => hRET _ h)
    · refine sm_b (l' := [(0, vr (some u0)), (1, vi u1), (2, vi w2)]) (st' := [vr (some u0)]) (pc' := 8) [(.aload_n 0, vi 0, 8)] (by decide +kernel) rfl rfl ?_
      refine sm_gd (fun h5 => ?_)
      refine sm_g (k := 0) (x := vr (sR σ 0 u0)) cd0 rfl h5 rfl q290 rfl (by decide +kernel) ?_
      refine sm_b (l' := [(0, vr (some u0)), (1, vi u1), (2, vi w2)]) (st' := [vr (some u0), vr (sR σ 0 u0)]) (pc' := 12) [(.aload_n 0, vi 0, 12)] (by decide +kernel) rfl rfl ?_
      refine sm_g (k := 2) (x := vi (sI σ 2 u0)) cd0 rfl h5 rfl q292 rfl (by decide +kernel) ?_
      refine sm_b (l' := [(0, vr (some u0)), (1, vi u1), (2, vi w2)]) (st' := [vi (iB (iShr u1 w2)), vi (sI σ 2 u0), vr (sR σ 0 u0)]) (pc' := 19) [(.iload_n 1, vi 0, 16), (.iload_n 2, vi 0, 17), (.ishr, vi 0, 18), (.i2b, vi 0, 19)] (by decide +kernel) rfl rfl ?_
      refine sm_de (fun p6 h7 => ?_)
      refine sm_st [vi (iB (iShr u1 w2)), vi (sI σ 2 u0), vr (some p6)] (by rw [h7] <;> rfl) ?_
      refine sm_gd (fun h8 => ?_)
      refine sm_gd (fun h9 => ?_)
      refine sm_bs h8 h9 (by decide +kernel) ?_
      refine sm_nms (fun σ10 => ?_)
      refine sm_b (l' := [(0, vr (some u0)), (1, vi u1), (2, vi w2)]) (st' := [vr (some u0), vr (some u0)]) (pc' := 22) [(.aload_n 0, vi 0, 21), (.dup, vi 0, 22)] (by decide +kernel) rfl rfl ?_
      refine sm_gd (fun h11 => ?_)
      refine sm_g (k := 2) (x := vi (sI σ10 2 u0)) cd0 rfl h11 rfl q292 rfl (by decide +kernel) ?_
      refine sm_b (l' := [(0, vr (some u0)), (1, vi u1), (2, vi w2)]) (st' := [vi ((sI σ10 2 u0) + 1), vr (some u0)]) (pc' := 27) [(.iconst 1, vi 1, 26), (.iadd, vi 0, 27)] (by decide +kernel) rfl rfl ?_
      refine sm_p (k := 2) (x := vi ((sI σ10 2 u0) + 1)) cd0 rfl h11 rfl q292 rfl (nar_i _) (fit_i _) rfl (at_pI σ10 2 u0 ((sI σ10 2 u0) + 1)) (fp_2 σ10 u0 ((sI σ10 2 u0) + 1)) (by decide +kernel) ?_
      refine sm_nms (fun σ12 => ?_)
      refine sm_b (l' := [(0, vr (some u0)), (1, vi u1), (2, vi (w2 + (-8)))]) (st' := []) (pc' := 3) [(.iinc 2 (-8), vi (-8), 33), (.goto (-30), vi 0, 3)] (by decide +kernel) rfl rfl ?_
      exact ih (w2 + (-8)) σ12
    refine sm_if_lt (off := 32) (tgt := 36) h1 (by decide +kernel) (fun c16 => ?_) (fun c16 => ?_)
    · exact p14 c16
    · exact n15 c16
set_option maxHeartbeats 4000000 in
theorem ws_putFour_ok {g : GE} (G : GG g) {τ : TT} (d : Nat) (hd1 : 0 ≤ d) (a0 : Nat) (a1 : Int)  (σ : ST) (Q : VQ) : Sm (V g mX0_putFour d 0 [(0, vr (some a0)), (1, vi a1)] [] σ τ Q) (ws_putFour (gRm g) a0 a1 σ) (fun r => Q.1 none r τ) := by
  unfold ws_putFour
  refine sm_top (fun K hRET => ?_)
  refine sm_b (l' := [(0, vr (some a0)), (1, vi a1), (2, vi 24)]) (st' := []) (pc' := 3) [(.bipush 24, vi 24, 2), (.istore_n 2, vi 0, 3)] (by decide +kernel) rfl rfl ?_
  exact ws_putFour_L3_ok G d hd1 a0 a1  (fun r h => hRET _ h) FU 24 σ
def ws_feed (bb : Nat × Nat) (a0 : Nat) (a1 : Int) (a2 : Int) (a3 : Int) (a4 : Int) (a5 : Int) (σ : ST) : Option (Int × ST) := gd (sc σ a0 = 1) (gd (rg ((sI σ 2 a0) + 20)) (if ((sI σ 2 a0) + 20) ≤ 1000 then (Option.bind (ws_putFour bb a0 a1 σ) fun y5 => gd (sc y5 a0 = 1) (Option.bind (ws_putFour bb a0 a2 y5) fun y7 => gd (sc y7 a0 = 1) (Option.bind (ws_putFour bb a0 a3 y7) fun y9 => gd (sc y9 a0 = 1) (Option.bind (ws_putFour bb a0 a4 y9) fun y11 => gd (sc y11 a0 = 1) (Option.bind (ws_putFour bb a0 a5 y11) fun y13 => some ((1, y13))))))) else (some ((0, σ)))))
set_option maxHeartbeats 4000000 in
theorem ws_feed_ok {g : GE} (G : GG g) {τ : TT} (d : Nat) (hd1 : 1 ≤ d) (a0 : Nat) (a1 : Int) (a2 : Int) (a3 : Int) (a4 : Int) (a5 : Int)  (σ : ST) (Q : VQ) : Sm (V g mX0_feed d 0 [(0, vr (some a0)), (1, vi a1), (2, vi a2), (3, vi a3), (4, vi a4), (5, vi a5)] [] σ τ Q) (ws_feed (gRm g) a0 a1 a2 a3 a4 a5 σ) (fun r => Q.1 (some (vi r.1)) r.2 τ) := by
  unfold ws_feed
  refine sm_top (fun K hRET => ?_)
  refine sm_b (l' := [(0, vr (some a0)), (1, vi a1), (2, vi a2), (3, vi a3), (4, vi a4), (5, vi a5)]) (st' := [vr (some a0)]) (pc' := 1) [(.aload_n 0, vi 0, 1)] (by decide +kernel) rfl rfl ?_
  refine sm_gd (fun h1 => ?_)
  refine sm_g (k := 2) (x := vi (sI σ 2 a0)) cd0 rfl h1 rfl q292 rfl (by decide +kernel) ?_
  refine sm_b (l' := [(0, vr (some a0)), (1, vi a1), (2, vi a2), (3, vi a3), (4, vi a4), (5, vi a5)]) (st' := [vi 1000, vi ((sI σ 2 a0) + 20)]) (pc' := 10) [(.bipush 20, vi 20, 6), (.iadd, vi 0, 7), (.sipush 1000, vi 1000, 10)] (by decide +kernel) rfl rfl ?_
  refine sm_gd (fun h2 => ?_)
  refine sm_case (V g mX0_feed d 15 [(0, vr (some a0)), (1, vi a1), (2, vi a2), (3, vi a3), (4, vi a4), (5, vi a5)] [] σ τ Q) (V g mX0_feed d 13 [(0, vr (some a0)), (1, vi a1), (2, vi a2), (3, vi a3), (4, vi a4), (5, vi a5)] [] σ τ Q) ?_ ?_ (fun f14 p15 n16 => ?_)
  · refine sm_b (l' := [(0, vr (some a0)), (1, vi a1), (2, vi a2), (3, vi a3), (4, vi a4), (5, vi a5)]) (st' := [vi a1, vr (some a0)]) (pc' := 17) [(.aload_n 0, vi 0, 16), (.iload_n 1, vi 0, 17)] (by decide +kernel) rfl rfl ?_
    refine sm_cv (N := mX0_putFour) (d' := d - 1) (fun r => none) (fun r => r) (fun _ => τ) [vi a1] [] rfl (by decide +kernel) q316 q318 qs0 (Or.inl ⟨rfl, q319⟩) (show okN yX0_putFour 1 = true by decide +kernel) (fun H hR => hR.rv G.1 cd0 rfl h1) rfl rfl (by omega) rfl (fun Q' => ws_putFour_ok G (d - 1) (by omega) a0 a1 σ Q') (fun y5 => ?_)
    refine sm_b (l' := [(0, vr (some a0)), (1, vi a1), (2, vi a2), (3, vi a3), (4, vi a4), (5, vi a5)]) (st' := [vi a2, vr (some a0)]) (pc' := 22) [(.aload_n 0, vi 0, 21), (.iload_n 2, vi 0, 22)] (by decide +kernel) rfl rfl ?_
    refine sm_gd (fun h6 => ?_)
    refine sm_cv (N := mX0_putFour) (d' := d - 1) (fun r => none) (fun r => r) (fun _ => τ) [vi a2] [] rfl (by decide +kernel) q316 q318 qs0 (Or.inl ⟨rfl, q319⟩) (show okN yX0_putFour 1 = true by decide +kernel) (fun H hR => hR.rv G.1 cd0 rfl h6) rfl rfl (by omega) rfl (fun Q' => ws_putFour_ok G (d - 1) (by omega) a0 a2 y5 Q') (fun y7 => ?_)
    refine sm_b (l' := [(0, vr (some a0)), (1, vi a1), (2, vi a2), (3, vi a3), (4, vi a4), (5, vi a5)]) (st' := [vi a3, vr (some a0)]) (pc' := 27) [(.aload_n 0, vi 0, 26), (.iload_n 3, vi 0, 27)] (by decide +kernel) rfl rfl ?_
    refine sm_gd (fun h8 => ?_)
    refine sm_cv (N := mX0_putFour) (d' := d - 1) (fun r => none) (fun r => r) (fun _ => τ) [vi a3] [] rfl (by decide +kernel) q316 q318 qs0 (Or.inl ⟨rfl, q319⟩) (show okN yX0_putFour 1 = true by decide +kernel) (fun H hR => hR.rv G.1 cd0 rfl h8) rfl rfl (by omega) rfl (fun Q' => ws_putFour_ok G (d - 1) (by omega) a0 a3 y7 Q') (fun y9 => ?_)
    refine sm_b (l' := [(0, vr (some a0)), (1, vi a1), (2, vi a2), (3, vi a3), (4, vi a4), (5, vi a5)]) (st' := [vi a4, vr (some a0)]) (pc' := 33) [(.aload_n 0, vi 0, 31), (.iload 4, vi 0, 33)] (by decide +kernel) rfl rfl ?_
    refine sm_gd (fun h10 => ?_)
    refine sm_cv (N := mX0_putFour) (d' := d - 1) (fun r => none) (fun r => r) (fun _ => τ) [vi a4] [] rfl (by decide +kernel) q316 q318 qs0 (Or.inl ⟨rfl, q319⟩) (show okN yX0_putFour 1 = true by decide +kernel) (fun H hR => hR.rv G.1 cd0 rfl h10) rfl rfl (by omega) rfl (fun Q' => ws_putFour_ok G (d - 1) (by omega) a0 a4 y9 Q') (fun y11 => ?_)
    refine sm_b (l' := [(0, vr (some a0)), (1, vi a1), (2, vi a2), (3, vi a3), (4, vi a4), (5, vi a5)]) (st' := [vi a5, vr (some a0)]) (pc' := 39) [(.aload_n 0, vi 0, 37), (.iload 5, vi 0, 39)] (by decide +kernel) rfl rfl ?_
    refine sm_gd (fun h12 => ?_)
    refine sm_cv (N := mX0_putFour) (d' := d - 1) (fun r => none) (fun r => r) (fun _ => τ) [vi a5] [] rfl (by decide +kernel) q316 q318 qs0 (Or.inl ⟨rfl, q319⟩) (show okN yX0_putFour 1 = true by decide +kernel) (fun H hR => hR.rv G.1 cd0 rfl h12) rfl rfl (by omega) rfl (fun Q' => ws_putFour_ok G (d - 1) (by omega) a0 a5 y11 Q') (fun y13 => ?_)
    refine sm_b (l' := [(0, vr (some a0)), (1, vi a1), (2, vi a2), (3, vi a3), (4, vi a4), (5, vi a5)]) (st' := [vi 1]) (pc' := 43) [(.iconst 1, vi 1, 43)] (by decide +kernel) rfl rfl ?_
    exact sm_zret rfl (by decide +kernel) (by decide) (fun h => hRET _ h)
  · refine sm_b (l' := [(0, vr (some a0)), (1, vi a1), (2, vi a2), (3, vi a3), (4, vi a4), (5, vi a5)]) (st' := [vi 0]) (pc' := 14) [(.iconst 0, vi 0, 14)] (by decide +kernel) rfl rfl ?_
    exact sm_zret rfl (by decide +kernel) (by decide) (fun h => hRET _ h)
  refine sm_icmp_le (off := 5) (tgt := 15) h2 (by decide) (by decide +kernel) (fun c17 => ?_) (fun c17 => ?_)
  · exact p15 c17
  · exact n16 c17
def ws_end (bb : Nat × Nat) (a0 : Nat) (a1 : Int) (σ : ST) : Option (Int × ST) := gd (rg a1) (gd (¬ (a1 < 0) → sc σ a0 = 1) (gd (¬ (a1 < 0) → rg (sI σ 2 a0)) (if (a1 < 0) ∨ (¬ (a1 ≤ (sI σ 2 a0))) then (some ((0, σ))) else (gd (sc σ a0 = 1) (Option.bind (sR σ 1 a0) fun p9 => gd (sc σ p9 = 101) (Option.bind (sR σ 0 a0) fun p12 => gd (sc σ p12 = 101) (gd (0 ≤ a1 ∧ a1 ≤ sN σ p9 ∧ a1 ≤ sN σ p12) (nm (pC σ p9 (sB σ p12) a1.toNat) fun σ16 => gd (sc σ16 a0 = 1) (nm (pI σ16 3 a0 a1) fun σ18 => gd (sc σ18 a0 = 1) (nm (pI σ18 2 a0 0) fun σ20 => some ((1, σ20))))))))))))
set_option maxHeartbeats 4000000 in
theorem ws_end_ok {g : GE} (G : GG g) {τ : TT} (d : Nat) (hd1 : 1 ≤ d) (a0 : Nat) (a1 : Int)  (σ : ST) (Q : VQ) : Sm (V g mX0_end d 0 [(0, vr (some a0)), (1, vi a1)] [] σ τ Q) (ws_end (gRm g) a0 a1 σ) (fun r => Q.1 (some (vi r.1)) r.2 τ) := by
  unfold ws_end
  refine sm_top (fun K hRET => ?_)
  refine sm_b (l' := [(0, vr (some a0)), (1, vi a1)]) (st' := [vi a1]) (pc' := 1) [(.iload_n 1, vi 0, 1)] (by decide +kernel) rfl rfl ?_
  refine sm_gd (fun h1 => ?_)
  refine sm_gd (fun h3 => ?_)
  refine sm_gd (fun h4 => ?_)
  refine sm_case (V g mX0_end d 12 [(0, vr (some a0)), (1, vi a1)] [] σ τ Q) (V g mX0_end d 14 [(0, vr (some a0)), (1, vi a1)] [] σ τ Q) ?_ ?_ (fun f21 p22 n23 => ?_)
  · refine sm_b (l' := [(0, vr (some a0)), (1, vi a1)]) (st' := [vi 0]) (pc' := 13) [(.iconst 0, vi 0, 13)] (by decide +kernel) rfl rfl ?_
    exact sm_zret rfl (by decide +kernel) (by decide) (fun h => hRET _ h)
  · refine sm_b (l' := [(0, vr (some a0)), (1, vi a1)]) (st' := [vr (some a0)]) (pc' := 15) [(.aload_n 0, vi 0, 15)] (by decide +kernel) rfl rfl ?_
    refine sm_gd (fun h8 => ?_)
    refine sm_g (k := 0) (x := vr (sR σ 0 a0)) cd0 rfl h8 rfl q290 rfl (by decide +kernel) ?_
    refine sm_b (l' := [(0, vr (some a0)), (1, vi a1)]) (st' := [vr (some a0), vi 0, vr (sR σ 0 a0)]) (pc' := 20) [(.iconst 0, vi 0, 19), (.aload_n 0, vi 0, 20)] (by decide +kernel) rfl rfl ?_
    refine sm_g (k := 1) (x := vr (sR σ 1 a0)) cd0 rfl h8 rfl q291 rfl (by decide +kernel) ?_
    refine sm_b (l' := [(0, vr (some a0)), (1, vi a1)]) (st' := [vi a1, vi 0, vr (sR σ 1 a0), vi 0, vr (sR σ 0 a0)]) (pc' := 25) [(.iconst 0, vi 0, 24), (.iload_n 1, vi 0, 25)] (by decide +kernel) rfl rfl ?_
    refine sm_de (fun p9 h10 => ?_)
    refine sm_st [vi a1, vi 0, vr (some p9), vi 0, vr (sR σ 0 a0)] (by rw [h10] <;> rfl) ?_
    refine sm_gd (fun h11 => ?_)
    refine sm_de (fun p12 h13 => ?_)
    refine sm_st [vi a1, vi 0, vr (some p9), vi 0, vr (some p12)] (by rw [h13] <;> rfl) ?_
    refine sm_gd (fun h14 => ?_)
    refine sm_gd (fun h15 => ?_)
    refine sm_cpA q324 h11 h14 h15 (by omega) rfl (by decide +kernel) ?_
    refine sm_nms (fun σ16 => ?_)
    refine sm_b (l' := [(0, vr (some a0)), (1, vi a1)]) (st' := [vi a1, vr (some a0)]) (pc' := 30) [(.aload_n 0, vi 0, 29), (.iload_n 1, vi 0, 30)] (by decide +kernel) rfl rfl ?_
    refine sm_gd (fun h17 => ?_)
    refine sm_p (k := 3) (x := vi a1) cd0 rfl h17 rfl q293 rfl (nar_i _) (fit_i _) rfl (at_pI σ16 3 a0 a1) (fp_3 σ16 a0 a1) (by decide +kernel) ?_
    refine sm_nms (fun σ18 => ?_)
    refine sm_b (l' := [(0, vr (some a0)), (1, vi a1)]) (st' := [vi 0, vr (some a0)]) (pc' := 35) [(.aload_n 0, vi 0, 34), (.iconst 0, vi 0, 35)] (by decide +kernel) rfl rfl ?_
    refine sm_gd (fun h19 => ?_)
    refine sm_p (k := 2) (x := vi 0) cd0 rfl h19 rfl q292 rfl (nar_i _) (fit_i _) rfl (at_pI σ18 2 a0 0) (fp_2 σ18 a0 0) (by decide +kernel) ?_
    refine sm_nms (fun σ20 => ?_)
    refine sm_b (l' := [(0, vr (some a0)), (1, vi a1)]) (st' := [vi 1]) (pc' := 39) [(.iconst 1, vi 1, 39)] (by decide +kernel) rfl rfl ?_
    exact sm_zret rfl (by decide +kernel) (by decide) (fun h => hRET _ h)
  refine sm_if_lt (off := 11) (tgt := 12) h1 (by decide +kernel) (fun c24 => ?_) (fun c24 => ?_)
  · exact p22 (Or.inl c24)
  · have w2 : ¬ (a1 < 0) := c24
    refine sm_b (l' := [(0, vr (some a0)), (1, vi a1)]) (st' := [vr (some a0), vi a1]) (pc' := 6) [(.iload_n 1, vi 0, 5), (.aload_n 0, vi 0, 6)] (by decide +kernel) rfl rfl ?_
    refine sm_g (k := 2) (x := vi (sI σ 2 a0)) cd0 rfl (h3 w2) rfl q292 rfl (by decide +kernel) ?_
    refine sm_icmp_le (off := 5) (tgt := 14) h1 (h4 w2) (by decide +kernel) (fun c25 => ?_) (fun c25 => ?_)
    · exact n23 (fun q => q.elim c24 (fun q => q c25))
    · exact p22 (Or.inr c25)
def sr_init (bb : Nat × Nat) (a0 : Nat) (a1 : Option Nat) (a2 : Int) (σ : ST) : Option (ST) := gd (rm bb σ 7) (nm (nO σ 2 7) fun σ2 => Option.bind (sch_init bb (sZ σ) σ2) fun y3 => gd (sc y3 a0 = 6) (nm (pR y3 86 a0 (some (sZ σ))) fun σ5 => gd (sc σ5 a0 = 6) (nm (pR σ5 80 a0 a1) fun σ7 => gd (sc σ7 a0 = 6) (nm (pI σ7 81 a0 a2) fun σ9 => some σ9))))
set_option maxHeartbeats 4000000 in
theorem sr_init_ok {g : GE} (G : GG g) {τ : TT} (d : Nat) (hd1 : 6 ≤ d) (a0 : Nat) (a1 : Option Nat) (a2 : Int)  (σ : ST) (Q : VQ) : Sm (V g mX5_init d 0 [(0, vr (some a0)), (1, vr a1), (2, vi a2)] [] σ τ Q) (sr_init (gRm g) a0 a1 a2 σ) (fun r => Q.1 none r τ) := by
  unfold sr_init
  refine sm_top (fun K hRET => ?_)
  refine sm_b (l' := [(0, vr (some a0)), (1, vr a1), (2, vi a2)]) (st' := [vr (some a0)]) (pc' := 1) [(.aload_n 0, vi 0, 1)] (by decide +kernel) rfl rfl ?_
  refine sm_obj q337 (by omega) rfl (by decide +kernel) ?_
  refine sm_b (l' := [(0, vr (some a0)), (1, vr a1), (2, vi a2)]) (st' := [vr (some a0)]) (pc' := 5) [(.aload_n 0, vi 0, 5)] (by decide +kernel) rfl rfl ?_
  refine sm_gd (fun h1 => ?_)
  refine sm_new cd1 rfl q338 q175 q132 (new_1 σ) h1 (by decide +kernel) ?_
  refine sm_nms (fun σ2 => ?_)
  refine sm_b (l' := [(0, vr (some a0)), (1, vr a1), (2, vi a2)]) (st' := [vr (some (sZ σ)), vr (some (sZ σ)), vr (some a0)]) (pc' := 9) [(.dup, vi 0, 9)] (by decide +kernel) rfl rfl ?_
  refine sm_ciN (N := mX1_init) (d' := d - 1) [] [vr (some (sZ σ)), vr (some a0)] rfl (by decide +kernel) q339 q177 rfl q178 rfl rfl (show okN yX1_init 0 = true by decide +kernel) rfl rfl (by omega) rfl (fun Q' => sch_init_ok G (d - 1) (by omega) (sZ σ) σ2 Q') (fun y3 => ?_)
  refine sm_gd (fun h4 => ?_)
  refine sm_pF (k := 6) (x := vr (some (sZ σ))) cd5 rfl h4 rfl q346 rfl rfl rfl (nar_r _ rfl) (fit_r _ rfl) rfl (at_pR y3 86 a0 (some (sZ σ))) (fp_86 y3 a0 (some (sZ σ))) (by decide +kernel) ?_
  refine sm_nms (fun σ5 => ?_)
  refine sm_b (l' := [(0, vr (some a0)), (1, vr a1), (2, vi a2)]) (st' := [vr a1, vr (some a0)]) (pc' := 17) [(.aload_n 0, vi 0, 16), (.aload_n 1, vi 0, 17)] (by decide +kernel) rfl rfl ?_
  refine sm_gd (fun h6 => ?_)
  refine sm_pF (k := 0) (x := vr a1) cd5 rfl h6 rfl q340 rfl rfl rfl (nar_r _ rfl) (fit_r _ rfl) rfl (at_pR σ5 80 a0 a1) (fp_80 σ5 a0 a1) (by decide +kernel) ?_
  refine sm_nms (fun σ7 => ?_)
  refine sm_b (l' := [(0, vr (some a0)), (1, vr a1), (2, vi a2)]) (st' := [vi a2, vr (some a0)]) (pc' := 22) [(.aload_n 0, vi 0, 21), (.iload_n 2, vi 0, 22)] (by decide +kernel) rfl rfl ?_
  refine sm_gd (fun h8 => ?_)
  refine sm_pF (k := 1) (x := vi a2) cd5 rfl h8 rfl q341 rfl rfl rfl (nar_i _) (fit_i _) rfl (at_pI σ7 81 a0 a2) (fp_81 σ7 a0 a2) (by decide +kernel) ?_
  refine sm_nms (fun σ9 => ?_)
  exact sm_vret rfl (by decide +kernel) (fun h => hRET _ h)
def sr_look (a0 : Nat) (a1 : Int) (σ : ST) : Option (Int) := gd (sc σ a0 = 6) (gd (rg a1) (gd (rg (sI σ 81 a0)) (if (sI σ 81 a0) ≤ a1 then (some (((-1)))) else (Option.bind (sR σ 80 a0) fun p10 => gd (sc σ p10 = 101) (gd (ib a1 (sN σ p10)) (some ((iAnd (sbI (sB σ p10 a1.toNat)) 255))))))))
set_option maxHeartbeats 4000000 in
theorem sr_look_ok {g : GE} (G : GG g) {τ : TT} (d : Nat) (hd1 : 0 ≤ d) (a0 : Nat) (a1 : Int)  (σ : ST) (Q : VQ) : Sm (V g mX5_look d 0 [(0, vr (some a0)), (1, vi a1)] [] σ τ Q) (sr_look a0 a1 σ) (fun r => Q.1 (some (vi r)) σ τ) := by
  unfold sr_look
  refine sm_top (fun K hRET => ?_)
  refine sm_b (l' := [(0, vr (some a0)), (1, vi a1)]) (st' := [vr (some a0), vi a1]) (pc' := 2) [(.iload_n 1, vi 0, 1), (.aload_n 0, vi 0, 2)] (by decide +kernel) rfl rfl ?_
  refine sm_gd (fun h1 => ?_)
  refine sm_g (k := 1) (x := vi (sI σ 81 a0)) cd5 rfl h1 rfl q341 rfl (by decide +kernel) ?_
  refine sm_gd (fun h2 => ?_)
  refine sm_gd (fun h3 => ?_)
  refine sm_case (V g mX5_look d 21 [(0, vr (some a0)), (1, vi a1)] [] σ τ Q) (V g mX5_look d 8 [(0, vr (some a0)), (1, vi a1)] [] σ τ Q) ?_ ?_ (fun f14 p15 n16 => ?_)
  · refine sm_b (l' := [(0, vr (some a0)), (1, vi a1)]) (st' := [vi ((-1))]) (pc' := 22) [(.iconst (-1), vi (-1), 22)] (by decide +kernel) rfl rfl ?_
    exact sm_iret rfl (by decide +kernel) (fun h => hRET _ h)
  · refine sm_b (l' := [(0, vr (some a0)), (1, vi a1)]) (st' := [vr (some a0)]) (pc' := 9) [(.aload_n 0, vi 0, 9)] (by decide +kernel) rfl rfl ?_
    refine sm_g (k := 0) (x := vr (sR σ 80 a0)) cd5 rfl h1 rfl q340 rfl (by decide +kernel) ?_
    refine sm_b (l' := [(0, vr (some a0)), (1, vi a1)]) (st' := [vi a1, vr (sR σ 80 a0)]) (pc' := 13) [(.iload_n 1, vi 0, 13)] (by decide +kernel) rfl rfl ?_
    refine sm_de (fun p10 h11 => ?_)
    refine sm_st [vi a1, vr (some p10)] (by rw [h11] <;> rfl) ?_
    refine sm_gd (fun h12 => ?_)
    refine sm_gd (fun h13 => ?_)
    refine sm_bl h12 h13 (by decide +kernel) ?_
    refine sm_b (l' := [(0, vr (some a0)), (1, vi a1)]) (st' := [vi (iAnd (sbI (sB σ p10 a1.toNat)) 255)]) (pc' := 22) [(.sipush 255, vi 255, 17), (.iand, vi 0, 18), (.goto 4, vi 0, 22)] (by decide +kernel) rfl rfl ?_
    exact sm_iret rfl (by decide +kernel) (fun h => hRET _ h)
  refine sm_icmp_ge (off := 16) (tgt := 21) h2 h3 (by decide +kernel) (fun c17 => ?_) (fun c17 => ?_)
  · exact p15 c17
  · exact n16 c17
def sr_isLetter (a1 : Int) : Option (Int) := gd (rg a1) (if (a1 < 97) ∨ (¬ (a1 ≤ 122)) then (if (a1 < 65) ∨ (90 < a1) then (some 0) else (some 1)) else (some 1))
set_option maxHeartbeats 4000000 in
theorem sr_isLetter_ok {g : GE} (G : GG g) {τ : TT} (d : Nat) (hd1 : 0 ≤ d) (a1 : Int)  (σ : ST) (Q : VQ) : Sm (V g mX5_isLetter d 0 [(0, vi a1)] [] σ τ Q) (sr_isLetter a1) (fun r => Q.1 (some (vi r)) σ τ) := by
  unfold sr_isLetter
  refine sm_top (fun K hRET => ?_)
  refine sm_b (l' := [(0, vi a1)]) (st' := [vi 97, vi a1]) (pc' := 3) [(.iload_n 0, vi 0, 1), (.bipush 97, vi 97, 3)] (by decide +kernel) rfl rfl ?_
  refine sm_gd (fun h1 => ?_)
  refine sm_case (V g mX5_isLetter d 12 [(0, vi a1)] [] σ τ Q) (V g mX5_isLetter d 24 [(0, vi a1)] [] σ τ Q) ?_ ?_ (fun f11 p12 n13 => ?_)
  · refine sm_b (l' := [(0, vi a1)]) (st' := [vi 65, vi a1]) (pc' := 15) [(.iload_n 0, vi 0, 13), (.bipush 65, vi 65, 15)] (by decide +kernel) rfl rfl ?_
    refine sm_case (V g mX5_isLetter d 28 [(0, vi a1)] [] σ τ Q) (V g mX5_isLetter d 24 [(0, vi a1)] [] σ τ Q) ?_ ?_ (fun f6 p7 n8 => ?_)
    · refine sm_b (l' := [(0, vi a1)]) (st' := [vi 0]) (pc' := 29) [(.iconst 0, vi 0, 29)] (by decide +kernel) rfl rfl ?_
      exact sm_zret rfl (by decide +kernel) (by decide) (fun h => hRET _ h)
    · refine sm_b (l' := [(0, vi a1)]) (st' := [vi 1]) (pc' := 29) [(.iconst 1, vi 1, 25), (.goto 4, vi 0, 29)] (by decide +kernel) rfl rfl ?_
      exact sm_zret rfl (by decide +kernel) (by decide) (fun h => hRET _ h)
    refine sm_icmp_lt (off := 13) (tgt := 28) h1 (by decide) (by decide +kernel) (fun c9 => ?_) (fun c9 => ?_)
    · exact p7 (Or.inl c9)
    · refine sm_b (l' := [(0, vi a1)]) (st' := [vi 90, vi a1]) (pc' := 21) [(.iload_n 0, vi 0, 19), (.bipush 90, vi 90, 21)] (by decide +kernel) rfl rfl ?_
      refine sm_icmp_gt (off := 7) (tgt := 28) h1 (by decide) (by decide +kernel) (fun c10 => ?_) (fun c10 => ?_)
      · exact p7 (Or.inr c10)
      · exact n8 (fun q => q.elim c9 c10)
  · refine sm_b (l' := [(0, vi a1)]) (st' := [vi 1]) (pc' := 29) [(.iconst 1, vi 1, 25), (.goto 4, vi 0, 29)] (by decide +kernel) rfl rfl ?_
    exact sm_zret rfl (by decide +kernel) (by decide) (fun h => hRET _ h)
  refine sm_icmp_lt (off := 9) (tgt := 12) h1 (by decide) (by decide +kernel) (fun c14 => ?_) (fun c14 => ?_)
  · exact p12 (Or.inl c14)
  · refine sm_b (l' := [(0, vi a1)]) (st' := [vi 122, vi a1]) (pc' := 9) [(.iload_n 0, vi 0, 7), (.bipush 122, vi 122, 9)] (by decide +kernel) rfl rfl ?_
    refine sm_icmp_le (off := 15) (tgt := 24) h1 (by decide) (by decide +kernel) (fun c15 => ?_) (fun c15 => ?_)
    · exact n13 (fun q => q.elim c14 (fun q => q c15))
    · exact p12 (Or.inr c15)
def sr_isDigit (a1 : Int) : Option (Int) := gd (rg a1) (if (a1 < 48) ∨ (57 < a1) then (some 0) else (some 1))
set_option maxHeartbeats 4000000 in
theorem sr_isDigit_ok {g : GE} (G : GG g) {τ : TT} (d : Nat) (hd1 : 0 ≤ d) (a1 : Int)  (σ : ST) (Q : VQ) : Sm (V g mX5_isDigit d 0 [(0, vi a1)] [] σ τ Q) (sr_isDigit a1) (fun r => Q.1 (some (vi r)) σ τ) := by
  unfold sr_isDigit
  refine sm_top (fun K hRET => ?_)
  refine sm_b (l' := [(0, vi a1)]) (st' := [vi 48, vi a1]) (pc' := 3) [(.iload_n 0, vi 0, 1), (.bipush 48, vi 48, 3)] (by decide +kernel) rfl rfl ?_
  refine sm_gd (fun h1 => ?_)
  refine sm_case (V g mX5_isDigit d 16 [(0, vi a1)] [] σ τ Q) (V g mX5_isDigit d 12 [(0, vi a1)] [] σ τ Q) ?_ ?_ (fun f5 p6 n7 => ?_)
  · refine sm_b (l' := [(0, vi a1)]) (st' := [vi 0]) (pc' := 17) [(.iconst 0, vi 0, 17)] (by decide +kernel) rfl rfl ?_
    exact sm_zret rfl (by decide +kernel) (by decide) (fun h => hRET _ h)
  · refine sm_b (l' := [(0, vi a1)]) (st' := [vi 1]) (pc' := 17) [(.iconst 1, vi 1, 13), (.goto 4, vi 0, 17)] (by decide +kernel) rfl rfl ?_
    exact sm_zret rfl (by decide +kernel) (by decide) (fun h => hRET _ h)
  refine sm_icmp_lt (off := 13) (tgt := 16) h1 (by decide) (by decide +kernel) (fun c8 => ?_) (fun c8 => ?_)
  · exact p6 (Or.inl c8)
  · refine sm_b (l' := [(0, vi a1)]) (st' := [vi 57, vi a1]) (pc' := 9) [(.iload_n 0, vi 0, 7), (.bipush 57, vi 57, 9)] (by decide +kernel) rfl rfl ?_
    refine sm_icmp_gt (off := 7) (tgt := 16) h1 (by decide) (by decide +kernel) (fun c9 => ?_) (fun c9 => ?_)
    · exact p6 (Or.inr c9)
    · exact n7 (fun q => q.elim c8 c9)
def sr_next_L167 (bb : Nat × Nat) (u0 : Nat) : Nat → ST → Option (ST)
  | 0, _ => none
  | n + 1, σ => gd (sc σ u0 = 6) (Option.bind (sr_look u0 (sI σ 82 u0) σ) fun y70 => Option.bind (sr_isDigit y70) fun y71 => gd (rg y71) (if y71 = 0 then (some σ) else (Option.bind (gd (rg ((sI σ 82 u0) - (sI σ 84 u0))) (if 9 ≤ ((sI σ 82 u0) - (sI σ 84 u0)) then (some σ) else (Option.bind (sr_look u0 (sI σ 82 u0) σ) fun y84 => nm (pI σ 85 u0 (((10 * (sI σ 85 u0)) + y84) - 48)) fun σ85 => some σ85))) fun (v78 : ST) => gd (sc v78 u0 = 6) (nm (pI v78 82 u0 ((sI v78 82 u0) + 1)) fun σ83 => sr_next_L167 bb u0 n σ83))))
def sr_next_L75 (bb : Nat × Nat) (u0 : Nat) : Nat → ST → Option (ST)
  | 0, _ => none
  | n + 1, σ => gd (sc σ u0 = 6) (Option.bind (sr_look u0 (sI σ 82 u0) σ) fun y117 => Option.bind (sr_isLetter y117) fun y118 => gd (rg y118) (gd (y118 = 0 → ok (sr_look u0 (sI σ 82 u0) σ)) (gd (y118 = 0 → ok (sr_isDigit (vv (sr_look u0 (sI σ 82 u0) σ)))) (gd (y118 = 0 → rg (vv (sr_isDigit (vv (sr_look u0 (sI σ 82 u0) σ))))) (gd ((y118 = 0) ∧ ((vv (sr_isDigit (vv (sr_look u0 (sI σ 82 u0) σ)))) = 0) → ok (sr_look u0 (sI σ 82 u0) σ)) (gd ((y118 = 0) ∧ ((vv (sr_isDigit (vv (sr_look u0 (sI σ 82 u0) σ)))) = 0) → rg (vv (sr_look u0 (sI σ 82 u0) σ))) (if ((y118 = 0) ∧ ((vv (sr_isDigit (vv (sr_look u0 (sI σ 82 u0) σ)))) = 0)) ∧ (¬ ((vv (sr_look u0 (sI σ 82 u0) σ)) = 95)) then (some σ) else (nm (pI σ 82 u0 ((sI σ 82 u0) + 1)) fun σ128 => sr_next_L75 bb u0 n σ128))))))))
def sr_next_L0 (bb : Nat × Nat) (u0 : Nat) : Nat → ST → Option (ST)
  | 0, _ => none
  | n + 1, σ => gd (sc σ u0 = 6) (Option.bind (sr_look u0 (sI σ 82 u0) σ) fun y146 => gd (rg y146) (gd (¬ (y146 = 32) → ok (sr_look u0 (sI σ 82 u0) σ)) (gd (¬ (y146 = 32) → rg (vv (sr_look u0 (sI σ 82 u0) σ))) (if (y146 = 32) ∨ ((vv (sr_look u0 (sI σ 82 u0) σ)) = 10) then (nm (pI σ 82 u0 ((sI σ 82 u0) + 1)) fun σ152 => sr_next_L0 bb u0 n σ152) else (some σ)))))
def sr_next (bb : Nat × Nat) (a0 : Nat) (σ : ST) : Option (ST) := Option.bind (sr_next_L0 bb a0 FU σ) fun (v1 : ST) => gd (sc v1 a0 = 6) (nm (pI v1 84 a0 (sI v1 82 a0)) fun σ6 => gd (sc σ6 a0 = 6) (Option.bind (sr_look a0 (sI σ6 82 a0) σ6) fun y8 => gd (rg y8) (if 0 ≤ y8 then (Option.bind (sr_isLetter y8) fun y14 => gd (rg y14) (if y14 = 0 then (Option.bind (sr_isDigit y8) fun y19 => gd (rg y19) (if y19 = 0 then (nm (pI σ6 82 a0 ((sI σ6 82 a0) + 1)) fun σ23 => gd (sc σ23 a0 = 6) (nm (pI σ23 85 a0 y8) fun σ25 => Option.bind (if ((((((y8 = 61) ∨ (y8 = 59)) ∨ (y8 = 123)) ∨ (y8 = 125)) ∨ (y8 = 46)) ∨ (y8 = 44)) ∨ (y8 = 34) then (some 3) else (some 4)) fun (v34 : Int) => gd (sc σ25 a0 = 6) (nm (pI σ25 83 a0 v34) fun σ39 => some σ39))) else (nm (pI σ6 85 a0 0) fun σ50 => Option.bind (sr_next_L167 bb a0 FU σ50) fun (v51 : ST) => gd (sc v51 a0 = 6) (Option.bind (gd (rg ((sI v51 82 a0) - (sI v51 84 a0))) (if ((sI v51 82 a0) - (sI v51 84 a0)) ≤ 9 then (some 2) else (some 4))) fun (v59 : Int) => nm (pI v51 83 a0 v59) fun σ63 => some σ63)))) else (Option.bind (sr_next_L75 bb a0 FU σ6) fun (v98 : ST) => gd (sc v98 a0 = 6) (Option.bind (gd (rg ((sI v98 82 a0) - (sI v98 84 a0))) (if ((sI v98 82 a0) - (sI v98 84 a0)) ≤ 24 then (some 1) else (some 4))) fun (v106 : Int) => nm (pI v98 83 a0 v106) fun σ110 => some σ110)))) else (nm (pI σ6 83 a0 0) fun σ139 => some σ139))))
set_option maxHeartbeats 4000000 in
theorem sr_next_L167_ok {g : GE} (G : GG g) {τ : TT} {Q : VQ} (d : Nat) (hd1 : 1 ≤ d) (u0 : Nat)  {K : ST → Prop} (hE231 : ∀ v68 : ST, K (v68) → V g mX5_next d 231 [(0, vr (some u0))] [] v68 τ Q) : ∀ (n : Nat) (σ : ST), Sm (V g mX5_next d 167 [(0, vr (some u0))] [] σ τ Q) (sr_next_L167 (gRm g) u0 n σ) K := by
  intro n
  induction n with
  | zero => intro σ; exact sm_none
  | succ n ih =>
    intro σ
    rw [sr_next_L167.eq_2]
    refine sm_b (l' := [(0, vr (some u0))]) (st' := [vr (some u0), vr (some u0)]) (pc' := 169) [(.aload_n 0, vi 0, 168), (.aload_n 0, vi 0, 169)] (by decide +kernel) rfl rfl ?_
    refine sm_gd (fun h69 => ?_)
    refine sm_g (k := 2) (x := vi (sI σ 82 u0)) cd5 rfl h69 rfl q342 rfl (by decide +kernel) ?_
    refine sm_cv (N := mX5_look) (d' := d - 1) (fun r => (some (vi r))) (fun _ => σ) (fun _ => τ) [vi (sI σ 82 u0)] [] rfl (by decide +kernel) q370 q372 qs2 (Or.inl ⟨rfl, q373⟩) (show okN yX5_look 1 = true by decide +kernel) (fun H hR => hR.rv G.1 cd5 rfl h69) rfl rfl (by omega) rfl (fun Q' => sr_look_ok G (d - 1) (by omega) u0 (sI σ 82 u0) σ Q') (fun y70 => ?_)
    refine sm_cs (N := mX5_isDigit) (d' := d - 1) (fun r => (some (vi r))) (fun _ => σ) (fun _ => τ) [vi y70] [] rfl (by decide +kernel) q377 q378 q140 (Or.inl ⟨rfl, q379⟩) (show okN yX5_isDigit 1 = true by decide +kernel) rfl rfl (by omega) rfl (fun Q' => sr_isDigit_ok G (d - 1) (by omega) y70 σ Q') (fun y71 => ?_)
    refine sm_gd (fun h72 => ?_)
    refine sm_case (V g mX5_next d 231 [(0, vr (some u0))] [] σ τ Q) (V g mX5_next d 181 [(0, vr (some u0))] [] σ τ Q) ?_ ?_ (fun f90 p91 n92 => ?_)
    · exact sm_leaf (fun h => hE231 _ h)
    · refine sm_b (l' := [(0, vr (some u0))]) (st' := [vr (some u0)]) (pc' := 182) [(.aload_n 0, vi 0, 182)] (by decide +kernel) rfl rfl ?_
      refine sm_g (k := 2) (x := vi (sI σ 82 u0)) cd5 rfl h69 rfl q342 rfl (by decide +kernel) ?_
      refine sm_b (l' := [(0, vr (some u0))]) (st' := [vr (some u0), vi (sI σ 82 u0)]) (pc' := 186) [(.aload_n 0, vi 0, 186)] (by decide +kernel) rfl rfl ?_
      refine sm_g (k := 4) (x := vi (sI σ 84 u0)) cd5 rfl h69 rfl q344 rfl (by decide +kernel) ?_
      refine sm_b (l' := [(0, vr (some u0))]) (st' := [vi 9, vi ((sI σ 82 u0) - (sI σ 84 u0))]) (pc' := 192) [(.isub, vi 0, 190), (.bipush 9, vi 9, 192)] (by decide +kernel) rfl rfl ?_
      refine sm_bind1 (fun (v78 : ST) => V g mX5_next d 218 [(0, vr (some u0))] [] v78 τ Q) (fun v78 => ?_) (fun K79 j80 => ?_)
      · refine sm_b (l' := [(0, vr (some u0))]) (st' := [vr (some u0), vr (some u0)]) (pc' := 220) [(.aload_n 0, vi 0, 219), (.dup, vi 0, 220)] (by decide +kernel) rfl rfl ?_
        refine sm_gd (fun h82 => ?_)
        refine sm_g (k := 2) (x := vi (sI v78 82 u0)) cd5 rfl h82 rfl q342 rfl (by decide +kernel) ?_
        refine sm_b (l' := [(0, vr (some u0))]) (st' := [vi ((sI v78 82 u0) + 1), vr (some u0)]) (pc' := 225) [(.iconst 1, vi 1, 224), (.iadd, vi 0, 225)] (by decide +kernel) rfl rfl ?_
        refine sm_p (k := 2) (x := vi ((sI v78 82 u0) + 1)) cd5 rfl h82 rfl q342 rfl (nar_i _) (fit_i _) rfl (at_pI v78 82 u0 ((sI v78 82 u0) + 1)) (fp_82 v78 u0 ((sI v78 82 u0) + 1)) (by decide +kernel) ?_
        refine sm_nms (fun σ83 => ?_)
        refine sm_b (l' := [(0, vr (some u0))]) (st' := []) (pc' := 167) [(.goto (-61), vi 0, 167)] (by decide +kernel) rfl rfl ?_
        exact ih σ83
      · refine sm_gd (fun h75 => ?_)
        refine sm_case (V g mX5_next d 218 [(0, vr (some u0))] [] σ τ Q) (V g mX5_next d 195 [(0, vr (some u0))] [] σ τ Q) ?_ ?_ (fun f86 p87 n88 => ?_)
        · exact sm_leaf (fun h => j80 _ h)
        · refine sm_b (l' := [(0, vr (some u0))]) (st' := [vr (some u0), vi 10, vr (some u0)]) (pc' := 199) [(.aload_n 0, vi 0, 196), (.bipush 10, vi 10, 198), (.aload_n 0, vi 0, 199)] (by decide +kernel) rfl rfl ?_
          refine sm_g (k := 5) (x := vi (sI σ 85 u0)) cd5 rfl h69 rfl q345 rfl (by decide +kernel) ?_
          refine sm_b (l' := [(0, vr (some u0))]) (st' := [vr (some u0), vr (some u0), vi (10 * (sI σ 85 u0)), vr (some u0)]) (pc' := 205) [(.imul, vi 0, 203), (.aload_n 0, vi 0, 204), (.aload_n 0, vi 0, 205)] (by decide +kernel) rfl rfl ?_
          refine sm_g (k := 2) (x := vi (sI σ 82 u0)) cd5 rfl h69 rfl q342 rfl (by decide +kernel) ?_
          refine sm_cv (N := mX5_look) (d' := d - 1) (fun r => (some (vi r))) (fun _ => σ) (fun _ => τ) [vi (sI σ 82 u0)] [vi (10 * (sI σ 85 u0)), vr (some u0)] rfl (by decide +kernel) q370 q372 qs2 (Or.inl ⟨rfl, q373⟩) (show okN yX5_look 1 = true by decide +kernel) (fun H hR => hR.rv G.1 cd5 rfl h69) rfl rfl (by omega) rfl (fun Q' => sr_look_ok G (d - 1) (by omega) u0 (sI σ 82 u0) σ Q') (fun y84 => ?_)
          refine sm_b (l' := [(0, vr (some u0))]) (st' := [vi (((10 * (sI σ 85 u0)) + y84) - 48), vr (some u0)]) (pc' := 215) [(.iadd, vi 0, 212), (.bipush 48, vi 48, 214), (.isub, vi 0, 215)] (by decide +kernel) rfl rfl ?_
          refine sm_p (k := 5) (x := vi (((10 * (sI σ 85 u0)) + y84) - 48)) cd5 rfl h69 rfl q345 rfl (nar_i _) (fit_i _) rfl (at_pI σ 85 u0 (((10 * (sI σ 85 u0)) + y84) - 48)) (fp_85 σ u0 (((10 * (sI σ 85 u0)) + y84) - 48)) (by decide +kernel) ?_
          refine sm_nms (fun σ85 => ?_)
          exact sm_leaf (fun h => j80 _ h)
        refine sm_icmp_ge (off := 26) (tgt := 218) h75 (by decide) (by decide +kernel) (fun c89 => ?_) (fun c89 => ?_)
        · exact p87 c89
        · exact n88 c89
    refine sm_if_eq (off := 53) (tgt := 231) h72 (by decide +kernel) (fun c93 => ?_) (fun c93 => ?_)
    · exact p91 c93
    · exact n92 c93
set_option maxHeartbeats 4000000 in
theorem sr_next_L75_ok {g : GE} (G : GG g) {τ : TT} {Q : VQ} (d : Nat) (hd1 : 1 ≤ d) (u0 : Nat)  {K : ST → Prop} (hE129 : ∀ v115 : ST, K (v115) → V g mX5_next d 129 [(0, vr (some u0))] [] v115 τ Q) : ∀ (n : Nat) (σ : ST), Sm (V g mX5_next d 75 [(0, vr (some u0))] [] σ τ Q) (sr_next_L75 (gRm g) u0 n σ) K := by
  intro n
  induction n with
  | zero => intro σ; exact sm_none
  | succ n ih =>
    intro σ
    rw [sr_next_L75.eq_2]
    refine sm_b (l' := [(0, vr (some u0))]) (st' := [vr (some u0), vr (some u0)]) (pc' := 77) [(.aload_n 0, vi 0, 76), (.aload_n 0, vi 0, 77)] (by decide +kernel) rfl rfl ?_
    refine sm_gd (fun h116 => ?_)
    refine sm_g (k := 2) (x := vi (sI σ 82 u0)) cd5 rfl h116 rfl q342 rfl (by decide +kernel) ?_
    refine sm_cv (N := mX5_look) (d' := d - 1) (fun r => (some (vi r))) (fun _ => σ) (fun _ => τ) [vi (sI σ 82 u0)] [] rfl (by decide +kernel) q370 q372 qs2 (Or.inl ⟨rfl, q373⟩) (show okN yX5_look 1 = true by decide +kernel) (fun H hR => hR.rv G.1 cd5 rfl h116) rfl rfl (by omega) rfl (fun Q' => sr_look_ok G (d - 1) (by omega) u0 (sI σ 82 u0) σ Q') (fun y117 => ?_)
    refine sm_cs (N := mX5_isLetter) (d' := d - 1) (fun r => (some (vi r))) (fun _ => σ) (fun _ => τ) [vi y117] [] rfl (by decide +kernel) q374 q375 q140 (Or.inl ⟨rfl, q376⟩) (show okN yX5_isLetter 1 = true by decide +kernel) rfl rfl (by omega) rfl (fun Q' => sr_isLetter_ok G (d - 1) (by omega) y117 σ Q') (fun y118 => ?_)
    refine sm_gd (fun h119 => ?_)
    refine sm_gd (fun h121 => ?_)
    refine sm_gd (fun h122 => ?_)
    refine sm_gd (fun h123 => ?_)
    refine sm_gd (fun h125 => ?_)
    refine sm_gd (fun h126 => ?_)
    refine sm_case (V g mX5_next d 129 [(0, vr (some u0))] [] σ τ Q) (V g mX5_next d 116 [(0, vr (some u0))] [] σ τ Q) ?_ ?_ (fun f129 p130 n131 => ?_)
    · exact sm_leaf (fun h => hE129 _ h)
    · refine sm_b (l' := [(0, vr (some u0))]) (st' := [vr (some u0), vr (some u0)]) (pc' := 118) [(.aload_n 0, vi 0, 117), (.dup, vi 0, 118)] (by decide +kernel) rfl rfl ?_
      refine sm_g (k := 2) (x := vi (sI σ 82 u0)) cd5 rfl h116 rfl q342 rfl (by decide +kernel) ?_
      refine sm_b (l' := [(0, vr (some u0))]) (st' := [vi ((sI σ 82 u0) + 1), vr (some u0)]) (pc' := 123) [(.iconst 1, vi 1, 122), (.iadd, vi 0, 123)] (by decide +kernel) rfl rfl ?_
      refine sm_p (k := 2) (x := vi ((sI σ 82 u0) + 1)) cd5 rfl h116 rfl q342 rfl (nar_i _) (fit_i _) rfl (at_pI σ 82 u0 ((sI σ 82 u0) + 1)) (fp_82 σ u0 ((sI σ 82 u0) + 1)) (by decide +kernel) ?_
      refine sm_nms (fun σ128 => ?_)
      refine sm_b (l' := [(0, vr (some u0))]) (st' := []) (pc' := 75) [(.goto (-51), vi 0, 75)] (by decide +kernel) rfl rfl ?_
      exact ih σ128
    refine sm_if_ne (off := 30) (tgt := 116) h119 (by decide +kernel) (fun c132 => ?_) (fun c132 => ?_)
    · exact n131 (fun q => (fun q => c132 q.1) q.1)
    · have w120 : y118 = 0 := c132
      refine sm_b (l' := [(0, vr (some u0))]) (st' := [vr (some u0), vr (some u0)]) (pc' := 91) [(.aload_n 0, vi 0, 90), (.aload_n 0, vi 0, 91)] (by decide +kernel) rfl rfl ?_
      refine sm_g (k := 2) (x := vi (sI σ 82 u0)) cd5 rfl h116 rfl q342 rfl (by decide +kernel) ?_
      refine sm_cvp (N := mX5_look) (d' := d - 1) (fun r => (some (vi r))) (some (vi (vv (sr_look u0 (sI σ 82 u0) σ)))) (h121 w120) (fun y h => by rw [vv_some h]) [vi (sI σ 82 u0)] [] rfl (by decide +kernel) q370 q372 qs2 (Or.inl ⟨rfl, q373⟩) (show okN yX5_look 1 = true by decide +kernel) (fun H hR => hR.rv G.1 cd5 rfl h116) rfl rfl (by omega) rfl (fun Q' => sr_look_ok G (d - 1) (by omega) u0 (sI σ 82 u0) σ Q') ?_
      refine sm_csp (N := mX5_isDigit) (d' := d - 1) (fun r => (some (vi r))) (some (vi (vv (sr_isDigit (vv (sr_look u0 (sI σ 82 u0) σ)))))) (h122 w120) (fun y h => by rw [vv_some h]) [vi (vv (sr_look u0 (sI σ 82 u0) σ))] [] rfl (by decide +kernel) q377 q378 q140 (Or.inl ⟨rfl, q379⟩) (show okN yX5_isDigit 1 = true by decide +kernel) rfl rfl (by omega) rfl (fun Q' => sr_isDigit_ok G (d - 1) (by omega) (vv (sr_look u0 (sI σ 82 u0) σ)) σ Q') ?_
      refine sm_if_ne (off := 16) (tgt := 116) (h123 w120) (by decide +kernel) (fun c133 => ?_) (fun c133 => ?_)
      · exact n131 (fun q => (fun q => c133 q.2) q.1)
      · have w124 : (y118 = 0) ∧ ((vv (sr_isDigit (vv (sr_look u0 (sI σ 82 u0) σ)))) = 0) := ⟨c132, c133⟩
        refine sm_b (l' := [(0, vr (some u0))]) (st' := [vr (some u0), vr (some u0)]) (pc' := 105) [(.aload_n 0, vi 0, 104), (.aload_n 0, vi 0, 105)] (by decide +kernel) rfl rfl ?_
        refine sm_g (k := 2) (x := vi (sI σ 82 u0)) cd5 rfl h116 rfl q342 rfl (by decide +kernel) ?_
        refine sm_cvp (N := mX5_look) (d' := d - 1) (fun r => (some (vi r))) (some (vi (vv (sr_look u0 (sI σ 82 u0) σ)))) (h125 w124) (fun y h => by rw [vv_some h]) [vi (sI σ 82 u0)] [] rfl (by decide +kernel) q370 q372 qs2 (Or.inl ⟨rfl, q373⟩) (show okN yX5_look 1 = true by decide +kernel) (fun H hR => hR.rv G.1 cd5 rfl h116) rfl rfl (by omega) rfl (fun Q' => sr_look_ok G (d - 1) (by omega) u0 (sI σ 82 u0) σ Q') ?_
        refine sm_b (l' := [(0, vr (some u0))]) (st' := [vi 95, vi (vv (sr_look u0 (sI σ 82 u0) σ))]) (pc' := 113) [(.bipush 95, vi 95, 113)] (by decide +kernel) rfl rfl ?_
        refine sm_icmp_ne (off := 16) (tgt := 129) (h126 w124) (by decide) (by decide +kernel) (fun c134 => ?_) (fun c134 => ?_)
        · exact p130 ⟨⟨c132, c133⟩, c134⟩
        · exact n131 (fun q => (fun q => q c134) q.2)
set_option maxHeartbeats 4000000 in
theorem sr_next_L0_ok {g : GE} (G : GG g) {τ : TT} {Q : VQ} (d : Nat) (hd1 : 1 ≤ d) (u0 : Nat)  {K : ST → Prop} (hE39 : ∀ v144 : ST, K (v144) → V g mX5_next d 39 [(0, vr (some u0))] [] v144 τ Q) : ∀ (n : Nat) (σ : ST), Sm (V g mX5_next d 0 [(0, vr (some u0))] [] σ τ Q) (sr_next_L0 (gRm g) u0 n σ) K := by
  intro n
  induction n with
  | zero => intro σ; exact sm_none
  | succ n ih =>
    intro σ
    rw [sr_next_L0.eq_2]
    refine sm_b (l' := [(0, vr (some u0))]) (st' := [vr (some u0), vr (some u0)]) (pc' := 2) [(.aload_n 0, vi 0, 1), (.aload_n 0, vi 0, 2)] (by decide +kernel) rfl rfl ?_
    refine sm_gd (fun h145 => ?_)
    refine sm_g (k := 2) (x := vi (sI σ 82 u0)) cd5 rfl h145 rfl q342 rfl (by decide +kernel) ?_
    refine sm_cv (N := mX5_look) (d' := d - 1) (fun r => (some (vi r))) (fun _ => σ) (fun _ => τ) [vi (sI σ 82 u0)] [] rfl (by decide +kernel) q370 q372 qs2 (Or.inl ⟨rfl, q373⟩) (show okN yX5_look 1 = true by decide +kernel) (fun H hR => hR.rv G.1 cd5 rfl h145) rfl rfl (by omega) rfl (fun Q' => sr_look_ok G (d - 1) (by omega) u0 (sI σ 82 u0) σ Q') (fun y146 => ?_)
    refine sm_b (l' := [(0, vr (some u0))]) (st' := [vi 32, vi y146]) (pc' := 10) [(.bipush 32, vi 32, 10)] (by decide +kernel) rfl rfl ?_
    refine sm_gd (fun h147 => ?_)
    refine sm_gd (fun h149 => ?_)
    refine sm_gd (fun h150 => ?_)
    refine sm_case (V g mX5_next d 26 [(0, vr (some u0))] [] σ τ Q) (V g mX5_next d 39 [(0, vr (some u0))] [] σ τ Q) ?_ ?_ (fun f153 p154 n155 => ?_)
    · refine sm_b (l' := [(0, vr (some u0))]) (st' := [vr (some u0), vr (some u0)]) (pc' := 28) [(.aload_n 0, vi 0, 27), (.dup, vi 0, 28)] (by decide +kernel) rfl rfl ?_
      refine sm_g (k := 2) (x := vi (sI σ 82 u0)) cd5 rfl h145 rfl q342 rfl (by decide +kernel) ?_
      refine sm_b (l' := [(0, vr (some u0))]) (st' := [vi ((sI σ 82 u0) + 1), vr (some u0)]) (pc' := 33) [(.iconst 1, vi 1, 32), (.iadd, vi 0, 33)] (by decide +kernel) rfl rfl ?_
      refine sm_p (k := 2) (x := vi ((sI σ 82 u0) + 1)) cd5 rfl h145 rfl q342 rfl (nar_i _) (fit_i _) rfl (at_pI σ 82 u0 ((sI σ 82 u0) + 1)) (fp_82 σ u0 ((sI σ 82 u0) + 1)) (by decide +kernel) ?_
      refine sm_nms (fun σ152 => ?_)
      refine sm_b (l' := [(0, vr (some u0))]) (st' := []) (pc' := 0) [(.goto (-36), vi 0, 0)] (by decide +kernel) rfl rfl ?_
      exact ih σ152
    · exact sm_leaf (fun h => hE39 _ h)
    refine sm_icmp_eq (off := 16) (tgt := 26) h147 (by decide) (by decide +kernel) (fun c156 => ?_) (fun c156 => ?_)
    · exact p154 (Or.inl c156)
    · have w148 : ¬ (y146 = 32) := c156
      refine sm_b (l' := [(0, vr (some u0))]) (st' := [vr (some u0), vr (some u0)]) (pc' := 15) [(.aload_n 0, vi 0, 14), (.aload_n 0, vi 0, 15)] (by decide +kernel) rfl rfl ?_
      refine sm_g (k := 2) (x := vi (sI σ 82 u0)) cd5 rfl h145 rfl q342 rfl (by decide +kernel) ?_
      refine sm_cvp (N := mX5_look) (d' := d - 1) (fun r => (some (vi r))) (some (vi (vv (sr_look u0 (sI σ 82 u0) σ)))) (h149 w148) (fun y h => by rw [vv_some h]) [vi (sI σ 82 u0)] [] rfl (by decide +kernel) q370 q372 qs2 (Or.inl ⟨rfl, q373⟩) (show okN yX5_look 1 = true by decide +kernel) (fun H hR => hR.rv G.1 cd5 rfl h145) rfl rfl (by omega) rfl (fun Q' => sr_look_ok G (d - 1) (by omega) u0 (sI σ 82 u0) σ Q') ?_
      refine sm_b (l' := [(0, vr (some u0))]) (st' := [vi 10, vi (vv (sr_look u0 (sI σ 82 u0) σ))]) (pc' := 23) [(.bipush 10, vi 10, 23)] (by decide +kernel) rfl rfl ?_
      refine sm_icmp_ne (off := 16) (tgt := 39) (h150 w148) (by decide) (by decide +kernel) (fun c157 => ?_) (fun c157 => ?_)
      · exact n155 (fun q => q.elim c156 c157)
      · exact p154 (Or.inr c157)
set_option maxHeartbeats 4000000 in
theorem sr_next_ok {g : GE} (G : GG g) {τ : TT} (d : Nat) (hd1 : 1 ≤ d) (a0 : Nat)  (σ : ST) (Q : VQ) : Sm (V g mX5_next d 0 [(0, vr (some a0))] [] σ τ Q) (sr_next (gRm g) a0 σ) (fun r => Q.1 none r τ) := by
  unfold sr_next
  refine sm_top (fun K hRET => ?_)
  refine sm_bind1 (fun (v1 : ST) => V g mX5_next d 39 [(0, vr (some a0))] [] v1 τ Q) (fun v1 => ?_) (fun K2 j3 => ?_)
  · refine sm_b (l' := [(0, vr (some a0))]) (st' := [vr (some a0), vr (some a0)]) (pc' := 41) [(.aload_n 0, vi 0, 40), (.aload_n 0, vi 0, 41)] (by decide +kernel) rfl rfl ?_
    refine sm_gd (fun h5 => ?_)
    refine sm_g (k := 2) (x := vi (sI v1 82 a0)) cd5 rfl h5 rfl q342 rfl (by decide +kernel) ?_
    refine sm_p (k := 4) (x := vi (sI v1 82 a0)) cd5 rfl h5 rfl q344 rfl (nar_i _) (fit_i _) rfl (at_pI v1 84 a0 (sI v1 82 a0)) (fp_84 v1 a0 (sI v1 82 a0)) (by decide +kernel) ?_
    refine sm_nms (fun σ6 => ?_)
    refine sm_b (l' := [(0, vr (some a0))]) (st' := [vr (some a0), vr (some a0)]) (pc' := 49) [(.aload_n 0, vi 0, 48), (.aload_n 0, vi 0, 49)] (by decide +kernel) rfl rfl ?_
    refine sm_gd (fun h7 => ?_)
    refine sm_g (k := 2) (x := vi (sI σ6 82 a0)) cd5 rfl h7 rfl q342 rfl (by decide +kernel) ?_
    refine sm_cv (N := mX5_look) (d' := d - 1) (fun r => (some (vi r))) (fun _ => σ6) (fun _ => τ) [vi (sI σ6 82 a0)] [] rfl (by decide +kernel) q370 q372 qs2 (Or.inl ⟨rfl, q373⟩) (show okN yX5_look 1 = true by decide +kernel) (fun H hR => hR.rv G.1 cd5 rfl h7) rfl rfl (by omega) rfl (fun Q' => sr_look_ok G (d - 1) (by omega) a0 (sI σ6 82 a0) σ6 Q') (fun y8 => ?_)
    refine sm_b (l' := [(0, vr (some a0)), (1, vi y8)]) (st' := [vi y8]) (pc' := 57) [(.istore_n 1, vi 0, 56), (.iload_n 1, vi 0, 57)] (by decide +kernel) rfl rfl ?_
    refine sm_gd (fun h9 => ?_)
    refine sm_case (V g mX5_next d 68 [(0, vr (some a0)), (1, vi y8)] [] σ6 τ Q) (V g mX5_next d 60 [(0, vr (some a0)), (1, vi y8)] [] σ6 τ Q) ?_ ?_ (fun f140 p141 n142 => ?_)
    · refine sm_b (l' := [(0, vr (some a0)), (1, vi y8)]) (st' := [vi y8]) (pc' := 69) [(.iload_n 1, vi 0, 69)] (by decide +kernel) rfl rfl ?_
      refine sm_cs (N := mX5_isLetter) (d' := d - 1) (fun r => (some (vi r))) (fun _ => σ6) (fun _ => τ) [vi y8] [] rfl (by decide +kernel) q374 q375 q140 (Or.inl ⟨rfl, q376⟩) (show okN yX5_isLetter 1 = true by decide +kernel) rfl rfl (by omega) rfl (fun Q' => sr_isLetter_ok G (d - 1) (by omega) y8 σ6 Q') (fun y14 => ?_)
      refine sm_gd (fun h15 => ?_)
      refine sm_case (V g mX5_next d 155 [(0, vr (some a0)), (1, vi y8)] [] σ6 τ Q) (V g mX5_next d 75 [(0, vr (some a0)), (1, vi y8)] [] σ6 τ Q) ?_ ?_ (fun f135 p136 n137 => ?_)
      · refine sm_b (l' := [(0, vr (some a0)), (1, vi y8)]) (st' := [vi y8]) (pc' := 156) [(.iload_n 1, vi 0, 156)] (by decide +kernel) rfl rfl ?_
        refine sm_cs (N := mX5_isDigit) (d' := d - 1) (fun r => (some (vi r))) (fun _ => σ6) (fun _ => τ) [vi y8] [] rfl (by decide +kernel) q377 q378 q140 (Or.inl ⟨rfl, q379⟩) (show okN yX5_isDigit 1 = true by decide +kernel) rfl rfl (by omega) rfl (fun Q' => sr_isDigit_ok G (d - 1) (by omega) y8 σ6 Q') (fun y19 => ?_)
        refine sm_gd (fun h20 => ?_)
        refine sm_case (V g mX5_next d 257 [(0, vr (some a0)), (1, vi y8)] [] σ6 τ Q) (V g mX5_next d 162 [(0, vr (some a0)), (1, vi y8)] [] σ6 τ Q) ?_ ?_ (fun f94 p95 n96 => ?_)
        · refine sm_b (l' := [(0, vr (some a0)), (1, vi y8)]) (st' := [vr (some a0), vr (some a0)]) (pc' := 259) [(.aload_n 0, vi 0, 258), (.dup, vi 0, 259)] (by decide +kernel) rfl rfl ?_
          refine sm_g (k := 2) (x := vi (sI σ6 82 a0)) cd5 rfl h7 rfl q342 rfl (by decide +kernel) ?_
          refine sm_b (l' := [(0, vr (some a0)), (1, vi y8)]) (st' := [vi ((sI σ6 82 a0) + 1), vr (some a0)]) (pc' := 264) [(.iconst 1, vi 1, 263), (.iadd, vi 0, 264)] (by decide +kernel) rfl rfl ?_
          refine sm_p (k := 2) (x := vi ((sI σ6 82 a0) + 1)) cd5 rfl h7 rfl q342 rfl (nar_i _) (fit_i _) rfl (at_pI σ6 82 a0 ((sI σ6 82 a0) + 1)) (fp_82 σ6 a0 ((sI σ6 82 a0) + 1)) (by decide +kernel) ?_
          refine sm_nms (fun σ23 => ?_)
          refine sm_b (l' := [(0, vr (some a0)), (1, vi y8)]) (st' := [vi y8, vr (some a0)]) (pc' := 269) [(.aload_n 0, vi 0, 268), (.iload_n 1, vi 0, 269)] (by decide +kernel) rfl rfl ?_
          refine sm_gd (fun h24 => ?_)
          refine sm_p (k := 5) (x := vi y8) cd5 rfl h24 rfl q345 rfl (nar_i _) (fit_i _) rfl (at_pI σ23 85 a0 y8) (fp_85 σ23 a0 y8) (by decide +kernel) ?_
          refine sm_nms (fun σ25 => ?_)
          refine sm_b (l' := [(0, vr (some a0)), (1, vi y8)]) (st' := [vi 61, vi y8, vr (some a0)]) (pc' := 276) [(.aload_n 0, vi 0, 273), (.iload_n 1, vi 0, 274), (.bipush 61, vi 61, 276)] (by decide +kernel) rfl rfl ?_
          refine sm_bind1 (fun (v34 : Int) => V g mX5_next d 320 [] [vi v34, vr (some a0)] σ25 τ Q) (fun v34 => ?_) (fun K35 j36 => ?_)
          · refine sm_gd (fun h38 => ?_)
            refine sm_p (k := 3) (x := vi v34) cd5 rfl h38 rfl q343 rfl (nar_i _) (fit_i _) rfl (at_pI σ25 83 a0 v34) (fp_83 σ25 a0 v34) (by decide +kernel) ?_
            refine sm_nms (fun σ39 => ?_)
            exact sm_vret rfl (by decide +kernel) (fun h => hRET _ h)
          · refine sm_case (V g mX5_next d 315 [(0, vr (some a0)), (1, vi y8)] [vr (some a0)] σ25 τ Q) (V g mX5_next d 319 [(0, vr (some a0)), (1, vi y8)] [vr (some a0)] σ25 τ Q) ?_ ?_ (fun f40 p41 n42 => ?_)
            · refine sm_b (l' := [(0, vr (some a0)), (1, vi y8)]) (st' := [vi 3, vr (some a0)]) (pc' := 320) [(.iconst 3, vi 3, 316), (.goto 4, vi 0, 320)] (by decide +kernel) rfl rfl ?_
              refine sm_pick [] (l' := []) rfl ?_
              exact sm_leaf (fun h => j36 _ h)
            · refine sm_b (l' := [(0, vr (some a0)), (1, vi y8)]) (st' := [vi 4, vr (some a0)]) (pc' := 320) [(.iconst 4, vi 4, 320)] (by decide +kernel) rfl rfl ?_
              refine sm_pick [] (l' := []) rfl ?_
              exact sm_leaf (fun h => j36 _ h)
            refine sm_icmp_eq (off := 39) (tgt := 315) h9 (by decide) (by decide +kernel) (fun c43 => ?_) (fun c43 => ?_)
            · exact p41 (Or.inl (Or.inl (Or.inl (Or.inl (Or.inl (Or.inl c43))))))
            · refine sm_b (l' := [(0, vr (some a0)), (1, vi y8)]) (st' := [vi 59, vi y8, vr (some a0)]) (pc' := 282) [(.iload_n 1, vi 0, 280), (.bipush 59, vi 59, 282)] (by decide +kernel) rfl rfl ?_
              refine sm_icmp_eq (off := 33) (tgt := 315) h9 (by decide) (by decide +kernel) (fun c44 => ?_) (fun c44 => ?_)
              · exact p41 (Or.inl (Or.inl (Or.inl (Or.inl (Or.inl (Or.inr c44))))))
              · refine sm_b (l' := [(0, vr (some a0)), (1, vi y8)]) (st' := [vi 123, vi y8, vr (some a0)]) (pc' := 288) [(.iload_n 1, vi 0, 286), (.bipush 123, vi 123, 288)] (by decide +kernel) rfl rfl ?_
                refine sm_icmp_eq (off := 27) (tgt := 315) h9 (by decide) (by decide +kernel) (fun c45 => ?_) (fun c45 => ?_)
                · exact p41 (Or.inl (Or.inl (Or.inl (Or.inl (Or.inr c45)))))
                · refine sm_b (l' := [(0, vr (some a0)), (1, vi y8)]) (st' := [vi 125, vi y8, vr (some a0)]) (pc' := 294) [(.iload_n 1, vi 0, 292), (.bipush 125, vi 125, 294)] (by decide +kernel) rfl rfl ?_
                  refine sm_icmp_eq (off := 21) (tgt := 315) h9 (by decide) (by decide +kernel) (fun c46 => ?_) (fun c46 => ?_)
                  · exact p41 (Or.inl (Or.inl (Or.inl (Or.inr c46))))
                  · refine sm_b (l' := [(0, vr (some a0)), (1, vi y8)]) (st' := [vi 46, vi y8, vr (some a0)]) (pc' := 300) [(.iload_n 1, vi 0, 298), (.bipush 46, vi 46, 300)] (by decide +kernel) rfl rfl ?_
                    refine sm_icmp_eq (off := 15) (tgt := 315) h9 (by decide) (by decide +kernel) (fun c47 => ?_) (fun c47 => ?_)
                    · exact p41 (Or.inl (Or.inl (Or.inr c47)))
                    · refine sm_b (l' := [(0, vr (some a0)), (1, vi y8)]) (st' := [vi 44, vi y8, vr (some a0)]) (pc' := 306) [(.iload_n 1, vi 0, 304), (.bipush 44, vi 44, 306)] (by decide +kernel) rfl rfl ?_
                      refine sm_icmp_eq (off := 9) (tgt := 315) h9 (by decide) (by decide +kernel) (fun c48 => ?_) (fun c48 => ?_)
                      · exact p41 (Or.inl (Or.inr c48))
                      · refine sm_b (l' := [(0, vr (some a0)), (1, vi y8)]) (st' := [vi 34, vi y8, vr (some a0)]) (pc' := 312) [(.iload_n 1, vi 0, 310), (.bipush 34, vi 34, 312)] (by decide +kernel) rfl rfl ?_
                        refine sm_icmp_ne (off := 7) (tgt := 319) h9 (by decide) (by decide +kernel) (fun c49 => ?_) (fun c49 => ?_)
                        · exact n42 (fun q => q.elim (fun q => q.elim (fun q => q.elim (fun q => q.elim (fun q => q.elim (fun q => q.elim c43 c44) c45) c46) c47) c48) c49)
                        · exact p41 (Or.inr c49)
        · refine sm_b (l' := [(0, vr (some a0)), (1, vi y8)]) (st' := [vi 0, vr (some a0)]) (pc' := 164) [(.aload_n 0, vi 0, 163), (.iconst 0, vi 0, 164)] (by decide +kernel) rfl rfl ?_
          refine sm_p (k := 5) (x := vi 0) cd5 rfl h7 rfl q345 rfl (nar_i _) (fit_i _) rfl (at_pI σ6 85 a0 0) (fp_85 σ6 a0 0) (by decide +kernel) ?_
          refine sm_nms (fun σ50 => ?_)
          refine sm_bind1 (fun (v51 : ST) => V g mX5_next d 231 [(0, vr (some a0))] [] v51 τ Q) (fun v51 => ?_) (fun K52 j53 => ?_)
          · refine sm_b (l' := [(0, vr (some a0))]) (st' := [vr (some a0), vr (some a0)]) (pc' := 233) [(.aload_n 0, vi 0, 232), (.aload_n 0, vi 0, 233)] (by decide +kernel) rfl rfl ?_
            refine sm_gd (fun h55 => ?_)
            refine sm_g (k := 2) (x := vi (sI v51 82 a0)) cd5 rfl h55 rfl q342 rfl (by decide +kernel) ?_
            refine sm_b (l' := [(0, vr (some a0))]) (st' := [vr (some a0), vi (sI v51 82 a0), vr (some a0)]) (pc' := 237) [(.aload_n 0, vi 0, 237)] (by decide +kernel) rfl rfl ?_
            refine sm_g (k := 4) (x := vi (sI v51 84 a0)) cd5 rfl h55 rfl q344 rfl (by decide +kernel) ?_
            refine sm_b (l' := [(0, vr (some a0))]) (st' := [vi 9, vi ((sI v51 82 a0) - (sI v51 84 a0)), vr (some a0)]) (pc' := 243) [(.isub, vi 0, 241), (.bipush 9, vi 9, 243)] (by decide +kernel) rfl rfl ?_
            refine sm_bind1 (fun (v59 : Int) => V g mX5_next d 251 [] [vi v59, vr (some a0)] v51 τ Q) (fun v59 => ?_) (fun K60 j61 => ?_)
            · refine sm_p (k := 3) (x := vi v59) cd5 rfl h55 rfl q343 rfl (nar_i _) (fit_i _) rfl (at_pI v51 83 a0 v59) (fp_83 v51 a0 v59) (by decide +kernel) ?_
              refine sm_nms (fun σ63 => ?_)
              refine sm_b (l' := []) (st' := []) (pc' := 323) [(.goto 69, vi 0, 323)] (by decide +kernel) rfl rfl ?_
              exact sm_vret rfl (by decide +kernel) (fun h => hRET _ h)
            · refine sm_gd (fun h56 => ?_)
              refine sm_case (V g mX5_next d 250 [(0, vr (some a0))] [vr (some a0)] v51 τ Q) (V g mX5_next d 246 [(0, vr (some a0))] [vr (some a0)] v51 τ Q) ?_ ?_ (fun f64 p65 n66 => ?_)
              · refine sm_b (l' := [(0, vr (some a0))]) (st' := [vi 2, vr (some a0)]) (pc' := 251) [(.iconst 2, vi 2, 251)] (by decide +kernel) rfl rfl ?_
                refine sm_pick [] (l' := []) rfl ?_
                exact sm_leaf (fun h => j61 _ h)
              · refine sm_b (l' := [(0, vr (some a0))]) (st' := [vi 4, vr (some a0)]) (pc' := 251) [(.iconst 4, vi 4, 247), (.goto 4, vi 0, 251)] (by decide +kernel) rfl rfl ?_
                refine sm_pick [] (l' := []) rfl ?_
                exact sm_leaf (fun h => j61 _ h)
              refine sm_icmp_le (off := 7) (tgt := 250) h56 (by decide) (by decide +kernel) (fun c67 => ?_) (fun c67 => ?_)
              · exact p65 c67
              · exact n66 c67
          · refine sm_pick [0] (l' := [(0, vr (some a0))]) rfl ?_
            exact sr_next_L167_ok G d hd1 a0  (fun _ h => j53 _ h) FU σ50
        refine sm_if_eq (off := 98) (tgt := 257) h20 (by decide +kernel) (fun c97 => ?_) (fun c97 => ?_)
        · exact p95 c97
        · exact n96 c97
      · refine sm_bind1 (fun (v98 : ST) => V g mX5_next d 129 [(0, vr (some a0))] [] v98 τ Q) (fun v98 => ?_) (fun K99 j100 => ?_)
        · refine sm_b (l' := [(0, vr (some a0))]) (st' := [vr (some a0), vr (some a0)]) (pc' := 131) [(.aload_n 0, vi 0, 130), (.aload_n 0, vi 0, 131)] (by decide +kernel) rfl rfl ?_
          refine sm_gd (fun h102 => ?_)
          refine sm_g (k := 2) (x := vi (sI v98 82 a0)) cd5 rfl h102 rfl q342 rfl (by decide +kernel) ?_
          refine sm_b (l' := [(0, vr (some a0))]) (st' := [vr (some a0), vi (sI v98 82 a0), vr (some a0)]) (pc' := 135) [(.aload_n 0, vi 0, 135)] (by decide +kernel) rfl rfl ?_
          refine sm_g (k := 4) (x := vi (sI v98 84 a0)) cd5 rfl h102 rfl q344 rfl (by decide +kernel) ?_
          refine sm_b (l' := [(0, vr (some a0))]) (st' := [vi 24, vi ((sI v98 82 a0) - (sI v98 84 a0)), vr (some a0)]) (pc' := 141) [(.isub, vi 0, 139), (.bipush 24, vi 24, 141)] (by decide +kernel) rfl rfl ?_
          refine sm_bind1 (fun (v106 : Int) => V g mX5_next d 149 [] [vi v106, vr (some a0)] v98 τ Q) (fun v106 => ?_) (fun K107 j108 => ?_)
          · refine sm_p (k := 3) (x := vi v106) cd5 rfl h102 rfl q343 rfl (nar_i _) (fit_i _) rfl (at_pI v98 83 a0 v106) (fp_83 v98 a0 v106) (by decide +kernel) ?_
            refine sm_nms (fun σ110 => ?_)
            refine sm_b (l' := []) (st' := []) (pc' := 323) [(.goto 171, vi 0, 323)] (by decide +kernel) rfl rfl ?_
            exact sm_vret rfl (by decide +kernel) (fun h => hRET _ h)
          · refine sm_gd (fun h103 => ?_)
            refine sm_case (V g mX5_next d 148 [(0, vr (some a0))] [vr (some a0)] v98 τ Q) (V g mX5_next d 144 [(0, vr (some a0))] [vr (some a0)] v98 τ Q) ?_ ?_ (fun f111 p112 n113 => ?_)
            · refine sm_b (l' := [(0, vr (some a0))]) (st' := [vi 1, vr (some a0)]) (pc' := 149) [(.iconst 1, vi 1, 149)] (by decide +kernel) rfl rfl ?_
              refine sm_pick [] (l' := []) rfl ?_
              exact sm_leaf (fun h => j108 _ h)
            · refine sm_b (l' := [(0, vr (some a0))]) (st' := [vi 4, vr (some a0)]) (pc' := 149) [(.iconst 4, vi 4, 145), (.goto 4, vi 0, 149)] (by decide +kernel) rfl rfl ?_
              refine sm_pick [] (l' := []) rfl ?_
              exact sm_leaf (fun h => j108 _ h)
            refine sm_icmp_le (off := 7) (tgt := 148) h103 (by decide) (by decide +kernel) (fun c114 => ?_) (fun c114 => ?_)
            · exact p112 c114
            · exact n113 c114
        · refine sm_pick [0] (l' := [(0, vr (some a0))]) rfl ?_
          exact sr_next_L75_ok G d hd1 a0  (fun _ h => j100 _ h) FU σ6
      refine sm_if_eq (off := 83) (tgt := 155) h15 (by decide +kernel) (fun c138 => ?_) (fun c138 => ?_)
      · exact p136 c138
      · exact n137 c138
    · refine sm_b (l' := [(0, vr (some a0)), (1, vi y8)]) (st' := [vi 0, vr (some a0)]) (pc' := 62) [(.aload_n 0, vi 0, 61), (.iconst 0, vi 0, 62)] (by decide +kernel) rfl rfl ?_
      refine sm_p (k := 3) (x := vi 0) cd5 rfl h7 rfl q343 rfl (nar_i _) (fit_i _) rfl (at_pI σ6 83 a0 0) (fp_83 σ6 a0 0) (by decide +kernel) ?_
      refine sm_nms (fun σ139 => ?_)
      refine sm_b (l' := [(0, vr (some a0)), (1, vi y8)]) (st' := []) (pc' := 323) [(.goto 258, vi 0, 323)] (by decide +kernel) rfl rfl ?_
      exact sm_vret rfl (by decide +kernel) (fun h => hRET _ h)
    refine sm_if_ge (off := 11) (tgt := 68) h9 (by decide +kernel) (fun c143 => ?_) (fun c143 => ?_)
    · exact p141 c143
    · exact n142 c143
  · exact sr_next_L0_ok G d hd1 a0  (fun _ h => j3 _ h) FU σ
