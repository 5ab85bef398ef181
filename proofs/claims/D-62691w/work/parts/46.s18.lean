set_option maxRecDepth 100000
/-! the system: X0_toWire, X0_turn, X0_output -/
def ws_toWire (bb : Nat × Nat) (a0 : Nat) (a1 : Int) (σ : ST) : Option (Int × ST) := gd (sc σ a0 = 1) (Option.bind (ws_isMessage a0 a1 σ) fun y2 => Option.bind (gd (rg y2) (if y2 = 0 then (some ((none, σ))) else (Option.bind (sR σ 4 a0) fun p22 => gd (sc σ p22 = 2) (Option.bind (sR σ 17 p22) fun p25 => gd (sc σ p25 = 16) (Option.bind (l_get p25 a1 σ) fun y28 => Option.bind y28 fun p29 => gd (sc σ p29 = 7) (Option.bind (ws_wire bb a0 (some p29) σ) fun y32 => some ((y32.1, y32.2)))))))) fun (v16 : Option Nat × ST) => gd (sc v16.2 a0 = 1) (Option.bind (ws_tell bb a0 v16.1 2147483647 v16.2) fun y21 => some ((y21.1, y21.2))))
set_option maxHeartbeats 4000000 in
theorem ws_toWire_ok {g : GE} (G : GG g) {τ : TT} (d : Nat) (hd1 : 65 ≤ d) (a0 : Nat) (a1 : Int)  (σ : ST) (Q : VQ) : Sm (V g mX0_toWire d 0 [(0, vr (some a0)), (1, vi a1)] [] σ τ Q) (ws_toWire (gRm g) a0 a1 σ) (fun r => Q.1 (some (vi r.1)) r.2 τ) := by
  unfold ws_toWire
  refine sm_top (fun K hRET => ?_)
  refine sm_b (l' := [(0, vr (some a0)), (1, vi a1)]) (st' := [vi a1, vr (some a0), vr (some a0)]) (pc' := 3) [(.aload_n 0, vi 0, 1), (.aload_n 0, vi 0, 2), (.iload_n 1, vi 0, 3)] (by decide +kernel) rfl rfl ?_
  refine sm_gd (fun h1 => ?_)
  refine sm_cv (N := mX0_isMessage) (d' := d - 1) (fun r => (some (vi r))) (fun _ => σ) (fun _ => τ) [vi a1] [vr (some a0)] rfl (by decide +kernel) q930 q932 qs22 (Or.inl ⟨rfl, q933⟩) (show okN yX0_isMessage 1 = true by decide +kernel) (fun H hR => hR.rv G.1 cd0 rfl h1) rfl rfl (by omega) rfl (fun Q' => ws_isMessage_ok G (d - 1) (by omega) a0 a1 σ Q') (fun y2 => ?_)
  refine sm_bind1 (fun (v16 : Option Nat × ST) => V g mX0_toWire d 31 [] [vr v16.1, vr (some a0)] v16.2 τ Q) (fun v16 => ?_) (fun K17 j18 => ?_)
  · refine sm_ldc (x := 2147483647) (by decide) (by decide +kernel) q1403 ?_
    refine sm_gd (fun h20 => ?_)
    refine sm_cv (N := mX0_tell) (d' := d - 1) (fun r => (some (vi r.1))) (fun r => r.2) (fun _ => τ) [vr v16.1, vi 2147483647] [] rfl (by decide +kernel) q1161 q1163 qs31 (Or.inl ⟨rfl, q1164⟩) (show okN yX0_tell 2 = true by decide +kernel) (fun H hR => hR.rv G.1 cd0 rfl h20) rfl rfl (by omega) rfl (fun Q' => ws_tell_ok G (d - 1) (by omega) a0 v16.1 2147483647 v16.2 Q') (fun y21 => ?_)
    exact sm_iret rfl (by decide +kernel) (fun h => hRET _ h)
  · refine sm_gd (fun h3 => ?_)
    refine sm_case (V g mX0_toWire d 30 [(0, vr (some a0)), (1, vi a1)] [vr (some a0)] σ τ Q) (V g mX0_toWire d 9 [(0, vr (some a0)), (1, vi a1)] [vr (some a0)] σ τ Q) ?_ ?_ (fun f33 p34 n35 => ?_)
    · refine sm_b (l' := [(0, vr (some a0)), (1, vi a1)]) (st' := [vr none, vr (some a0)]) (pc' := 31) [(.aconst_null, vi 0, 31)] (by decide +kernel) rfl rfl ?_
      refine sm_pick [] (l' := []) rfl ?_
      exact sm_leaf (fun h => j18 _ h)
    · refine sm_b (l' := [(0, vr (some a0)), (1, vi a1)]) (st' := [vr (some a0), vr (some a0), vr (some a0)]) (pc' := 11) [(.aload_n 0, vi 0, 10), (.aload_n 0, vi 0, 11)] (by decide +kernel) rfl rfl ?_
      refine sm_g (k := 4) (x := vr (sR σ 4 a0)) cd0 rfl h1 rfl q294 rfl (by decide +kernel) ?_
      refine sm_de (fun p22 h23 => ?_)
      refine sm_st [vr (some p22), vr (some a0), vr (some a0)] (by rw [h23] <;> rfl) ?_
      refine sm_gd (fun h24 => ?_)
      refine sm_gN (k := 1) (x := vr (sR σ 17 p22)) cd1 rfl h24 rfl q238 rfl (by decide +kernel) ?_
      refine sm_b (l' := [(0, vr (some a0)), (1, vi a1)]) (st' := [vi a1, vr (sR σ 17 p22), vr (some a0), vr (some a0)]) (pc' := 18) [(.iload_n 1, vi 0, 18)] (by decide +kernel) rfl rfl ?_
      refine sm_de (fun p25 h26 => ?_)
      refine sm_st [vi a1, vr (some p25), vr (some a0), vr (some a0)] (by rw [h26] <;> rfl) ?_
      refine sm_gd (fun h27 => ?_)
      refine sm_cv (N := mJ2_get) (d' := d - 1) (fun r => (some (vr r))) (fun _ => σ) (fun _ => τ) [vi a1] [vr (some a0), vr (some a0)] rfl (by decide +kernel) q919 q791 q792 (Or.inl ⟨rfl, q793⟩) (show okN yJ2_get 1 = true by decide +kernel) (fun H hR => hR.rvL G.1 h27) rfl rfl (by omega) rfl (fun Q' => l_get_ok G (d - 1) (by omega) p25 a1 σ Q') (fun y28 => ?_)
      refine sm_de (fun p29 h30 => ?_)
      refine sm_st [vr (some p29), vr (some a0), vr (some a0)] (by rw [h30] <;> rfl) ?_
      refine sm_gd (fun h31 => ?_)
      refine sm_cast cd6 q934 (fun H hR => hR.rv G.1 cd6 rfl h31) (by decide +kernel) ?_
      refine sm_cv (N := mX0_wire) (d' := d - 1) (fun r => (some (vr r.1))) (fun r => r.2) (fun _ => τ) [vr (some p29)] [vr (some a0)] rfl (by decide +kernel) q1169 q1171 qs32 (Or.inr q1172) (show okN yX0_wire 1 = true by decide +kernel) (fun H hR => hR.rv G.1 cd0 rfl h1) rfl rfl (by omega) rfl (fun Q' => ws_wire_ok G (d - 1) (by omega) a0 (some p29) σ Q') (fun y32 => ?_)
      refine sm_b (l' := [(0, vr (some a0)), (1, vi a1)]) (st' := [vr y32.1, vr (some a0)]) (pc' := 31) [(.goto 4, vi 0, 31)] (by decide +kernel) rfl rfl ?_
      refine sm_pick [] (l' := []) rfl ?_
      exact sm_leaf (fun h => j18 _ h)
    refine sm_if_eq (off := 24) (tgt := 30) h3 (by decide +kernel) (fun c36 => ?_) (fun c36 => ?_)
    · exact p34 c36
    · exact n35 c36
def ws_turn (bb : Nat × Nat) (a0 : Nat) (σ : ST) : Option (Int × ST) := gd (sc σ a0 = 1) (Option.bind (sR σ 5 a0) fun p2 => gd (sc σ p2 = 4) (if ((((sW σ p2).length : Nat) : Int)) ≤ 1000 then (Option.bind (sR σ 1 a0) fun p13 => gd (sc σ p13 = 101) (gd (0 ≤ ((((sW σ p2).length : Nat) : Int)) ∧ ((((sW σ p2).length : Nat) : Int)) ≤ sN σ p13 ∧ ((((sW σ p2).length : Nat) : Int)) ≤ (sW σ p2).length) (nm (pC σ p13 (fun j => (sW σ p2).getD j 0) ((((sW σ p2).length : Nat) : Int)).toNat) fun σ17 => gd (sc σ17 a0 = 1) (Option.bind (sR σ17 5 a0) fun p19 => gd (sc σ17 p19 = 4) (nm (pI σ17 3 a0 ((((sW σ17 p19).length : Nat) : Int))) fun σ24 => some ((1, σ24))))))) else (some ((0, σ)))))
set_option maxHeartbeats 4000000 in
theorem ws_turn_ok {g : GE} (G : GG g) {τ : TT} (d : Nat) (hd1 : 1 ≤ d) (a0 : Nat)  (σ : ST) (Q : VQ) : Sm (V g mX0_turn d 0 [(0, vr (some a0))] [] σ τ Q) (ws_turn (gRm g) a0 σ) (fun r => Q.1 (some (vi r.1)) r.2 τ) := by
  unfold ws_turn
  refine sm_top (fun K hRET => ?_)
  refine sm_b (l' := [(0, vr (some a0))]) (st' := [vr (some a0)]) (pc' := 1) [(.aload_n 0, vi 0, 1)] (by decide +kernel) rfl rfl ?_
  refine sm_gd (fun h1 => ?_)
  refine sm_g (k := 5) (x := vr (sR σ 5 a0)) cd0 rfl h1 rfl q295 rfl (by decide +kernel) ?_
  refine sm_de (fun p2 h3 => ?_)
  refine sm_st [vr (some p2)] (by rw [h3] <;> rfl) ?_
  refine sm_gd (fun h4 => ?_)
  refine sm_rszN h4 q284 (by decide +kernel) ?_
  refine sm_rowf h4 (fun b5 b6 => ?_)
  refine sm_b (l' := [(0, vr (some a0))]) (st' := [vi 1000, vi ((((sW σ p2).length : Nat) : Int))]) (pc' := 10) [(.sipush 1000, vi 1000, 10)] (by decide +kernel) rfl rfl ?_
  refine sm_case (V g mX0_turn d 15 [(0, vr (some a0))] [] σ τ Q) (V g mX0_turn d 13 [(0, vr (some a0))] [] σ τ Q) ?_ ?_ (fun f25 p26 n27 => ?_)
  · refine sm_b (l' := [(0, vr (some a0))]) (st' := [vr (some a0)]) (pc' := 16) [(.aload_n 0, vi 0, 16)] (by decide +kernel) rfl rfl ?_
    refine sm_g (k := 5) (x := vr (sR σ 5 a0)) cd0 rfl h1 rfl q295 rfl (by decide +kernel) ?_
    refine sm_st [vr (some p2)] (by rw [h3] <;> rfl) ?_
    refine sm_rclN h4 q276 (by decide +kernel) ?_
    refine sm_b (l' := [(0, vr (some a0))]) (st' := [vr (some a0), vi 0, vr (some (sH σ p2))]) (pc' := 24) [(.iconst 0, vi 0, 23), (.aload_n 0, vi 0, 24)] (by decide +kernel) rfl rfl ?_
    refine sm_g (k := 1) (x := vr (sR σ 1 a0)) cd0 rfl h1 rfl q291 rfl (by decide +kernel) ?_
    refine sm_b (l' := [(0, vr (some a0))]) (st' := [vr (some a0), vi 0, vr (sR σ 1 a0), vi 0, vr (some (sH σ p2))]) (pc' := 29) [(.iconst 0, vi 0, 28), (.aload_n 0, vi 0, 29)] (by decide +kernel) rfl rfl ?_
    refine sm_g (k := 5) (x := vr (sR σ 5 a0)) cd0 rfl h1 rfl q295 rfl (by decide +kernel) ?_
    refine sm_st [vr (some p2), vi 0, vr (sR σ 1 a0), vi 0, vr (some (sH σ p2))] (by rw [h3] <;> rfl) ?_
    refine sm_rszN h4 q284 (by decide +kernel) ?_
    refine sm_rowf h4 (fun b11 b12 => ?_)
    refine sm_de (fun p13 h14 => ?_)
    refine sm_st [vi ((((sW σ p2).length : Nat) : Int)), vi 0, vr (some p13), vi 0, vr (some (sH σ p2))] (by rw [h14] <;> rfl) ?_
    refine sm_gd (fun h15 => ?_)
    refine sm_gd (fun h16 => ?_)
    refine sm_cpR G q324 h15 h4 h16 (by omega) rfl (by decide +kernel) ?_
    refine sm_nms (fun σ17 => ?_)
    refine sm_b (l' := [(0, vr (some a0))]) (st' := [vr (some a0), vr (some a0)]) (pc' := 40) [(.aload_n 0, vi 0, 39), (.aload_n 0, vi 0, 40)] (by decide +kernel) rfl rfl ?_
    refine sm_gd (fun h18 => ?_)
    refine sm_g (k := 5) (x := vr (sR σ17 5 a0)) cd0 rfl h18 rfl q295 rfl (by decide +kernel) ?_
    refine sm_de (fun p19 h20 => ?_)
    refine sm_st [vr (some p19), vr (some a0)] (by rw [h20] <;> rfl) ?_
    refine sm_gd (fun h21 => ?_)
    refine sm_rszN h21 q284 (by decide +kernel) ?_
    refine sm_rowf h21 (fun b22 b23 => ?_)
    refine sm_p (k := 3) (x := vi ((((sW σ17 p19).length : Nat) : Int))) cd0 rfl h18 rfl q293 rfl (nar_i _) (fit_i _) rfl (at_pI σ17 3 a0 ((((sW σ17 p19).length : Nat) : Int))) (fp_3 σ17 a0 ((((sW σ17 p19).length : Nat) : Int))) (by decide +kernel) ?_
    refine sm_nms (fun σ24 => ?_)
    refine sm_b (l' := [(0, vr (some a0))]) (st' := [vi 1]) (pc' := 50) [(.iconst 1, vi 1, 50)] (by decide +kernel) rfl rfl ?_
    exact sm_zret rfl (by decide +kernel) (by decide) (fun h => hRET _ h)
  · refine sm_b (l' := [(0, vr (some a0))]) (st' := [vi 0]) (pc' := 14) [(.iconst 0, vi 0, 14)] (by decide +kernel) rfl rfl ?_
    exact sm_zret rfl (by decide +kernel) (by decide) (fun h => hRET _ h)
  refine sm_icmp_le (off := 5) (tgt := 15) (rwl_rg (Nat.lt_of_le_of_lt b5 b6)) (by decide) (by decide +kernel) (fun c28 => ?_) (fun c28 => ?_)
  · exact p26 c28
  · exact n27 c28
def ws_output (a0 : Nat) (a1 : Int) (σ : ST) : Option (Int) := gd (sc σ a0 = 1) (Option.bind (sR σ 5 a0) fun p2 => gd (sc σ p2 = 4) (Option.bind (row_at p2 a1 σ) fun y5 => some y5))
set_option maxHeartbeats 4000000 in
theorem ws_output_ok {g : GE} (G : GG g) {τ : TT} (d : Nat) (hd1 : 1 ≤ d) (a0 : Nat) (a1 : Int)  (σ : ST) (Q : VQ) : Sm (V g mX0_output d 0 [(0, vr (some a0)), (1, vi a1)] [] σ τ Q) (ws_output a0 a1 σ) (fun r => Q.1 (some (vi r)) σ τ) := by
  unfold ws_output
  refine sm_top (fun K hRET => ?_)
  refine sm_b (l' := [(0, vr (some a0)), (1, vi a1)]) (st' := [vr (some a0)]) (pc' := 1) [(.aload_n 0, vi 0, 1)] (by decide +kernel) rfl rfl ?_
  refine sm_gd (fun h1 => ?_)
  refine sm_g (k := 5) (x := vr (sR σ 5 a0)) cd0 rfl h1 rfl q295 rfl (by decide +kernel) ?_
  refine sm_b (l' := [(0, vr (some a0)), (1, vi a1)]) (st' := [vi a1, vr (sR σ 5 a0)]) (pc' := 5) [(.iload_n 1, vi 0, 5)] (by decide +kernel) rfl rfl ?_
  refine sm_de (fun p2 h3 => ?_)
  refine sm_st [vi a1, vr (some p2)] (by rw [h3] <;> rfl) ?_
  refine sm_gd (fun h4 => ?_)
  refine sm_cv (N := mX3_at) (d' := d - 1) (fun r => (some (vi r))) (fun _ => σ) (fun _ => τ) [vi a1] [] rfl (by decide +kernel) q925 q710 q711 (Or.inl ⟨rfl, q712⟩) (show okN yX3_at 1 = true by decide +kernel) (fun H hR => hR.rvR G.1 h4) rfl rfl (by omega) rfl (fun Q' => row_at_ok G (d - 1) (by omega) p2 a1 σ Q') (fun y5 => ?_)
  exact sm_iret rfl (by decide +kernel) (fun h => hRET _ h)
