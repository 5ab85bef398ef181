set_option maxRecDepth 100000
/-! THE CONSTRUCTORS: of the system, where there is no reference yet; of the reference -/
set_option maxHeartbeats 4000000 in
theorem scp_init_ok0 {g : GE} (G : GF g) {τ : TT} (d : Nat) (hd1 : 4 ≤ d) (a0 : Nat) (a1 : Option Nat)  (σ : ST) (Q : VQ) : Sm (V g mX2_init d 0 [(0, vr (some a0)), (1, vr a1)] [] σ τ Q) (scp_init (gRm g) a0 a1 σ) (fun r => Q.1 none r τ) := by
  unfold scp_init
  refine sm_top (fun K hRET => ?_)
  refine sm_b (l' := [(0, vr (some a0)), (1, vr a1)]) (st' := [vr (some a0)]) (pc' := 1) [(.aload_n 0, vi 0, 1)] (by decide +kernel) rfl rfl ?_
  refine sm_obj q185 (by omega) rfl (by decide +kernel) ?_
  refine sm_b (l' := [(0, vr (some a0)), (1, vr a1)]) (st' := [vr (some a0)]) (pc' := 5) [(.aload_n 0, vi 0, 5)] (by decide +kernel) rfl rfl ?_
  refine sm_gd (fun h1 => ?_)
  refine sm_newList (i := 7) (i2 := 9) q186 rfl q188 h1 (by omega) rfl (by decide +kernel) (by decide +kernel) (by decide +kernel) ?_
  refine sm_nms (fun σ2 => ?_)
  refine sm_gd (fun h3 => ?_)
  refine sm_pF (k := 1) (x := vr (some (sZ σ))) cd2 rfl h3 rfl q215 rfl rfl rfl (nar_r _ rfl) (fit_r _ rfl) rfl (at_pR σ2 33 a0 (some (sZ σ))) (fp_33 σ2 a0 (some (sZ σ))) (by decide +kernel) ?_
  refine sm_nms (fun σ4 => ?_)
  refine sm_b (l' := [(0, vr (some a0)), (1, vr a1)]) (st' := [vr (some a0)]) (pc' := 16) [(.aload_n 0, vi 0, 16)] (by decide +kernel) rfl rfl ?_
  refine sm_gd (fun h5 => ?_)
  refine sm_newList (i := 7) (i2 := 9) q186 rfl q188 h5 (by omega) rfl (by decide +kernel) (by decide +kernel) (by decide +kernel) ?_
  refine sm_nms (fun σ6 => ?_)
  refine sm_gd (fun h7 => ?_)
  refine sm_pF (k := 2) (x := vr (some (sZ σ4))) cd2 rfl h7 rfl q217 rfl rfl rfl (nar_r _ rfl) (fit_r _ rfl) rfl (at_pR σ6 34 a0 (some (sZ σ4))) (fp_34 σ6 a0 (some (sZ σ4))) (by decide +kernel) ?_
  refine sm_nms (fun σ8 => ?_)
  refine sm_b (l' := [(0, vr (some a0)), (1, vr a1)]) (st' := [vr (some a0)]) (pc' := 27) [(.aload_n 0, vi 0, 27)] (by decide +kernel) rfl rfl ?_
  refine sm_gd (fun h9 => ?_)
  refine sm_newList (i := 7) (i2 := 9) q186 rfl q188 h9 (by omega) rfl (by decide +kernel) (by decide +kernel) (by decide +kernel) ?_
  refine sm_nms (fun σ10 => ?_)
  refine sm_gd (fun h11 => ?_)
  refine sm_pF (k := 3) (x := vr (some (sZ σ8))) cd2 rfl h11 rfl q219 rfl rfl rfl (nar_r _ rfl) (fit_r _ rfl) rfl (at_pR σ10 35 a0 (some (sZ σ8))) (fp_35 σ10 a0 (some (sZ σ8))) (by decide +kernel) ?_
  refine sm_nms (fun σ12 => ?_)
  refine sm_b (l' := [(0, vr (some a0)), (1, vr a1)]) (st' := [vr a1, vr (some a0)]) (pc' := 39) [(.aload_n 0, vi 0, 38), (.aload_n 1, vi 0, 39)] (by decide +kernel) rfl rfl ?_
  refine sm_gd (fun h13 => ?_)
  refine sm_pF (k := 0) (x := vr a1) cd2 rfl h13 rfl q213 rfl rfl rfl (nar_r _ rfl) (fit_r _ rfl) rfl (at_pR σ12 32 a0 a1) (fp_32 σ12 a0 a1) (by decide +kernel) ?_
  refine sm_nms (fun σ14 => ?_)
  exact sm_vret rfl (by decide +kernel) (fun h => hRET _ h)
set_option maxHeartbeats 4000000 in
theorem sch_init_ok0 {g : GE} (G : GF g) {τ : TT} (d : Nat) (hd1 : 5 ≤ d) (a0 : Nat)  (σ : ST) (Q : VQ) : Sm (V g mX1_init d 0 [(0, vr (some a0))] [] σ τ Q) (sch_init (gRm g) a0 σ) (fun r => Q.1 none r τ) := by
  unfold sch_init
  refine sm_top (fun K hRET => ?_)
  refine sm_b (l' := [(0, vr (some a0))]) (st' := [vr (some a0)]) (pc' := 1) [(.aload_n 0, vi 0, 1)] (by decide +kernel) rfl rfl ?_
  refine sm_obj q179 (by omega) rfl (by decide +kernel) ?_
  refine sm_b (l' := [(0, vr (some a0))]) (st' := [vr (some a0)]) (pc' := 5) [(.aload_n 0, vi 0, 5)] (by decide +kernel) rfl rfl ?_
  refine sm_gd (fun h1 => ?_)
  refine sm_new cd2 rfl q180 q181 q133 (new_2 σ) h1 (by decide +kernel) ?_
  refine sm_nms (fun σ2 => ?_)
  refine sm_b (l' := [(0, vr (some a0))]) (st' := [vr none, vr (some (sZ σ)), vr (some (sZ σ)), vr (some a0)]) (pc' := 10) [(.dup, vi 0, 9), (.aconst_null, vi 0, 10)] (by decide +kernel) rfl rfl ?_
  refine sm_ci (N := mX2_init) (d' := d - 1) [vr none] [vr (some (sZ σ)), vr (some a0)] rfl (by decide +kernel) q182 q183 rfl q184 rfl rfl (show okN yX2_init 1 = true by decide +kernel) rfl rfl (by omega) rfl (fun Q' => scp_init_ok0 G (d - 1) (by omega) (sZ σ) none σ2 Q') (fun y3 => ?_)
  refine sm_gd (fun h4 => ?_)
  refine sm_pF (k := 0) (x := vr (some (sZ σ))) cd1 rfl h4 rfl q233 rfl rfl rfl (nar_r _ rfl) (fit_r _ rfl) rfl (at_pR y3 16 a0 (some (sZ σ))) (fp_16 y3 a0 (some (sZ σ))) (by decide +kernel) ?_
  refine sm_nms (fun σ5 => ?_)
  refine sm_b (l' := [(0, vr (some a0))]) (st' := [vr (some a0)]) (pc' := 17) [(.aload_n 0, vi 0, 17)] (by decide +kernel) rfl rfl ?_
  refine sm_gd (fun h6 => ?_)
  refine sm_newList (i := 18) (i2 := 20) q231 rfl q232 h6 (by omega) rfl (by decide +kernel) (by decide +kernel) (by decide +kernel) ?_
  refine sm_nms (fun σ7 => ?_)
  refine sm_gd (fun h8 => ?_)
  refine sm_pF (k := 1) (x := vr (some (sZ σ5))) cd1 rfl h8 rfl q236 rfl rfl rfl (nar_r _ rfl) (fit_r _ rfl) rfl (at_pR σ7 17 a0 (some (sZ σ5))) (fp_17 σ7 a0 (some (sZ σ5))) (by decide +kernel) ?_
  refine sm_nms (fun σ9 => ?_)
  refine sm_b (l' := [(0, vr (some a0))]) (st' := [vr (some a0)]) (pc' := 28) [(.aload_n 0, vi 0, 28)] (by decide +kernel) rfl rfl ?_
  refine sm_gd (fun h10 => ?_)
  refine sm_newList (i := 18) (i2 := 20) q231 rfl q232 h10 (by omega) rfl (by decide +kernel) (by decide +kernel) (by decide +kernel) ?_
  refine sm_nms (fun σ11 => ?_)
  refine sm_gd (fun h12 => ?_)
  refine sm_pF (k := 2) (x := vr (some (sZ σ9))) cd1 rfl h12 rfl q240 rfl rfl rfl (nar_r _ rfl) (fit_r _ rfl) rfl (at_pR σ11 18 a0 (some (sZ σ9))) (fp_18 σ11 a0 (some (sZ σ9))) (by decide +kernel) ?_
  refine sm_nms (fun σ13 => ?_)
  refine sm_b (l' := [(0, vr (some a0))]) (st' := [vr (some a0)]) (pc' := 39) [(.aload_n 0, vi 0, 39)] (by decide +kernel) rfl rfl ?_
  refine sm_gd (fun h14 => ?_)
  refine sm_newList (i := 18) (i2 := 20) q231 rfl q232 h14 (by omega) rfl (by decide +kernel) (by decide +kernel) (by decide +kernel) ?_
  refine sm_nms (fun σ15 => ?_)
  refine sm_gd (fun h16 => ?_)
  refine sm_pF (k := 3) (x := vr (some (sZ σ13))) cd1 rfl h16 rfl q244 rfl rfl rfl (nar_r _ rfl) (fit_r _ rfl) rfl (at_pR σ15 19 a0 (some (sZ σ13))) (fp_19 σ15 a0 (some (sZ σ13))) (by decide +kernel) ?_
  refine sm_nms (fun σ17 => ?_)
  exact sm_vret rfl (by decide +kernel) (fun h => hRET _ h)
set_option maxHeartbeats 4000000 in
theorem ws_init_ok0 {g : GE} (G : GF g) {τ : TT} (d : Nat) (hd1 : 6 ≤ d) (a0 : Nat)  (σ : ST) (Q : VQ) : Sm (V g mX0_init d 0 [(0, vr (some a0))] [] σ τ Q) (ws_init (gRm g) a0 σ) (fun r => Q.1 none r τ) := by
  unfold ws_init
  refine sm_top (fun K hRET => ?_)
  refine sm_b (l' := [(0, vr (some a0))]) (st' := [vr (some a0)]) (pc' := 1) [(.aload_n 0, vi 0, 1)] (by decide +kernel) rfl rfl ?_
  refine sm_obj q171 (by omega) rfl (by decide +kernel) ?_
  refine sm_b (l' := [(0, vr (some a0))]) (st' := [vi 1000, vr (some a0)]) (pc' := 8) [(.aload_n 0, vi 0, 5), (.sipush 1000, vi 1000, 8)] (by decide +kernel) rfl rfl ?_
  refine sm_gd (fun h1 => ?_)
  refine sm_newB q212 h1 (by decide +kernel) ?_
  refine sm_nms (fun σ2 => ?_)
  refine sm_gd (fun h3 => ?_)
  refine sm_pF (k := 0) (x := vr (some (sZ σ))) cd0 rfl h3 rfl q290 rfl rfl rfl (nar_r _ rfl) (fit_r _ rfl) rfl (at_pR σ2 0 a0 (some (sZ σ))) (fp_0 σ2 a0 (some (sZ σ))) (by decide +kernel) ?_
  refine sm_nms (fun σ4 => ?_)
  refine sm_b (l' := [(0, vr (some a0))]) (st' := [vi 1000, vr (some a0)]) (pc' := 17) [(.aload_n 0, vi 0, 14), (.sipush 1000, vi 1000, 17)] (by decide +kernel) rfl rfl ?_
  refine sm_gd (fun h5 => ?_)
  refine sm_newB q212 h5 (by decide +kernel) ?_
  refine sm_nms (fun σ6 => ?_)
  refine sm_gd (fun h7 => ?_)
  refine sm_pF (k := 1) (x := vr (some (sZ σ4))) cd0 rfl h7 rfl q291 rfl rfl rfl (nar_r _ rfl) (fit_r _ rfl) rfl (at_pR σ6 1 a0 (some (sZ σ4))) (fp_1 σ6 a0 (some (sZ σ4))) (by decide +kernel) ?_
  refine sm_nms (fun σ8 => ?_)
  refine sm_b (l' := [(0, vr (some a0))]) (st' := [vr (some a0)]) (pc' := 23) [(.aload_n 0, vi 0, 23)] (by decide +kernel) rfl rfl ?_
  refine sm_gd (fun h9 => ?_)
  refine sm_new cd1 rfl q174 q175 q132 (new_1 σ8) h9 (by decide +kernel) ?_
  refine sm_nms (fun σ10 => ?_)
  refine sm_b (l' := [(0, vr (some a0))]) (st' := [vr (some (sZ σ8)), vr (some (sZ σ8)), vr (some a0)]) (pc' := 27) [(.dup, vi 0, 27)] (by decide +kernel) rfl rfl ?_
  refine sm_ciN (N := mX1_init) (d' := d - 1) [] [vr (some (sZ σ8)), vr (some a0)] rfl (by decide +kernel) q176 q177 rfl q178 rfl rfl (show okN yX1_init 0 = true by decide +kernel) rfl rfl (by omega) rfl (fun Q' => sch_init_ok0 G (d - 1) (by omega) (sZ σ8) σ10 Q') (fun y11 => ?_)
  refine sm_gd (fun h12 => ?_)
  refine sm_p (k := 4) (x := vr (some (sZ σ8))) cd0 rfl h12 rfl q294 rfl (nar_r _ rfl) (fit_r _ rfl) rfl (at_pR y11 4 a0 (some (sZ σ8))) (fp_4 y11 a0 (some (sZ σ8))) (by decide +kernel) ?_
  refine sm_nms (fun σ13 => ?_)
  refine sm_b (l' := [(0, vr (some a0))]) (st' := [vr (some a0)]) (pc' := 34) [(.aload_n 0, vi 0, 34)] (by decide +kernel) rfl rfl ?_
  refine sm_gd (fun h14 => ?_)
  refine sm_newRowN (i := 23) (i2 := 25) q266 rfl q268 h14 (by omega) rfl (by decide +kernel) (by decide +kernel) (by decide +kernel) ?_
  refine sm_nms (fun σ15 => ?_)
  refine sm_gd (fun h16 => ?_)
  refine sm_p (k := 5) (x := vr (some (sZ σ13))) cd0 rfl h16 rfl q295 rfl (nar_r _ rfl) (fit_r _ rfl) rfl (at_pR σ15 5 a0 (some (sZ σ13))) (fp_5 σ15 a0 (some (sZ σ13))) (by decide +kernel) ?_
  refine sm_nms (fun σ17 => ?_)
  refine sm_b (l' := [(0, vr (some a0))]) (st' := [vr (some a0)]) (pc' := 45) [(.aload_n 0, vi 0, 45)] (by decide +kernel) rfl rfl ?_
  refine sm_gd (fun h18 => ?_)
  refine sm_newRowN (i := 23) (i2 := 25) q266 rfl q268 h18 (by omega) rfl (by decide +kernel) (by decide +kernel) (by decide +kernel) ?_
  refine sm_nms (fun σ19 => ?_)
  refine sm_gd (fun h20 => ?_)
  refine sm_p (k := 6) (x := vr (some (sZ σ17))) cd0 rfl h20 rfl q296 rfl (nar_r _ rfl) (fit_r _ rfl) rfl (at_pR σ19 6 a0 (some (sZ σ17))) (fp_6 σ19 a0 (some (sZ σ17))) (by decide +kernel) ?_
  refine sm_nms (fun σ21 => ?_)
  exact sm_vret rfl (by decide +kernel) (fun h => hRET _ h)
/-- the reference's arrays as they are made: field, kind, length -/
def tAL : List (Nat × Nat × Nat) := [(1, 1, 1000), (2, 1, 1000), (3, 1, 4000), (8, 1, 1000), (9, 1, 1001), (10, 1, 1001), (11, 1, 1001), (15, 1, 10), (16, 1, 10), (17, 1, 6), (18, 1, 6), (19, 1, 40), (20, 1, 40), (21, 1, 40), (22, 1, 50), (23, 1, 50), (24, 1, 50), (25, 1, 50), (26, 1, 50), (27, 1, 50), (28, 1, 50), (29, 2, 50), (30, 2, 50), (31, 1, 12), (32, 1, 12), (33, 1, 30), (34, 1, 30), (41, 1, 64), (42, 1, 64), (43, 1, 9000), (44, 1, 9000), (56, 1, 1000)]
/-- the place of a field's array among them -/
def tix (k : Nat) : Nat := match k with
  | 1 => 0
  | 2 => 1
  | 3 => 2
  | 8 => 3
  | 9 => 4
  | 10 => 5
  | 11 => 6
  | 15 => 7
  | 16 => 8
  | 17 => 9
  | 18 => 10
  | 19 => 11
  | 20 => 12
  | 21 => 13
  | 22 => 14
  | 23 => 15
  | 24 => 16
  | 25 => 17
  | 26 => 18
  | 27 => 19
  | 28 => 20
  | 29 => 21
  | 30 => 22
  | 31 => 23
  | 32 => 24
  | 33 => 25
  | 34 => 26
  | 41 => 27
  | 42 => 28
  | 43 => 29
  | 44 => 30
  | 56 => 31
  | _ => 0
def tfs (w : Nat) : Nat → List Value → List Value
  | 0, fs => fs
  | j + 1, fs => (tfs w j fs).set (tAL.getD j (0, 0, 0)).1 (.ref (w + 1 + j))
/-- the slots of the first arrays -/
def tsl : Nat → Nat
  | 0 => 0
  | j + 1 => tsl j + (tAL.getD j (0, 0, 0)).2.2
def TI (g : GE) (w : Nat) (fs : List Value) (H0 : Heap) (j : Nat) (H : Heap) : Prop := H.size = w + 1 + j ∧ va_at (gD g) vCl (w, .inr (4, tfs w j fs)) H ∧ (∀ q, q < w → H[q]? = H0[q]?) ∧
  ∀ i, i < j → ∀ k t n, tAL[i]? = some (k, t, n) → va_at (gD g) vCl (w + 1 + i, .inl (ga g t, n, .inl (fun _ => 0))) H
section MInit
variable {g : GE} {d : Nat} {H H0 : Heap} {rc rs w : Nat} {Q : UQ} {fs : List Value}
theorem tfs_len (w : Nat) (fs : List Value) (j : Nat) : (tfs w j fs).length = fs.length := by
  induction j with
  | zero => rfl
  | succ j ih => rw [tfs, List.length_set, ih]
theorem U.mi {j pc p2 k n i : Nat} {t : Nat} {atype : ArrayType} {ty : FieldType} {ins : Instr} (h : TI g w fs H0 j H) (hB : gB g ≤ w) (hlen : fs.length = 61) (hj : tAL[j]? = some (k, t, n)) (ht : t = 1 ∨ t = 2)
    (hb : dks cX4_init pc [(.aload_n 0, vi 0, pc + 1), (ins, vi n, p2)] = true) (hbr : bks 1 [(.aload_n 0, vi 0, pc + 1), (ins, vi n, p2)] [(0, vr (some w))] [] = some ([(0, vr (some w))], [vi n, vr (some w)])) (hty : newarray.typeOf atype = ty) (harr : Cond.arrayClass (newarray.typeOf atype) ∈ lw_all) (hta : (tys_ g)[t]? = some (ga g t, ty)) (hdv : defaultValue ty = .int 0) (hcb : componentBytes ty ≤ 8) (hn : n < 16777216) (hd : d1 cX4_init p2 (.newarray atype) 2 = true)
    (hk : Nat.ble (k + 1) 61 = true) (hl : Cond.fieldLink RX4 i (TX4 k).1 (TX4 k).2.1 (TX4 k).2.2.1 ∈ lw_all) (hfin : (TX4 k).2.2.2 = true) (hdecl : (TX4 k).1 = RX4) (hrf : (tyX4 k).isReference = true) (hd2 : d1 cX4_init (p2 + 2) (.putfield i) 3 = true) (hrc : 1 ≤ rc) (hrs : n ≤ rs)
    (kk : ∀ H', TI g w fs H0 (j + 1) H' → U g mX4_init d (p2 + 2 + 3) [(0, vr (some w))] [] H' (rc - 1) (rs - n) Q) : U g mX4_init d pc [(0, vr (some w))] [] H rc rs Q := by
  obtain ⟨h1, h2, h3, h4⟩ := h
  refine U.b (l' := [(0, vr (some w))]) (st' := [vi n, vr (some w)]) (pc' := p2) (is := [(.aload_n 0, vi 0, pc + 1), (ins, vi n, p2)]) hb hbr rfl ?_
  refine U.newa (atype := atype) (t := t) (ty := ty) hty harr hta hcb ⟨by omega, by omega⟩ hrc (by omega) hd (fun H1 e1 z1 o1 => ?_)
  rw [show ((n : Nat) : Int).toNat = n from by omega] at e1 ⊢
  have hw1 : va_at (gD g) vCl (w, .inr (4, tfs w j fs)) H1 := h2.kept (o1 w (by omega))
  refine U.pfF (k := k) (x := vr (some H.size)) cd4 hw1 hk hl hfin rfl hdecl (nar_r _ hrf) (fit_r _ hrf) (by rw [tfs_len, hlen]; exact hk) hB hd2 (fun H2 hp => ?_)
  refine kk H2 ⟨by rw [hp.2.1, z1, h1]; omega, ?_, fun q hq => by rw [hp.2.2 q (by omega), o1 q (by omega)]; exact h3 q hq, fun i' hi' k' t' n' hq => ?_⟩
  · have hp1 := hp.1
    have hg : tAL.getD j (0, 0, 0) = (k, t, n) := by rw [List.getD_eq_getElem?_getD, hj]; rfl
    rw [tfs, hg]
    rw [h1] at hp1
    exact hp1
  · by_cases e : i' = j
    · subst e
      rw [hj] at hq
      cases hq
      have hz : H.size = w + 1 + i' := h1
      rw [hz] at e1
      refine va_at.kept (H := H1) ?_ (hp.2.2 _ (by omega))
      rw [hdv] at e1
      exact e1
    · exact (h4 i' (by omega) k' t' n' hq).kept (by rw [hp.2.2 _ (by omega), o1 _ (by omega)])
theorem U.minit (h : TI g w fs H0 0 H) (hB : gB g ≤ w) (hlen : fs.length = 61) (hd1 : 1 ≤ d) (hrc : 32 ≤ rc) (hrs : tsl 32 ≤ rs) (kk : ∀ H', TI g w fs H0 32 H' → Q.1 none H' (rc - 32) (rs - tsl 32)) : U g mX4_init d 0 [(0, vr (some w))] [] H rc rs Q := by
  have hts : tsl 32 = 29817 := by decide +kernel
  rw [hts] at hrs kk
  refine U.b (l' := [(0, vr (some w))]) (st' := [vr (some w)]) (pc' := 1) (is := [(.aload_n 0, vi 0, 1)]) (by decide +kernel) rfl rfl ?_
  refine U.obj q1417 hd1 rfl (by decide +kernel) ?_
  refine U.mi (j := 0) (k := 1) (n := 1000) (t := 1) (p2 := 8) (ins := .sipush 1000) (atype := .int) (ty := .int) h hB hlen rfl (Or.inl rfl) (by decide +kernel) rfl rfl q591 rfl rfl (by decide) (by decide) (by decide +kernel) rfl q1419 rfl rfl rfl (by decide +kernel) (by omega) (by omega) (fun H1 h1 => ?_)
  refine U.mi (j := 1) (k := 2) (n := 1000) (t := 1) (p2 := 17) (ins := .sipush 1000) (atype := .int) (ty := .int) h1 hB hlen rfl (Or.inl rfl) (by decide +kernel) rfl rfl q591 rfl rfl (by decide) (by decide) (by decide +kernel) rfl q1420 rfl rfl rfl (by decide +kernel) (by omega) (by omega) (fun H2 h2 => ?_)
  refine U.mi (j := 2) (k := 3) (n := 4000) (t := 1) (p2 := 26) (ins := .sipush 4000) (atype := .int) (ty := .int) h2 hB hlen rfl (Or.inl rfl) (by decide +kernel) rfl rfl q591 rfl rfl (by decide) (by decide) (by decide +kernel) rfl q1421 rfl rfl rfl (by decide +kernel) (by omega) (by omega) (fun H3 h3 => ?_)
  refine U.mi (j := 3) (k := 8) (n := 1000) (t := 1) (p2 := 35) (ins := .sipush 1000) (atype := .int) (ty := .int) h3 hB hlen rfl (Or.inl rfl) (by decide +kernel) rfl rfl q591 rfl rfl (by decide) (by decide) (by decide +kernel) rfl q1426 rfl rfl rfl (by decide +kernel) (by omega) (by omega) (fun H4 h4 => ?_)
  refine U.mi (j := 4) (k := 9) (n := 1001) (t := 1) (p2 := 44) (ins := .sipush 1001) (atype := .int) (ty := .int) h4 hB hlen rfl (Or.inl rfl) (by decide +kernel) rfl rfl q591 rfl rfl (by decide) (by decide) (by decide +kernel) rfl q1427 rfl rfl rfl (by decide +kernel) (by omega) (by omega) (fun H5 h5 => ?_)
  refine U.mi (j := 5) (k := 10) (n := 1001) (t := 1) (p2 := 53) (ins := .sipush 1001) (atype := .int) (ty := .int) h5 hB hlen rfl (Or.inl rfl) (by decide +kernel) rfl rfl q591 rfl rfl (by decide) (by decide) (by decide +kernel) rfl q1428 rfl rfl rfl (by decide +kernel) (by omega) (by omega) (fun H6 h6 => ?_)
  refine U.mi (j := 6) (k := 11) (n := 1001) (t := 1) (p2 := 62) (ins := .sipush 1001) (atype := .int) (ty := .int) h6 hB hlen rfl (Or.inl rfl) (by decide +kernel) rfl rfl q591 rfl rfl (by decide) (by decide) (by decide +kernel) rfl q1429 rfl rfl rfl (by decide +kernel) (by omega) (by omega) (fun H7 h7 => ?_)
  refine U.mi (j := 7) (k := 15) (n := 10) (t := 1) (p2 := 70) (ins := .bipush 10) (atype := .int) (ty := .int) h7 hB hlen rfl (Or.inl rfl) (by decide +kernel) rfl rfl q591 rfl rfl (by decide) (by decide) (by decide +kernel) rfl q1433 rfl rfl rfl (by decide +kernel) (by omega) (by omega) (fun H8 h8 => ?_)
  refine U.mi (j := 8) (k := 16) (n := 10) (t := 1) (p2 := 78) (ins := .bipush 10) (atype := .int) (ty := .int) h8 hB hlen rfl (Or.inl rfl) (by decide +kernel) rfl rfl q591 rfl rfl (by decide) (by decide) (by decide +kernel) rfl q1434 rfl rfl rfl (by decide +kernel) (by omega) (by omega) (fun H9 h9 => ?_)
  refine U.mi (j := 9) (k := 17) (n := 6) (t := 1) (p2 := 86) (ins := .bipush 6) (atype := .int) (ty := .int) h9 hB hlen rfl (Or.inl rfl) (by decide +kernel) rfl rfl q591 rfl rfl (by decide) (by decide) (by decide +kernel) rfl q1435 rfl rfl rfl (by decide +kernel) (by omega) (by omega) (fun H10 h10 => ?_)
  refine U.mi (j := 10) (k := 18) (n := 6) (t := 1) (p2 := 94) (ins := .bipush 6) (atype := .int) (ty := .int) h10 hB hlen rfl (Or.inl rfl) (by decide +kernel) rfl rfl q591 rfl rfl (by decide) (by decide) (by decide +kernel) rfl q1436 rfl rfl rfl (by decide +kernel) (by omega) (by omega) (fun H11 h11 => ?_)
  refine U.mi (j := 11) (k := 19) (n := 40) (t := 1) (p2 := 102) (ins := .bipush 40) (atype := .int) (ty := .int) h11 hB hlen rfl (Or.inl rfl) (by decide +kernel) rfl rfl q591 rfl rfl (by decide) (by decide) (by decide +kernel) rfl q1437 rfl rfl rfl (by decide +kernel) (by omega) (by omega) (fun H12 h12 => ?_)
  refine U.mi (j := 12) (k := 20) (n := 40) (t := 1) (p2 := 110) (ins := .bipush 40) (atype := .int) (ty := .int) h12 hB hlen rfl (Or.inl rfl) (by decide +kernel) rfl rfl q591 rfl rfl (by decide) (by decide) (by decide +kernel) rfl q1438 rfl rfl rfl (by decide +kernel) (by omega) (by omega) (fun H13 h13 => ?_)
  refine U.mi (j := 13) (k := 21) (n := 40) (t := 1) (p2 := 118) (ins := .bipush 40) (atype := .int) (ty := .int) h13 hB hlen rfl (Or.inl rfl) (by decide +kernel) rfl rfl q591 rfl rfl (by decide) (by decide) (by decide +kernel) rfl q1439 rfl rfl rfl (by decide +kernel) (by omega) (by omega) (fun H14 h14 => ?_)
  refine U.mi (j := 14) (k := 22) (n := 50) (t := 1) (p2 := 126) (ins := .bipush 50) (atype := .int) (ty := .int) h14 hB hlen rfl (Or.inl rfl) (by decide +kernel) rfl rfl q591 rfl rfl (by decide) (by decide) (by decide +kernel) rfl q1440 rfl rfl rfl (by decide +kernel) (by omega) (by omega) (fun H15 h15 => ?_)
  refine U.mi (j := 15) (k := 23) (n := 50) (t := 1) (p2 := 134) (ins := .bipush 50) (atype := .int) (ty := .int) h15 hB hlen rfl (Or.inl rfl) (by decide +kernel) rfl rfl q591 rfl rfl (by decide) (by decide) (by decide +kernel) rfl q1441 rfl rfl rfl (by decide +kernel) (by omega) (by omega) (fun H16 h16 => ?_)
  refine U.mi (j := 16) (k := 24) (n := 50) (t := 1) (p2 := 142) (ins := .bipush 50) (atype := .int) (ty := .int) h16 hB hlen rfl (Or.inl rfl) (by decide +kernel) rfl rfl q591 rfl rfl (by decide) (by decide) (by decide +kernel) rfl q1442 rfl rfl rfl (by decide +kernel) (by omega) (by omega) (fun H17 h17 => ?_)
  refine U.mi (j := 17) (k := 25) (n := 50) (t := 1) (p2 := 150) (ins := .bipush 50) (atype := .int) (ty := .int) h17 hB hlen rfl (Or.inl rfl) (by decide +kernel) rfl rfl q591 rfl rfl (by decide) (by decide) (by decide +kernel) rfl q1443 rfl rfl rfl (by decide +kernel) (by omega) (by omega) (fun H18 h18 => ?_)
  refine U.mi (j := 18) (k := 26) (n := 50) (t := 1) (p2 := 158) (ins := .bipush 50) (atype := .int) (ty := .int) h18 hB hlen rfl (Or.inl rfl) (by decide +kernel) rfl rfl q591 rfl rfl (by decide) (by decide) (by decide +kernel) rfl q1444 rfl rfl rfl (by decide +kernel) (by omega) (by omega) (fun H19 h19 => ?_)
  refine U.mi (j := 19) (k := 27) (n := 50) (t := 1) (p2 := 166) (ins := .bipush 50) (atype := .int) (ty := .int) h19 hB hlen rfl (Or.inl rfl) (by decide +kernel) rfl rfl q591 rfl rfl (by decide) (by decide) (by decide +kernel) rfl q1445 rfl rfl rfl (by decide +kernel) (by omega) (by omega) (fun H20 h20 => ?_)
  refine U.mi (j := 20) (k := 28) (n := 50) (t := 1) (p2 := 174) (ins := .bipush 50) (atype := .int) (ty := .int) h20 hB hlen rfl (Or.inl rfl) (by decide +kernel) rfl rfl q591 rfl rfl (by decide) (by decide) (by decide +kernel) rfl q1446 rfl rfl rfl (by decide +kernel) (by omega) (by omega) (fun H21 h21 => ?_)
  refine U.mi (j := 21) (k := 29) (n := 50) (t := 2) (p2 := 182) (ins := .bipush 50) (atype := .boolean) (ty := .boolean) h21 hB hlen rfl (Or.inr rfl) (by decide +kernel) rfl rfl q1602 rfl rfl (by decide) (by decide) (by decide +kernel) rfl q1447 rfl rfl rfl (by decide +kernel) (by omega) (by omega) (fun H22 h22 => ?_)
  refine U.mi (j := 22) (k := 30) (n := 50) (t := 2) (p2 := 190) (ins := .bipush 50) (atype := .boolean) (ty := .boolean) h22 hB hlen rfl (Or.inr rfl) (by decide +kernel) rfl rfl q1602 rfl rfl (by decide) (by decide) (by decide +kernel) rfl q1448 rfl rfl rfl (by decide +kernel) (by omega) (by omega) (fun H23 h23 => ?_)
  refine U.mi (j := 23) (k := 31) (n := 12) (t := 1) (p2 := 198) (ins := .bipush 12) (atype := .int) (ty := .int) h23 hB hlen rfl (Or.inl rfl) (by decide +kernel) rfl rfl q591 rfl rfl (by decide) (by decide) (by decide +kernel) rfl q1449 rfl rfl rfl (by decide +kernel) (by omega) (by omega) (fun H24 h24 => ?_)
  refine U.mi (j := 24) (k := 32) (n := 12) (t := 1) (p2 := 206) (ins := .bipush 12) (atype := .int) (ty := .int) h24 hB hlen rfl (Or.inl rfl) (by decide +kernel) rfl rfl q591 rfl rfl (by decide) (by decide) (by decide +kernel) rfl q1450 rfl rfl rfl (by decide +kernel) (by omega) (by omega) (fun H25 h25 => ?_)
  refine U.mi (j := 25) (k := 33) (n := 30) (t := 1) (p2 := 214) (ins := .bipush 30) (atype := .int) (ty := .int) h25 hB hlen rfl (Or.inl rfl) (by decide +kernel) rfl rfl q591 rfl rfl (by decide) (by decide) (by decide +kernel) rfl q1451 rfl rfl rfl (by decide +kernel) (by omega) (by omega) (fun H26 h26 => ?_)
  refine U.mi (j := 26) (k := 34) (n := 30) (t := 1) (p2 := 222) (ins := .bipush 30) (atype := .int) (ty := .int) h26 hB hlen rfl (Or.inl rfl) (by decide +kernel) rfl rfl q591 rfl rfl (by decide) (by decide) (by decide +kernel) rfl q1452 rfl rfl rfl (by decide +kernel) (by omega) (by omega) (fun H27 h27 => ?_)
  refine U.mi (j := 27) (k := 41) (n := 64) (t := 1) (p2 := 230) (ins := .bipush 64) (atype := .int) (ty := .int) h27 hB hlen rfl (Or.inl rfl) (by decide +kernel) rfl rfl q591 rfl rfl (by decide) (by decide) (by decide +kernel) rfl q1459 rfl rfl rfl (by decide +kernel) (by omega) (by omega) (fun H28 h28 => ?_)
  refine U.mi (j := 28) (k := 42) (n := 64) (t := 1) (p2 := 238) (ins := .bipush 64) (atype := .int) (ty := .int) h28 hB hlen rfl (Or.inl rfl) (by decide +kernel) rfl rfl q591 rfl rfl (by decide) (by decide) (by decide +kernel) rfl q1460 rfl rfl rfl (by decide +kernel) (by omega) (by omega) (fun H29 h29 => ?_)
  refine U.mi (j := 29) (k := 43) (n := 9000) (t := 1) (p2 := 247) (ins := .sipush 9000) (atype := .int) (ty := .int) h29 hB hlen rfl (Or.inl rfl) (by decide +kernel) rfl rfl q591 rfl rfl (by decide) (by decide) (by decide +kernel) rfl q1461 rfl rfl rfl (by decide +kernel) (by omega) (by omega) (fun H30 h30 => ?_)
  refine U.mi (j := 30) (k := 44) (n := 9000) (t := 1) (p2 := 256) (ins := .sipush 9000) (atype := .int) (ty := .int) h30 hB hlen rfl (Or.inl rfl) (by decide +kernel) rfl rfl q591 rfl rfl (by decide) (by decide) (by decide +kernel) rfl q1462 rfl rfl rfl (by decide +kernel) (by omega) (by omega) (fun H31 h31 => ?_)
  refine U.mi (j := 31) (k := 56) (n := 1000) (t := 1) (p2 := 265) (ins := .sipush 1000) (atype := .int) (ty := .int) h31 hB hlen rfl (Or.inl rfl) (by decide +kernel) rfl rfl q591 rfl rfl (by decide) (by decide) (by decide +kernel) rfl q1474 rfl rfl rfl (by decide +kernel) (by omega) (by omega) (fun H32 h32 => ?_)
  refine U.vret rfl (by decide +kernel) ?_
  have hq := kk H32 h32
  simp only [Nat.sub_sub] at hq ⊢
  exact hq
end MInit
