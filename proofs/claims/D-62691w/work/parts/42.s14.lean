set_option maxRecDepth 100000
/-! the system: X14_number, X15_isDigit, X15_grow, X15_reckon -/
def jr_number_L11 (bb : Nat × Nat) (u0 : Nat) : Nat → ST → Option (ST)
  | 0, _ => none
  | n + 1, σ => gd (sc σ u0 = 14) (Option.bind (jr_look u0 σ) fun y15 => Option.bind (jr_isNumberSign y15) fun y16 => gd (rg y16) (if y16 = 0 then (some σ) else (Option.bind (jr_look u0 σ) fun y20 => Option.bind (sR σ 211 u0) fun p21 => gd (sc σ p21 = 4) (Option.bind (r_add bb p21 y20 σ) fun y24 => gd (sc y24 u0 = 14) (nm (pI y24 210 u0 ((sI y24 210 u0) + 1)) fun σ26 => jr_number_L11 bb u0 n σ26)))))
def jr_number (bb : Nat × Nat) (a0 : Nat) (σ : ST) : Option (Option Nat × ST) := gd (sc σ a0 = 14) (Option.bind (jr_blanks bb a0 σ) fun y2 => gd (sc y2 a0 = 14) (Option.bind (sR y2 211 a0) fun p4 => gd (sc y2 p4 = 4) (Option.bind (r_clear p4 y2) fun y7 => Option.bind (jr_number_L11 bb a0 FU y7) fun (v8 : ST) => gd (sc v8 a0 = 14) (some ((sR v8 211 a0, v8))))))
set_option maxHeartbeats 4000000 in
theorem jr_number_L11_ok {g : GE} (G : GG g) {τ : TT} {Q : VQ} (d : Nat) (hd1 : 3 ≤ d) (u0 : Nat)  {K : ST → Prop} (hE45 : ∀ v13 : ST, K (v13) → V g mX14_number d 45 [(0, vr (some u0))] [] v13 τ Q) : ∀ (n : Nat) (σ : ST), Sm (V g mX14_number d 11 [(0, vr (some u0))] [] σ τ Q) (jr_number_L11 (gRm g) u0 n σ) K := by
  intro n
  induction n with
  | zero => intro σ; exact sm_none
  | succ n ih =>
    intro σ
    rw [jr_number_L11.eq_2]
    refine sm_b (l' := [(0, vr (some u0))]) (st' := [vr (some u0)]) (pc' := 12) [(.aload_n 0, vi 0, 12)] (by decide +kernel) rfl rfl ?_
    refine sm_gd (fun h14 => ?_)
    refine sm_cv (N := mX14_look) (d' := d - 1) (fun r => (some (vi r))) (fun _ => σ) (fun _ => τ) [] [] rfl (by decide +kernel) q1233 q1235 qs35 (Or.inl ⟨rfl, q1236⟩) (show okN yX14_look 0 = true by decide +kernel) (fun H hR => hR.rv G.1 cd13 rfl h14) rfl rfl (by omega) rfl (fun Q' => jr_look_ok G (d - 1) (by omega) u0 σ Q') (fun y15 => ?_)
    refine sm_cs (N := mX14_isNumberSign) (d' := d - 1) (fun r => (some (vi r))) (fun _ => σ) (fun _ => τ) [vi y15] [] rfl (by decide +kernel) q1332 q1333 q162 (Or.inl ⟨rfl, q1334⟩) (show okN yX14_isNumberSign 1 = true by decide +kernel) rfl rfl (by omega) rfl (fun Q' => jr_isNumberSign_ok G (d - 1) (by omega) y15 σ Q') (fun y16 => ?_)
    refine sm_gd (fun h17 => ?_)
    refine sm_case (V g mX14_number d 45 [(0, vr (some u0))] [] σ τ Q) (V g mX14_number d 21 [(0, vr (some u0))] [] σ τ Q) ?_ ?_ (fun f27 p28 n29 => ?_)
    · exact sm_leaf (fun h => hE45 _ h)
    · refine sm_b (l' := [(0, vr (some u0))]) (st' := [vr (some u0)]) (pc' := 22) [(.aload_n 0, vi 0, 22)] (by decide +kernel) rfl rfl ?_
      refine sm_g (k := 3) (x := vr (sR σ 211 u0)) cd13 rfl h14 rfl q1203 rfl (by decide +kernel) ?_
      refine sm_b (l' := [(0, vr (some u0))]) (st' := [vr (some u0), vr (sR σ 211 u0)]) (pc' := 26) [(.aload_n 0, vi 0, 26)] (by decide +kernel) rfl rfl ?_
      refine sm_cv (N := mX14_look) (d' := d - 1) (fun r => (some (vi r))) (fun _ => σ) (fun _ => τ) [] [vr (sR σ 211 u0)] rfl (by decide +kernel) q1233 q1235 qs35 (Or.inl ⟨rfl, q1236⟩) (show okN yX14_look 0 = true by decide +kernel) (fun H hR => hR.rv G.1 cd13 rfl h14) rfl rfl (by omega) rfl (fun Q' => jr_look_ok G (d - 1) (by omega) u0 σ Q') (fun y20 => ?_)
      refine sm_de (fun p21 h22 => ?_)
      refine sm_st [vi y20, vr (some p21)] (by rw [h22] <;> rfl) ?_
      refine sm_gd (fun h23 => ?_)
      refine sm_cv (N := mX3_add) (d' := d - 1) (fun r => none) (fun r => r) (fun _ => τ) [vi y20] [] rfl (by decide +kernel) q1259 q535 q536 (Or.inl ⟨rfl, q537⟩) (show okN yX3_add 1 = true by decide +kernel) (fun H hR => hR.rvR G.1 h23) rfl rfl (by omega) rfl (fun Q' => r_add_ok G (d - 1) (by omega) p21 y20 σ Q') (fun y24 => ?_)
      refine sm_b (l' := [(0, vr (some u0))]) (st' := [vr (some u0), vr (some u0)]) (pc' := 34) [(.aload_n 0, vi 0, 33), (.dup, vi 0, 34)] (by decide +kernel) rfl rfl ?_
      refine sm_gd (fun h25 => ?_)
      refine sm_g (k := 2) (x := vi (sI y24 210 u0)) cd13 rfl h25 rfl q1202 rfl (by decide +kernel) ?_
      refine sm_b (l' := [(0, vr (some u0))]) (st' := [vi ((sI y24 210 u0) + 1), vr (some u0)]) (pc' := 39) [(.iconst 1, vi 1, 38), (.iadd, vi 0, 39)] (by decide +kernel) rfl rfl ?_
      refine sm_p (k := 2) (x := vi ((sI y24 210 u0) + 1)) cd13 rfl h25 rfl q1202 rfl (nar_i _) (fit_i _) rfl (at_pI y24 210 u0 ((sI y24 210 u0) + 1)) (fp_210 y24 u0 ((sI y24 210 u0) + 1)) (by decide +kernel) ?_
      refine sm_nms (fun σ26 => ?_)
      refine sm_b (l' := [(0, vr (some u0))]) (st' := []) (pc' := 11) [(.goto (-31), vi 0, 11)] (by decide +kernel) rfl rfl ?_
      exact ih σ26
    refine sm_if_eq (off := 27) (tgt := 45) h17 (by decide +kernel) (fun c30 => ?_) (fun c30 => ?_)
    · exact p28 c30
    · exact n29 c30
set_option maxHeartbeats 4000000 in
theorem jr_number_ok {g : GE} (G : GG g) {τ : TT} (d : Nat) (hd1 : 3 ≤ d) (a0 : Nat)  (σ : ST) (Q : VQ) : Sm (V g mX14_number d 0 [(0, vr (some a0))] [] σ τ Q) (jr_number (gRm g) a0 σ) (fun r => Q.1 (some (vr r.1)) r.2 τ) := by
  unfold jr_number
  refine sm_top (fun K hRET => ?_)
  refine sm_b (l' := [(0, vr (some a0))]) (st' := [vr (some a0)]) (pc' := 1) [(.aload_n 0, vi 0, 1)] (by decide +kernel) rfl rfl ?_
  refine sm_gd (fun h1 => ?_)
  refine sm_cv (N := mX14_blanks) (d' := d - 1) (fun r => none) (fun r => r) (fun _ => τ) [] [] rfl (by decide +kernel) q1229 q1231 qs34 (Or.inl ⟨rfl, q1232⟩) (show okN yX14_blanks 0 = true by decide +kernel) (fun H hR => hR.rv G.1 cd13 rfl h1) rfl rfl (by omega) rfl (fun Q' => jr_blanks_ok G (d - 1) (by omega) a0 σ Q') (fun y2 => ?_)
  refine sm_b (l' := [(0, vr (some a0))]) (st' := [vr (some a0)]) (pc' := 5) [(.aload_n 0, vi 0, 5)] (by decide +kernel) rfl rfl ?_
  refine sm_gd (fun h3 => ?_)
  refine sm_g (k := 3) (x := vr (sR y2 211 a0)) cd13 rfl h3 rfl q1203 rfl (by decide +kernel) ?_
  refine sm_de (fun p4 h5 => ?_)
  refine sm_st [vr (some p4)] (by rw [h5] <;> rfl) ?_
  refine sm_gd (fun h6 => ?_)
  refine sm_cv (N := mX3_clear) (d' := d - 1) (fun r => none) (fun r => r) (fun _ => τ) [] [] rfl (by decide +kernel) q1254 q1099 q1100 (Or.inl ⟨rfl, q1101⟩) (show okN yX3_clear 0 = true by decide +kernel) (fun H hR => hR.rvR G.1 h6) rfl rfl (by omega) rfl (fun Q' => r_clear_ok G (d - 1) (by omega) p4 y2 Q') (fun y7 => ?_)
  refine sm_bind1 (fun (v8 : ST) => V g mX14_number d 45 [(0, vr (some a0))] [] v8 τ Q) (fun v8 => ?_) (fun K9 j10 => ?_)
  · refine sm_b (l' := [(0, vr (some a0))]) (st' := [vr (some a0)]) (pc' := 46) [(.aload_n 0, vi 0, 46)] (by decide +kernel) rfl rfl ?_
    refine sm_gd (fun h12 => ?_)
    refine sm_g (k := 3) (x := vr (sR v8 211 a0)) cd13 rfl h12 rfl q1203 rfl (by decide +kernel) ?_
    exact sm_aret rfl rfl (by decide +kernel) (fun h => hRET _ h)
  · exact jr_number_L11_ok G d hd1 a0  (fun _ h => j10 _ h) FU y7
def wh_isDigit (a1 : Int) : Option (Int) := gd (rg a1) (if (a1 < 48) ∨ (57 < a1) then (some 0) else (some 1))
set_option maxHeartbeats 4000000 in
theorem wh_isDigit_ok {g : GE} (G : GG g) {τ : TT} (d : Nat) (hd1 : 0 ≤ d) (a1 : Int)  (σ : ST) (Q : VQ) : Sm (V g mX15_isDigit d 0 [(0, vi a1)] [] σ τ Q) (wh_isDigit a1) (fun r => Q.1 (some (vi r)) σ τ) := by
  unfold wh_isDigit
  refine sm_top (fun K hRET => ?_)
  refine sm_b (l' := [(0, vi a1)]) (st' := [vi 48, vi a1]) (pc' := 3) [(.iload_n 0, vi 0, 1), (.bipush 48, vi 48, 3)] (by decide +kernel) rfl rfl ?_
  refine sm_gd (fun h1 => ?_)
  refine sm_case (V g mX15_isDigit d 16 [(0, vi a1)] [] σ τ Q) (V g mX15_isDigit d 12 [(0, vi a1)] [] σ τ Q) ?_ ?_ (fun f5 p6 n7 => ?_)
  · refine sm_b (l' := [(0, vi a1)]) (st' := [vi 0]) (pc' := 17) [(.iconst 0, vi 0, 17)] (by decide +kernel) rfl rfl ?_
    exact sm_zret rfl (by decide +kernel) (by decide) (fun h => hRET _ h)
  · refine sm_b (l' := [(0, vi a1)]) (st' := [vi 1]) (pc' := 17) [(.iconst 1, vi 1, 13), (.goto 4, vi 0, 17)] (by decide +kernel) rfl rfl ?_
    exact sm_zret rfl (by decide +kernel) (by decide) (fun h => hRET _ h)
  refine sm_icmp_lt (off := 13) (tgt := 16) h1 (by decide) (by decide +kernel) (fun c8 => ?_) (fun c8 => ?_)
  · exact p6 (Or.inl c8)
  · refine sm_b (l' := [(0, vi a1)]) (st' := [vi 57, vi a1]) (pc' := 9) [(.iload_n 0, vi 0, 7), (.bipush 57, vi 57, 9)] (by decide +kernel) rfl rfl ?_
    refine sm_icmp_gt (off := 7) (tgt := 16) h1 (by decide) (by decide +kernel) (fun c9 => ?_) (fun c9 => ?_)
    · exact p6 (Or.inr c9)
    · exact n7 (fun q => q.elim c8 c9)
def wh_grow (bb : Nat × Nat) (a0 : Nat) (a1 : Int) (σ : ST) : Option (Int × ST) := gd (sc σ a0 = 15) (Option.bind (jl_compareUnsigned (sJ σ 226 a0) 1844674407370955161) fun y2 => gd (rg y2) (if y2 ≤ 0 then (nm (10 * (sJ σ 226 a0)) fun x6 => Option.bind (jl_compareUnsigned (x6 + (iL a1)) x6) fun y7 => gd (rg y7) (if 0 ≤ y7 then (nm (pJ σ 226 a0 (x6 + (iL a1))) fun σ11 => some ((1, σ11))) else (some ((0, σ))))) else (some ((0, σ)))))
set_option maxHeartbeats 4000000 in
theorem wh_grow_ok {g : GE} (G : GG g) {τ : TT} (d : Nat) (hd1 : 2 ≤ d) (a0 : Nat) (a1 : Int)  (σ : ST) (Q : VQ) : Sm (V g mX15_grow d 0 [(0, vr (some a0)), (1, vi a1)] [] σ τ Q) (wh_grow (gRm g) a0 a1 σ) (fun r => Q.1 (some (vi r.1)) r.2 τ) := by
  unfold wh_grow
  refine sm_top (fun K hRET => ?_)
  refine sm_b (l' := [(0, vr (some a0)), (1, vi a1)]) (st' := [vr (some a0)]) (pc' := 1) [(.aload_n 0, vi 0, 1)] (by decide +kernel) rfl rfl ?_
  refine sm_gd (fun h1 => ?_)
  refine sm_g (k := 2) (x := vl (sJ σ 226 a0)) cd14 rfl h1 rfl q1191 rfl (by decide +kernel) ?_
  refine sm_ldc2 (by decide +kernel) q1357 ?_
  refine sm_cs (N := mJ15_compareUnsigned) (d' := d - 1) (fun r => (some (vi r))) (fun _ => σ) (fun _ => τ) [vl (sJ σ 226 a0), vl 1844674407370955161] [] rfl (by decide +kernel) q1358 q1153 q161 (Or.inl ⟨rfl, q1154⟩) (show okN yJ15_compareUnsigned 2 = true by decide +kernel) rfl rfl (by omega) rfl (fun Q' => jl_compareUnsigned_ok G (d - 1) (by omega) (sJ σ 226 a0) 1844674407370955161 τ Q') (fun y2 => ?_)
  refine sm_gd (fun h3 => ?_)
  refine sm_case (V g mX15_grow d 15 [(0, vr (some a0)), (1, vi a1)] [] σ τ Q) (V g mX15_grow d 13 [(0, vr (some a0)), (1, vi a1)] [] σ τ Q) ?_ ?_ (fun f16 p17 n18 => ?_)
  · refine sm_ldc2 (by decide +kernel) q1344 ?_
    refine sm_b (l' := [(0, vr (some a0)), (1, vi a1)]) (st' := [vr (some a0), vl 10]) (pc' := 19) [(.aload_n 0, vi 0, 19)] (by decide +kernel) rfl rfl ?_
    refine sm_g (k := 2) (x := vl (sJ σ 226 a0)) cd14 rfl h1 rfl q1191 rfl (by decide +kernel) ?_
    refine sm_b (l' := [(0, vr (some a0)), (1, vi a1)]) (st' := [vl (10 * (sJ σ 226 a0))]) (pc' := 23) [(.lmul, vi 0, 23)] (by decide +kernel) rfl rfl ?_
    refine sm_nml (fun x6 => ?_)
    refine sm_b (l' := [(0, vr (some a0)), (1, vi a1), (2, vl x6)]) (st' := [vl x6, vl (x6 + (iL a1))]) (pc' := 29) [(.lstore_n 2, vi 0, 24), (.lload_n 2, vi 0, 25), (.iload_n 1, vi 0, 26), (.i2l, vi 0, 27), (.ladd, vi 0, 28), (.lload_n 2, vi 0, 29)] (by decide +kernel) rfl rfl ?_
    refine sm_cs (N := mJ15_compareUnsigned) (d' := d - 1) (fun r => (some (vi r))) (fun _ => σ) (fun _ => τ) [vl (x6 + (iL a1)), vl x6] [] rfl (by decide +kernel) q1358 q1153 q161 (Or.inl ⟨rfl, q1154⟩) (show okN yJ15_compareUnsigned 2 = true by decide +kernel) rfl rfl (by omega) rfl (fun Q' => jl_compareUnsigned_ok G (d - 1) (by omega) (x6 + (iL a1)) x6 τ Q') (fun y7 => ?_)
    refine sm_gd (fun h8 => ?_)
    refine sm_case (V g mX15_grow d 37 [(0, vr (some a0)), (1, vi a1), (2, vl x6)] [] σ τ Q) (V g mX15_grow d 35 [(0, vr (some a0)), (1, vi a1), (2, vl x6)] [] σ τ Q) ?_ ?_ (fun f12 p13 n14 => ?_)
    · refine sm_b (l' := [(0, vr (some a0)), (1, vi a1), (2, vl x6)]) (st' := [vl (x6 + (iL a1)), vr (some a0)]) (pc' := 42) [(.aload_n 0, vi 0, 38), (.lload_n 2, vi 0, 39), (.iload_n 1, vi 0, 40), (.i2l, vi 0, 41), (.ladd, vi 0, 42)] (by decide +kernel) rfl rfl ?_
      refine sm_p (k := 2) (x := vl (x6 + (iL a1))) cd14 rfl h1 rfl q1191 rfl (nar_j _) (fit_j _) rfl (at_pJ σ 226 a0 (x6 + (iL a1))) (fp_226 σ a0 (x6 + (iL a1))) (by decide +kernel) ?_
      refine sm_nms (fun σ11 => ?_)
      refine sm_b (l' := [(0, vr (some a0)), (1, vi a1), (2, vl x6)]) (st' := [vi 1]) (pc' := 46) [(.iconst 1, vi 1, 46)] (by decide +kernel) rfl rfl ?_
      exact sm_zret rfl (by decide +kernel) (by decide) (fun h => hRET _ h)
    · refine sm_b (l' := [(0, vr (some a0)), (1, vi a1), (2, vl x6)]) (st' := [vi 0]) (pc' := 36) [(.iconst 0, vi 0, 36)] (by decide +kernel) rfl rfl ?_
      exact sm_zret rfl (by decide +kernel) (by decide) (fun h => hRET _ h)
    refine sm_if_ge (off := 5) (tgt := 37) h8 (by decide +kernel) (fun c15 => ?_) (fun c15 => ?_)
    · exact p13 c15
    · exact n14 c15
  · refine sm_b (l' := [(0, vr (some a0)), (1, vi a1)]) (st' := [vi 0]) (pc' := 14) [(.iconst 0, vi 0, 14)] (by decide +kernel) rfl rfl ?_
    exact sm_zret rfl (by decide +kernel) (by decide) (fun h => hRET _ h)
  refine sm_if_le (off := 5) (tgt := 15) h3 (by decide +kernel) (fun c19 => ?_) (fun c19 => ?_)
  · exact p17 c19
  · exact n18 c19
def wh_reckon_L106 (bb : Nat × Nat) (u0 : Nat) (u7 : Int64) : Nat → Int64 → Int → ST → Option (Int × ST)
  | 0, _, _, _ => none
  | n + 1, w9, w11, σ => gd (¬ (u7 ≤ w9) → rg w11) (gd (¬ ((u7 ≤ w9) ∨ (w11 = 0)) → sc σ u0 = 15) (if ((u7 ≤ w9) ∨ (w11 = 0)) ∨ ((sJ σ 226 u0) = 0) then (some ((w11, σ))) else (gd (sc σ u0 = 15) (Option.bind (wh_grow bb u0 0 σ) fun y20 => nm (w9 + 1) fun x21 => wh_reckon_L106 bb u0 u7 n x21 y20.1 y20.2))))
def wh_reckon_L18 (bb : Nat × Nat) (u0 : Nat) (u1 : Option Nat) (u3 : Int) (u4 : Int) (u7 : Int64) : Nat → Int64 → Int → Int → ST → Option (Int64 × Int × ST)
  | 0, _, _, _, _ => none
  | n + 1, w9, w11, w12, σ => gd (rg w12) (gd (rg u4) (if u4 ≤ w12 then (some ((w9, w11, σ))) else (Option.bind (gd (rg u3) (if w12 = u3 then (some ((w9, w11, σ))) else (Option.bind u1 fun p44 => gd (sc σ p44 = 4) (Option.bind (row_at p44 w12 σ) fun y47 => nm (y47 - 48) fun x48 => Option.bind (if w9 < u7 then (Option.bind (gd (rg w11) (if w11 = 0 then (some ((0, σ))) else (gd (sc σ u0 = 15) (Option.bind (wh_grow bb u0 x48 σ) fun y65 => gd (rg y65.1) (if y65.1 = 0 then (some ((0, y65.2))) else (some ((1, y65.2)))))))) fun (v60 : Int × ST) => some ((v60.1, v60.2))) else (Option.bind (gd (rg w11) (gd (¬ (w11 = 0) → rg x48) (if (w11 = 0) ∨ (¬ (x48 = 0)) then (some 0) else (some 1)))) fun (v81 : Int) => some ((v81, σ)))) fun (v53 : Int × ST) => nm (w9 + 1) fun x57 => some ((x57, v53.1, v53.2)))))) fun (v40 : Int64 × Int × ST) => wh_reckon_L18 bb u0 u1 u3 u4 u7 n v40.1 v40.2.1 (w12 + 1) v40.2.2)))
def wh_reckon (bb : Nat × Nat) (a0 : Nat) (a1 : Option Nat) (a2 : Int) (a3 : Int) (a4 : Int) (a5 : Int64) (σ : ST) : Option (ST) := nm ((iL (a3 - a2)) + a5) fun x1 => Option.bind (wh_reckon_L18 bb a0 a1 a3 a4 x1 FU 0 1 a2 σ) fun (v2 : Int64 × Int × ST) => Option.bind (wh_reckon_L106 bb a0 x1 FU v2.1 v2.2.1 v2.2.2) fun (v6 : Int × ST) => gd (sc v6.2 a0 = 15) (gd (zb v6.1) (nm (pI v6.2 224 a0 v6.1) fun σ12 => some σ12))
set_option maxHeartbeats 4000000 in
theorem wh_reckon_L106_ok {g : GE} (G : GG g) {τ : TT} {Q : VQ} (d : Nat) (hd1 : 3 ≤ d) (u0 : Nat) (u7 : Int64)  {K : Int × ST → Prop} (hE144 : ∀ v13 : Int × ST, K (v13) → V g mX15_reckon d 144 [(0, vr (some u0)), (11, vi v13.1)] [] v13.2 τ Q) : ∀ (n : Nat) (w9 : Int64) (w11 : Int) (σ : ST), Sm (V g mX15_reckon d 106 [(0, vr (some u0)), (7, vl u7), (9, vl w9), (11, vi w11)] [] σ τ Q) (wh_reckon_L106 (gRm g) u0 u7 n w9 w11 σ) K := by
  intro n
  induction n with
  | zero => intro w9 w11 σ; exact sm_none
  | succ n ih =>
    intro w9 w11 σ
    rw [wh_reckon_L106.eq_2]
    refine sm_b (l' := [(0, vr (some u0)), (7, vl u7), (9, vl w9), (11, vi w11)]) (st' := [vl u7, vl w9]) (pc' := 110) [(.lload 9, vi 0, 108), (.lload 7, vi 0, 110)] (by decide +kernel) rfl rfl ?_
    refine sm_gd (fun h15 => ?_)
    refine sm_gd (fun h17 => ?_)
    refine sm_case (V g mX15_reckon d 144 [(0, vr (some u0)), (7, vl u7), (9, vl w9), (11, vi w11)] [] σ τ Q) (V g mX15_reckon d 128 [(0, vr (some u0)), (7, vl u7), (9, vl w9), (11, vi w11)] [] σ τ Q) ?_ ?_ (fun f22 p23 n24 => ?_)
    · refine sm_pick [0, 3] (l' := [(0, vr (some u0)), (11, vi w11)]) rfl ?_
      exact sm_leaf (fun h => hE144 _ h)
    · refine sm_b (l' := [(0, vr (some u0)), (7, vl u7), (9, vl w9), (11, vi w11)]) (st' := [vi 0, vr (some u0)]) (pc' := 130) [(.aload_n 0, vi 0, 129), (.iconst 0, vi 0, 130)] (by decide +kernel) rfl rfl ?_
      refine sm_gd (fun h19 => ?_)
      refine sm_cv (N := mX15_grow) (d' := d - 1) (fun r => (some (vi r.1))) (fun r => r.2) (fun _ => τ) [vi 0] [] rfl (by decide +kernel) q1353 q1355 qs47 (Or.inl ⟨rfl, q1356⟩) (show okN yX15_grow 1 = true by decide +kernel) (fun H hR => hR.rv G.1 cd14 rfl h19) rfl rfl (by omega) rfl (fun Q' => wh_grow_ok G (d - 1) (by omega) u0 0 σ Q') (fun y20 => ?_)
      refine sm_b (l' := [(0, vr (some u0)), (7, vl u7), (9, vl w9), (11, vi y20.1)]) (st' := [vl (w9 + 1)]) (pc' := 139) [(.istore 11, vi 0, 135), (.lload 9, vi 0, 137), (.lconst 1, vl 1, 138), (.ladd, vi 0, 139)] (by decide +kernel) rfl rfl ?_
      refine sm_nml (fun x21 => ?_)
      refine sm_b (l' := [(0, vr (some u0)), (7, vl u7), (9, vl x21), (11, vi y20.1)]) (st' := []) (pc' := 106) [(.lstore 9, vi 0, 141), (.goto (-35), vi 0, 106)] (by decide +kernel) rfl rfl ?_
      exact ih x21 y20.1 y20.2
    refine sm_lc_ge (off := 33) (tgt := 144) (by decide +kernel) (by decide +kernel) (fun c25 => ?_) (fun c25 => ?_)
    · exact p23 (Or.inl (Or.inl c25))
    · have w14 : ¬ (u7 ≤ w9) := c25
      refine sm_b (l' := [(0, vr (some u0)), (7, vl u7), (9, vl w9), (11, vi w11)]) (st' := [vi w11]) (pc' := 116) [(.iload 11, vi 0, 116)] (by decide +kernel) rfl rfl ?_
      refine sm_if_eq (off := 28) (tgt := 144) (h15 w14) (by decide +kernel) (fun c26 => ?_) (fun c26 => ?_)
      · exact p23 (Or.inl (Or.inr c26))
      · have w16 : ¬ ((u7 ≤ w9) ∨ (w11 = 0)) := (fun q => q.elim c25 c26)
        refine sm_b (l' := [(0, vr (some u0)), (7, vl u7), (9, vl w9), (11, vi w11)]) (st' := [vr (some u0)]) (pc' := 120) [(.aload_n 0, vi 0, 120)] (by decide +kernel) rfl rfl ?_
        refine sm_g (k := 2) (x := vl (sJ σ 226 u0)) cd14 rfl (h17 w16) rfl q1191 rfl (by decide +kernel) ?_
        refine sm_b (l' := [(0, vr (some u0)), (7, vl u7), (9, vl w9), (11, vi w11)]) (st' := [vl 0, vl (sJ σ 226 u0)]) (pc' := 124) [(.lconst 0, vl 0, 124)] (by decide +kernel) rfl rfl ?_
        refine sm_lc_eq (off := 19) (tgt := 144) (by decide +kernel) (by decide +kernel) (fun c27 => ?_) (fun c27 => ?_)
        · exact p23 (Or.inr c27)
        · exact n24 (fun q => q.elim (fun q => q.elim c25 c26) c27)
set_option maxHeartbeats 4000000 in
theorem wh_reckon_L18_ok {g : GE} (G : GG g) {τ : TT} {Q : VQ} (d : Nat) (hd1 : 3 ≤ d) (u0 : Nat) (u1 : Option Nat) (u3 : Int) (u4 : Int) (u7 : Int64)  {K : Int64 × Int × ST → Prop} (hE106 : ∀ v28 : Int64 × Int × ST, K (v28) → V g mX15_reckon d 106 [(0, vr (some u0)), (7, vl u7), (9, vl v28.1), (11, vi v28.2.1)] [] v28.2.2 τ Q) : ∀ (n : Nat) (w9 : Int64) (w11 : Int) (w12 : Int) (σ : ST), Sm (V g mX15_reckon d 18 [(0, vr (some u0)), (1, vr u1), (3, vi u3), (4, vi u4), (7, vl u7), (9, vl w9), (11, vi w11), (12, vi w12)] [] σ τ Q) (wh_reckon_L18 (gRm g) u0 u1 u3 u4 u7 n w9 w11 w12 σ) K := by
  intro n
  induction n with
  | zero => intro w9 w11 w12 σ; exact sm_none
  | succ n ih =>
    intro w9 w11 w12 σ
    rw [wh_reckon_L18.eq_2]
    refine sm_b (l' := [(0, vr (some u0)), (1, vr u1), (3, vi u3), (4, vi u4), (7, vl u7), (9, vl w9), (11, vi w11), (12, vi w12)]) (st' := [vi u4, vi w12]) (pc' := 22) [(.iload 12, vi 0, 20), (.iload 4, vi 0, 22)] (by decide +kernel) rfl rfl ?_
    refine sm_gd (fun h29 => ?_)
    refine sm_gd (fun h30 => ?_)
    refine sm_case (V g mX15_reckon d 106 [(0, vr (some u0)), (1, vr u1), (3, vi u3), (4, vi u4), (7, vl u7), (9, vl w9), (11, vi w11), (12, vi w12)] [] σ τ Q) (V g mX15_reckon d 25 [(0, vr (some u0)), (1, vr u1), (3, vi u3), (4, vi u4), (7, vl u7), (9, vl w9), (11, vi w11), (12, vi w12)] [] σ τ Q) ?_ ?_ (fun f98 p99 n100 => ?_)
    · refine sm_pick [0, 4, 5, 6] (l' := [(0, vr (some u0)), (7, vl u7), (9, vl w9), (11, vi w11)]) rfl ?_
      exact sm_leaf (fun h => hE106 _ h)
    · refine sm_b (l' := [(0, vr (some u0)), (1, vr u1), (3, vi u3), (4, vi u4), (7, vl u7), (9, vl w9), (11, vi w11), (12, vi w12)]) (st' := [vi u3, vi w12]) (pc' := 28) [(.iload 12, vi 0, 27), (.iload_n 3, vi 0, 28)] (by decide +kernel) rfl rfl ?_
      refine sm_bind1 (fun (v40 : Int64 × Int × ST) => V g mX15_reckon d 100 [(0, vr (some u0)), (1, vr u1), (3, vi u3), (4, vi u4), (7, vl u7), (9, vl v40.1), (11, vi v40.2.1), (12, vi w12)] [] v40.2.2 τ Q) (fun v40 => ?_) (fun K41 j42 => ?_)
      · refine sm_b (l' := [(0, vr (some u0)), (1, vr u1), (3, vi u3), (4, vi u4), (7, vl u7), (9, vl v40.1), (11, vi v40.2.1), (12, vi (w12 + 1))]) (st' := []) (pc' := 18) [(.iinc 12 1, vi 1, 103), (.goto (-85), vi 0, 18)] (by decide +kernel) rfl rfl ?_
        exact ih v40.1 v40.2.1 (w12 + 1) v40.2.2
      · refine sm_gd (fun h33 => ?_)
        refine sm_case (V g mX15_reckon d 31 [(0, vr (some u0)), (1, vr u1), (3, vi u3), (4, vi u4), (7, vl u7), (9, vl w9), (11, vi w11), (12, vi w12)] [] σ τ Q) (V g mX15_reckon d 34 [(0, vr (some u0)), (1, vr u1), (3, vi u3), (4, vi u4), (7, vl u7), (9, vl w9), (11, vi w11), (12, vi w12)] [] σ τ Q) ?_ ?_ (fun f94 p95 n96 => ?_)
        · refine sm_b (l' := [(0, vr (some u0)), (1, vr u1), (3, vi u3), (4, vi u4), (7, vl u7), (9, vl w9), (11, vi w11), (12, vi w12)]) (st' := []) (pc' := 100) [(.goto 69, vi 0, 100)] (by decide +kernel) rfl rfl ?_
          exact sm_leaf (fun h => j42 _ h)
        · refine sm_b (l' := [(0, vr (some u0)), (1, vr u1), (3, vi u3), (4, vi u4), (7, vl u7), (9, vl w9), (11, vi w11), (12, vi w12)]) (st' := [vi w12, vr u1]) (pc' := 37) [(.aload_n 1, vi 0, 35), (.iload 12, vi 0, 37)] (by decide +kernel) rfl rfl ?_
          refine sm_de (fun p44 h45 => ?_)
          refine sm_st [vi w12, vr (some p44)] (by rw [h45] <;> rfl) ?_
          refine sm_gd (fun h46 => ?_)
          refine sm_cv (N := mX3_at) (d' := d - 1) (fun r => (some (vi r))) (fun _ => σ) (fun _ => τ) [vi w12] [] rfl (by decide +kernel) q1339 q710 q711 (Or.inl ⟨rfl, q712⟩) (show okN yX3_at 1 = true by decide +kernel) (fun H hR => hR.rvR G.1 h46) rfl rfl (by omega) rfl (fun Q' => row_at_ok G (d - 1) (by omega) p44 w12 σ Q') (fun y47 => ?_)
          refine sm_b (l' := [(0, vr (some u0)), (1, vr u1), (3, vi u3), (4, vi u4), (7, vl u7), (9, vl w9), (11, vi w11), (12, vi w12)]) (st' := [vi (y47 - 48)]) (pc' := 43) [(.bipush 48, vi 48, 42), (.isub, vi 0, 43)] (by decide +kernel) rfl rfl ?_
          refine sm_nmi (fun x48 => ?_)
          refine sm_b (l' := [(0, vr (some u0)), (1, vr u1), (3, vi u3), (4, vi u4), (7, vl u7), (9, vl w9), (11, vi w11), (12, vi w12), (13, vi x48)]) (st' := [vl u7, vl w9]) (pc' := 49) [(.istore 13, vi 0, 45), (.lload 9, vi 0, 47), (.lload 7, vi 0, 49)] (by decide +kernel) rfl rfl ?_
          refine sm_bind1 (fun (v53 : Int × ST) => V g mX15_reckon d 94 [(0, vr (some u0)), (1, vr u1), (3, vi u3), (4, vi u4), (7, vl u7), (9, vl w9), (11, vi v53.1), (12, vi w12)] [] v53.2 τ Q) (fun v53 => ?_) (fun K54 j55 => ?_)
          · refine sm_b (l' := [(0, vr (some u0)), (1, vr u1), (3, vi u3), (4, vi u4), (7, vl u7), (9, vl w9), (11, vi v53.1), (12, vi w12)]) (st' := [vl (w9 + 1)]) (pc' := 98) [(.lload 9, vi 0, 96), (.lconst 1, vl 1, 97), (.ladd, vi 0, 98)] (by decide +kernel) rfl rfl ?_
            refine sm_nml (fun x57 => ?_)
            refine sm_b (l' := [(0, vr (some u0)), (1, vr u1), (3, vi u3), (4, vi u4), (7, vl u7), (9, vl x57), (11, vi v53.1), (12, vi w12)]) (st' := []) (pc' := 100) [(.lstore 9, vi 0, 100)] (by decide +kernel) rfl rfl ?_
            exact sm_leaf (fun h => j42 _ h)
          · refine sm_case (V g mX15_reckon d 73 [(0, vr (some u0)), (1, vr u1), (3, vi u3), (4, vi u4), (7, vl u7), (9, vl w9), (11, vi w11), (12, vi w12), (13, vi x48)] [] σ τ Q) (V g mX15_reckon d 53 [(0, vr (some u0)), (1, vr u1), (3, vi u3), (4, vi u4), (7, vl u7), (9, vl w9), (11, vi w11), (12, vi w12), (13, vi x48)] [] σ τ Q) ?_ ?_ (fun f90 p91 n92 => ?_)
            · refine sm_b (l' := [(0, vr (some u0)), (1, vr u1), (3, vi u3), (4, vi u4), (7, vl u7), (9, vl w9), (11, vi w11), (12, vi w12), (13, vi x48)]) (st' := [vi w11]) (pc' := 75) [(.iload 11, vi 0, 75)] (by decide +kernel) rfl rfl ?_
              refine sm_bind1 (fun (v60 : Int × ST) => V g mX15_reckon d 92 [(0, vr (some u0)), (1, vr u1), (3, vi u3), (4, vi u4), (7, vl u7), (9, vl w9), (12, vi w12)] [vi v60.1] v60.2 τ Q) (fun v60 => ?_) (fun K61 j62 => ?_)
              · refine sm_b (l' := [(0, vr (some u0)), (1, vr u1), (3, vi u3), (4, vi u4), (7, vl u7), (9, vl w9), (12, vi w12), (11, vi v60.1)]) (st' := []) (pc' := 94) [(.istore 11, vi 0, 94)] (by decide +kernel) rfl rfl ?_
                refine sm_pick [0, 1, 2, 3, 4, 5, 7, 6] (l' := [(0, vr (some u0)), (1, vr u1), (3, vi u3), (4, vi u4), (7, vl u7), (9, vl w9), (11, vi v60.1), (12, vi w12)]) rfl ?_
                exact sm_leaf (fun h => j55 _ h)
              · refine sm_gd (fun h58 => ?_)
                refine sm_case (V g mX15_reckon d 91 [(0, vr (some u0)), (1, vr u1), (3, vi u3), (4, vi u4), (7, vl u7), (9, vl w9), (11, vi w11), (12, vi w12), (13, vi x48)] [] σ τ Q) (V g mX15_reckon d 78 [(0, vr (some u0)), (1, vr u1), (3, vi u3), (4, vi u4), (7, vl u7), (9, vl w9), (11, vi w11), (12, vi w12), (13, vi x48)] [] σ τ Q) ?_ ?_ (fun f72 p73 n74 => ?_)
                · refine sm_b (l' := [(0, vr (some u0)), (1, vr u1), (3, vi u3), (4, vi u4), (7, vl u7), (9, vl w9), (11, vi w11), (12, vi w12), (13, vi x48)]) (st' := [vi 0]) (pc' := 92) [(.iconst 0, vi 0, 92)] (by decide +kernel) rfl rfl ?_
                  refine sm_pick [0, 1, 2, 3, 4, 5, 7] (l' := [(0, vr (some u0)), (1, vr u1), (3, vi u3), (4, vi u4), (7, vl u7), (9, vl w9), (12, vi w12)]) rfl ?_
                  exact sm_leaf (fun h => j62 _ h)
                · refine sm_b (l' := [(0, vr (some u0)), (1, vr u1), (3, vi u3), (4, vi u4), (7, vl u7), (9, vl w9), (11, vi w11), (12, vi w12), (13, vi x48)]) (st' := [vi x48, vr (some u0)]) (pc' := 81) [(.aload_n 0, vi 0, 79), (.iload 13, vi 0, 81)] (by decide +kernel) rfl rfl ?_
                  refine sm_gd (fun h64 => ?_)
                  refine sm_cv (N := mX15_grow) (d' := d - 1) (fun r => (some (vi r.1))) (fun r => r.2) (fun _ => τ) [vi x48] [] rfl (by decide +kernel) q1353 q1355 qs47 (Or.inl ⟨rfl, q1356⟩) (show okN yX15_grow 1 = true by decide +kernel) (fun H hR => hR.rv G.1 cd14 rfl h64) rfl rfl (by omega) rfl (fun Q' => wh_grow_ok G (d - 1) (by omega) u0 x48 σ Q') (fun y65 => ?_)
                  refine sm_gd (fun h66 => ?_)
                  refine sm_case (V g mX15_reckon d 91 [(0, vr (some u0)), (1, vr u1), (3, vi u3), (4, vi u4), (7, vl u7), (9, vl w9), (11, vi w11), (12, vi w12), (13, vi x48)] [] y65.2 τ Q) (V g mX15_reckon d 87 [(0, vr (some u0)), (1, vr u1), (3, vi u3), (4, vi u4), (7, vl u7), (9, vl w9), (11, vi w11), (12, vi w12), (13, vi x48)] [] y65.2 τ Q) ?_ ?_ (fun f68 p69 n70 => ?_)
                  · refine sm_b (l' := [(0, vr (some u0)), (1, vr u1), (3, vi u3), (4, vi u4), (7, vl u7), (9, vl w9), (11, vi w11), (12, vi w12), (13, vi x48)]) (st' := [vi 0]) (pc' := 92) [(.iconst 0, vi 0, 92)] (by decide +kernel) rfl rfl ?_
                    refine sm_pick [0, 1, 2, 3, 4, 5, 7] (l' := [(0, vr (some u0)), (1, vr u1), (3, vi u3), (4, vi u4), (7, vl u7), (9, vl w9), (12, vi w12)]) rfl ?_
                    exact sm_leaf (fun h => j62 _ h)
                  · refine sm_b (l' := [(0, vr (some u0)), (1, vr u1), (3, vi u3), (4, vi u4), (7, vl u7), (9, vl w9), (11, vi w11), (12, vi w12), (13, vi x48)]) (st' := [vi 1]) (pc' := 92) [(.iconst 1, vi 1, 88), (.goto 4, vi 0, 92)] (by decide +kernel) rfl rfl ?_
                    refine sm_pick [0, 1, 2, 3, 4, 5, 7] (l' := [(0, vr (some u0)), (1, vr u1), (3, vi u3), (4, vi u4), (7, vl u7), (9, vl w9), (12, vi w12)]) rfl ?_
                    exact sm_leaf (fun h => j62 _ h)
                  refine sm_if_eq (off := 7) (tgt := 91) h66 (by decide +kernel) (fun c71 => ?_) (fun c71 => ?_)
                  · exact p69 c71
                  · exact n70 c71
                refine sm_if_eq (off := 16) (tgt := 91) h58 (by decide +kernel) (fun c75 => ?_) (fun c75 => ?_)
                · exact p73 c75
                · exact n74 c75
            · refine sm_b (l' := [(0, vr (some u0)), (1, vr u1), (3, vi u3), (4, vi u4), (7, vl u7), (9, vl w9), (11, vi w11), (12, vi w12), (13, vi x48)]) (st' := [vi w11]) (pc' := 55) [(.iload 11, vi 0, 55)] (by decide +kernel) rfl rfl ?_
              refine sm_bind1 (fun (v81 : Int) => V g mX15_reckon d 68 [(0, vr (some u0)), (1, vr u1), (3, vi u3), (4, vi u4), (7, vl u7), (9, vl w9), (12, vi w12)] [vi v81] σ τ Q) (fun v81 => ?_) (fun K82 j83 => ?_)
              · refine sm_b (l' := [(0, vr (some u0)), (1, vr u1), (3, vi u3), (4, vi u4), (7, vl u7), (9, vl w9), (12, vi w12), (11, vi v81)]) (st' := []) (pc' := 94) [(.istore 11, vi 0, 70), (.goto 24, vi 0, 94)] (by decide +kernel) rfl rfl ?_
                refine sm_pick [0, 1, 2, 3, 4, 5, 7, 6] (l' := [(0, vr (some u0)), (1, vr u1), (3, vi u3), (4, vi u4), (7, vl u7), (9, vl w9), (11, vi v81), (12, vi w12)]) rfl ?_
                exact sm_leaf (fun h => j55 _ h)
              · refine sm_gd (fun h76 => ?_)
                refine sm_gd (fun h78 => ?_)
                refine sm_case (V g mX15_reckon d 67 [(0, vr (some u0)), (1, vr u1), (3, vi u3), (4, vi u4), (7, vl u7), (9, vl w9), (11, vi w11), (12, vi w12), (13, vi x48)] [] σ τ Q) (V g mX15_reckon d 63 [(0, vr (some u0)), (1, vr u1), (3, vi u3), (4, vi u4), (7, vl u7), (9, vl w9), (11, vi w11), (12, vi w12), (13, vi x48)] [] σ τ Q) ?_ ?_ (fun f85 p86 n87 => ?_)
                · refine sm_b (l' := [(0, vr (some u0)), (1, vr u1), (3, vi u3), (4, vi u4), (7, vl u7), (9, vl w9), (11, vi w11), (12, vi w12), (13, vi x48)]) (st' := [vi 0]) (pc' := 68) [(.iconst 0, vi 0, 68)] (by decide +kernel) rfl rfl ?_
                  refine sm_pick [0, 1, 2, 3, 4, 5, 7] (l' := [(0, vr (some u0)), (1, vr u1), (3, vi u3), (4, vi u4), (7, vl u7), (9, vl w9), (12, vi w12)]) rfl ?_
                  exact sm_leaf (fun h => j83 _ h)
                · refine sm_b (l' := [(0, vr (some u0)), (1, vr u1), (3, vi u3), (4, vi u4), (7, vl u7), (9, vl w9), (11, vi w11), (12, vi w12), (13, vi x48)]) (st' := [vi 1]) (pc' := 68) [(.iconst 1, vi 1, 64), (.goto 4, vi 0, 68)] (by decide +kernel) rfl rfl ?_
                  refine sm_pick [0, 1, 2, 3, 4, 5, 7] (l' := [(0, vr (some u0)), (1, vr u1), (3, vi u3), (4, vi u4), (7, vl u7), (9, vl w9), (12, vi w12)]) rfl ?_
                  exact sm_leaf (fun h => j83 _ h)
                refine sm_if_eq (off := 12) (tgt := 67) h76 (by decide +kernel) (fun c88 => ?_) (fun c88 => ?_)
                · exact p86 (Or.inl c88)
                · have w77 : ¬ (w11 = 0) := c88
                  refine sm_b (l' := [(0, vr (some u0)), (1, vr u1), (3, vi u3), (4, vi u4), (7, vl u7), (9, vl w9), (11, vi w11), (12, vi w12), (13, vi x48)]) (st' := [vi x48]) (pc' := 60) [(.iload 13, vi 0, 60)] (by decide +kernel) rfl rfl ?_
                  refine sm_if_ne (off := 7) (tgt := 67) (h78 w77) (by decide +kernel) (fun c89 => ?_) (fun c89 => ?_)
                  · exact p86 (Or.inr c89)
                  · exact n87 (fun q => q.elim c88 (fun q => q c89))
            refine sm_lc_lt (off := 23) (tgt := 73) (by decide +kernel) (by decide +kernel) (fun c93 => ?_) (fun c93 => ?_)
            · exact p91 c93
            · exact n92 c93
        refine sm_icmp_ne (off := 6) (tgt := 34) h29 h33 (by decide +kernel) (fun c97 => ?_) (fun c97 => ?_)
        · exact n96 c97
        · exact p95 c97
    refine sm_icmp_ge (off := 84) (tgt := 106) h29 h30 (by decide +kernel) (fun c101 => ?_) (fun c101 => ?_)
    · exact p99 c101
    · exact n100 c101
set_option maxHeartbeats 4000000 in
theorem wh_reckon_ok {g : GE} (G : GG g) {τ : TT} (d : Nat) (hd1 : 3 ≤ d) (a0 : Nat) (a1 : Option Nat) (a2 : Int) (a3 : Int) (a4 : Int) (a5 : Int64)  (σ : ST) (Q : VQ) : Sm (V g mX15_reckon d 0 [(0, vr (some a0)), (1, vr a1), (2, vi a2), (3, vi a3), (4, vi a4), (5, vl a5)] [] σ τ Q) (wh_reckon (gRm g) a0 a1 a2 a3 a4 a5 σ) (fun r => Q.1 none r τ) := by
  unfold wh_reckon
  refine sm_top (fun K hRET => ?_)
  refine sm_b (l' := [(0, vr (some a0)), (1, vr a1), (2, vi a2), (3, vi a3), (4, vi a4), (5, vl a5)]) (st' := [vl ((iL (a3 - a2)) + a5)]) (pc' := 7) [(.iload_n 3, vi 0, 1), (.iload_n 2, vi 0, 2), (.isub, vi 0, 3), (.i2l, vi 0, 4), (.lload 5, vi 0, 6), (.ladd, vi 0, 7)] (by decide +kernel) rfl rfl ?_
  refine sm_nml (fun x1 => ?_)
  refine sm_b (l' := [(0, vr (some a0)), (1, vr a1), (2, vi a2), (3, vi a3), (4, vi a4), (5, vl a5), (7, vl x1), (9, vl 0), (11, vi 1), (12, vi a2)]) (st' := []) (pc' := 18) [(.lstore 7, vi 0, 9), (.lconst 0, vl 0, 10), (.lstore 9, vi 0, 12), (.iconst 1, vi 1, 13), (.istore 11, vi 0, 15), (.iload_n 2, vi 0, 16), (.istore 12, vi 0, 18)] (by decide +kernel) rfl rfl ?_
  refine sm_bind1 (fun (v2 : Int64 × Int × ST) => V g mX15_reckon d 106 [(0, vr (some a0)), (7, vl x1), (9, vl v2.1), (11, vi v2.2.1)] [] v2.2.2 τ Q) (fun v2 => ?_) (fun K3 j4 => ?_)
  · refine sm_bind1 (fun (v6 : Int × ST) => V g mX15_reckon d 144 [(0, vr (some a0)), (11, vi v6.1)] [] v6.2 τ Q) (fun v6 => ?_) (fun K7 j8 => ?_)
    · refine sm_b (l' := [(0, vr (some a0)), (11, vi v6.1)]) (st' := [vi v6.1, vr (some a0)]) (pc' := 147) [(.aload_n 0, vi 0, 145), (.iload 11, vi 0, 147)] (by decide +kernel) rfl rfl ?_
      refine sm_gd (fun h10 => ?_)
      refine sm_gd (fun h11 => ?_)
      refine sm_p (k := 0) (x := vi v6.1) cd14 rfl h10 rfl q1187 rfl (nar_z h11) (fit_z h11) rfl (at_pI v6.2 224 a0 v6.1) (fp_224 v6.2 a0 v6.1) (by decide +kernel) ?_
      refine sm_nms (fun σ12 => ?_)
      exact sm_vret rfl (by decide +kernel) (fun h => hRET _ h)
    · exact wh_reckon_L106_ok G d hd1 a0 x1  (fun _ h => j8 _ h) FU v2.1 v2.2.1 v2.2.2
  · refine sm_pick [0, 1, 3, 4, 6, 7, 8, 9] (l' := [(0, vr (some a0)), (1, vr a1), (3, vi a3), (4, vi a4), (7, vl x1), (9, vl 0), (11, vi 1), (12, vi a2)]) rfl ?_
    exact wh_reckon_L18_ok G d hd1 a0 a1 a3 a4 x1  (fun _ h => j4 _ h) FU 0 1 a2 σ
