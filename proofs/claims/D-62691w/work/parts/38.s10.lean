set_option maxRecDepth 100000
/-! the system: X13_text, X7_nameOf, X13_base64, X13_number, X13_slot -/
def jw_text_L8 (bb : Nat × Nat) (u0 : Option Nat) (u1 : Option Nat) : Nat → Int → ST → Option (ST)
  | 0, _, _ => none
  | n + 1, w2, σ => Option.bind u1 fun p12 => gd (sc σ p12 = 4) (gd (rg w2) (if ((((sW σ p12).length : Nat) : Int)) ≤ w2 then (some σ) else (Option.bind (row_at p12 w2 σ) fun y20 => Option.bind (gd (rg y20) (if (y20 = 34) ∨ (y20 = 92) then (Option.bind u0 fun p29 => gd (sc σ p29 = 4) (Option.bind (r_add bb p29 92 σ) fun y32 => gd (sc y32 p29 = 4) (Option.bind (r_add bb p29 y20 y32) fun y34 => some y34))) else (if 32 ≤ y20 then (Option.bind u0 fun p37 => gd (sc σ p37 = 4) (Option.bind (r_add bb p37 y20 σ) fun y40 => some y40)) else (Option.bind (jw_control bb u0 y20 σ) fun y41 => some y41)))) fun (v25 : ST) => jw_text_L8 bb u0 u1 n (w2 + 1) v25)))
def jw_text (bb : Nat × Nat) (a1 : Option Nat) (a2 : Option Nat) (σ : ST) : Option (ST) := Option.bind a1 fun p1 => gd (sc σ p1 = 4) (Option.bind (r_add bb p1 34 σ) fun y4 => Option.bind (jw_text_L8 bb a1 a2 FU 0 y4) fun (v5 : ST) => gd (sc v5 p1 = 4) (Option.bind (r_add bb p1 34 v5) fun y10 => some y10))
set_option maxHeartbeats 4000000 in
theorem jw_text_L8_ok {g : GE} (G : GG g) {τ : TT} {Q : VQ} (d : Nat) (hd1 : 8 ≤ d) (u0 : Option Nat) (u1 : Option Nat)  {K : ST → Prop} (hE73 : ∀ v11 : ST, K (v11) → V g mX13_text d 73 [(0, vr u0)] [] v11 τ Q) : ∀ (n : Nat) (w2 : Int) (σ : ST), Sm (V g mX13_text d 8 [(0, vr u0), (1, vr u1), (2, vi w2)] [] σ τ Q) (jw_text_L8 (gRm g) u0 u1 n w2 σ) K := by
  intro n
  induction n with
  | zero => intro w2 σ; exact sm_none
  | succ n ih =>
    intro w2 σ
    rw [jw_text_L8.eq_2]
    refine sm_b (l' := [(0, vr u0), (1, vr u1), (2, vi w2)]) (st' := [vr u1, vi w2]) (pc' := 10) [(.iload_n 2, vi 0, 9), (.aload_n 1, vi 0, 10)] (by decide +kernel) rfl rfl ?_
    refine sm_de (fun p12 h13 => ?_)
    refine sm_st [vr (some p12), vi w2] (by rw [h13] <;> rfl) ?_
    refine sm_gd (fun h14 => ?_)
    refine sm_rszN h14 q282 (by decide +kernel) ?_
    refine sm_rowf h14 (fun b15 b16 => ?_)
    refine sm_gd (fun h17 => ?_)
    refine sm_case (V g mX13_text d 73 [(0, vr u0), (1, vr u1), (2, vi w2)] [] σ τ Q) (V g mX13_text d 16 [(0, vr u0), (1, vr u1), (2, vi w2)] [] σ τ Q) ?_ ?_ (fun f51 p52 n53 => ?_)
    · refine sm_pick [0] (l' := [(0, vr u0)]) rfl ?_
      exact sm_leaf (fun h => hE73 _ h)
    · refine sm_b (l' := [(0, vr u0), (1, vr u1), (2, vi w2)]) (st' := [vi w2, vr u1]) (pc' := 18) [(.aload_n 1, vi 0, 17), (.iload_n 2, vi 0, 18)] (by decide +kernel) rfl rfl ?_
      refine sm_st [vi w2, vr (some p12)] (by rw [h13] <;> rfl) ?_
      refine sm_cv (N := mX3_at) (d' := d - 1) (fun r => (some (vi r))) (fun _ => σ) (fun _ => τ) [vi w2] [] rfl (by decide +kernel) q1113 q710 q711 (Or.inl ⟨rfl, q712⟩) (show okN yX3_at 1 = true by decide +kernel) (fun H hR => hR.rvR G.1 h14) rfl rfl (by omega) rfl (fun Q' => row_at_ok G (d - 1) (by omega) p12 w2 σ Q') (fun y20 => ?_)
      refine sm_b (l' := [(0, vr u0), (1, vr u1), (2, vi w2), (3, vi y20)]) (st' := [vi 34, vi y20]) (pc' := 25) [(.istore_n 3, vi 0, 22), (.iload_n 3, vi 0, 23), (.bipush 34, vi 34, 25)] (by decide +kernel) rfl rfl ?_
      refine sm_bind1 (fun (v25 : ST) => V g mX13_text d 67 [(0, vr u0), (1, vr u1), (2, vi w2)] [] v25 τ Q) (fun v25 => ?_) (fun K26 j27 => ?_)
      · refine sm_b (l' := [(0, vr u0), (1, vr u1), (2, vi (w2 + 1))]) (st' := []) (pc' := 8) [(.iinc 2 1, vi 1, 70), (.goto (-62), vi 0, 8)] (by decide +kernel) rfl rfl ?_
        exact ih (w2 + 1) v25
      · refine sm_gd (fun h21 => ?_)
        refine sm_case (V g mX13_text d 34 [(0, vr u0), (1, vr u1), (2, vi w2), (3, vi y20)] [] σ τ Q) (V g mX13_text d 48 [(0, vr u0), (1, vr u1), (2, vi w2), (3, vi y20)] [] σ τ Q) ?_ ?_ (fun f46 p47 n48 => ?_)
        · refine sm_b (l' := [(0, vr u0), (1, vr u1), (2, vi w2), (3, vi y20)]) (st' := [vi 92, vr u0]) (pc' := 37) [(.aload_n 0, vi 0, 35), (.bipush 92, vi 92, 37)] (by decide +kernel) rfl rfl ?_
          refine sm_de (fun p29 h30 => ?_)
          refine sm_st [vi 92, vr (some p29)] (by rw [h30] <;> rfl) ?_
          refine sm_gd (fun h31 => ?_)
          refine sm_cv (N := mX3_add) (d' := d - 1) (fun r => none) (fun r => r) (fun _ => τ) [vi 92] [] rfl (by decide +kernel) q1105 q535 q536 (Or.inl ⟨rfl, q537⟩) (show okN yX3_add 1 = true by decide +kernel) (fun H hR => hR.rvR G.1 h31) rfl rfl (by omega) rfl (fun Q' => r_add_ok G (d - 1) (by omega) p29 92 σ Q') (fun y32 => ?_)
          refine sm_b (l' := [(0, vr u0), (1, vr u1), (2, vi w2), (3, vi y20)]) (st' := [vi y20, vr u0]) (pc' := 42) [(.aload_n 0, vi 0, 41), (.iload_n 3, vi 0, 42)] (by decide +kernel) rfl rfl ?_
          refine sm_st [vi y20, vr (some p29)] (by rw [h30] <;> rfl) ?_
          refine sm_gd (fun h33 => ?_)
          refine sm_cv (N := mX3_add) (d' := d - 1) (fun r => none) (fun r => r) (fun _ => τ) [vi y20] [] rfl (by decide +kernel) q1105 q535 q536 (Or.inl ⟨rfl, q537⟩) (show okN yX3_add 1 = true by decide +kernel) (fun H hR => hR.rvR G.1 h33) rfl rfl (by omega) rfl (fun Q' => r_add_ok G (d - 1) (by omega) p29 y20 y32 Q') (fun y34 => ?_)
          refine sm_b (l' := [(0, vr u0), (1, vr u1), (2, vi w2), (3, vi y20)]) (st' := []) (pc' := 67) [(.goto 22, vi 0, 67)] (by decide +kernel) rfl rfl ?_
          refine sm_pick [0, 1, 2] (l' := [(0, vr u0), (1, vr u1), (2, vi w2)]) rfl ?_
          exact sm_leaf (fun h => j27 _ h)
        · refine sm_b (l' := [(0, vr u0), (1, vr u1), (2, vi w2), (3, vi y20)]) (st' := [vi 32, vi y20]) (pc' := 51) [(.iload_n 3, vi 0, 49), (.bipush 32, vi 32, 51)] (by decide +kernel) rfl rfl ?_
          refine sm_case (V g mX13_text d 62 [(0, vr u0), (1, vr u1), (2, vi w2), (3, vi y20)] [] σ τ Q) (V g mX13_text d 54 [(0, vr u0), (1, vr u1), (2, vi w2), (3, vi y20)] [] σ τ Q) ?_ ?_ (fun f42 p43 n44 => ?_)
          · refine sm_b (l' := [(0, vr u0), (1, vr u1), (2, vi w2), (3, vi y20)]) (st' := [vi y20, vr u0]) (pc' := 64) [(.aload_n 0, vi 0, 63), (.iload_n 3, vi 0, 64)] (by decide +kernel) rfl rfl ?_
            refine sm_de (fun p37 h38 => ?_)
            refine sm_st [vi y20, vr (some p37)] (by rw [h38] <;> rfl) ?_
            refine sm_gd (fun h39 => ?_)
            refine sm_cv (N := mX3_add) (d' := d - 1) (fun r => none) (fun r => r) (fun _ => τ) [vi y20] [] rfl (by decide +kernel) q1105 q535 q536 (Or.inl ⟨rfl, q537⟩) (show okN yX3_add 1 = true by decide +kernel) (fun H hR => hR.rvR G.1 h39) rfl rfl (by omega) rfl (fun Q' => r_add_ok G (d - 1) (by omega) p37 y20 σ Q') (fun y40 => ?_)
            refine sm_pick [0, 1, 2] (l' := [(0, vr u0), (1, vr u1), (2, vi w2)]) rfl ?_
            exact sm_leaf (fun h => j27 _ h)
          · refine sm_b (l' := [(0, vr u0), (1, vr u1), (2, vi w2), (3, vi y20)]) (st' := [vi y20, vr u0]) (pc' := 56) [(.aload_n 0, vi 0, 55), (.iload_n 3, vi 0, 56)] (by decide +kernel) rfl rfl ?_
            refine sm_cs (N := mX13_control) (d' := d - 1) (fun r => none) (fun r => r) (fun _ => τ) [vr u0, vi y20] [] rfl (by decide +kernel) q1114 q1115 q160 (Or.inl ⟨rfl, q1116⟩) (show okN yX13_control 2 = true by decide +kernel) rfl rfl (by omega) rfl (fun Q' => jw_control_ok G (d - 1) (by omega) u0 y20 σ Q') (fun y41 => ?_)
            refine sm_b (l' := [(0, vr u0), (1, vr u1), (2, vi w2), (3, vi y20)]) (st' := []) (pc' := 67) [(.goto 8, vi 0, 67)] (by decide +kernel) rfl rfl ?_
            refine sm_pick [0, 1, 2] (l' := [(0, vr u0), (1, vr u1), (2, vi w2)]) rfl ?_
            exact sm_leaf (fun h => j27 _ h)
          refine sm_icmp_ge (off := 11) (tgt := 62) h21 (by decide) (by decide +kernel) (fun c45 => ?_) (fun c45 => ?_)
          · exact p43 c45
          · exact n44 c45
        refine sm_icmp_eq (off := 9) (tgt := 34) h21 (by decide) (by decide +kernel) (fun c49 => ?_) (fun c49 => ?_)
        · exact p47 (Or.inl c49)
        · refine sm_b (l' := [(0, vr u0), (1, vr u1), (2, vi w2), (3, vi y20)]) (st' := [vi 92, vi y20]) (pc' := 31) [(.iload_n 3, vi 0, 29), (.bipush 92, vi 92, 31)] (by decide +kernel) rfl rfl ?_
          refine sm_icmp_ne (off := 17) (tgt := 48) h21 (by decide) (by decide +kernel) (fun c50 => ?_) (fun c50 => ?_)
          · exact n48 (fun q => q.elim c49 c50)
          · exact p47 (Or.inr c50)
    refine sm_icmp_ge (off := 60) (tgt := 73) h17 (rwl_rg (Nat.lt_of_le_of_lt b15 b16)) (by decide +kernel) (fun c54 => ?_) (fun c54 => ?_)
    · exact p52 c54
    · exact n53 c54
set_option maxHeartbeats 4000000 in
theorem jw_text_ok {g : GE} (G : GG g) {τ : TT} (d : Nat) (hd1 : 8 ≤ d) (a1 : Option Nat) (a2 : Option Nat)  (σ : ST) (Q : VQ) : Sm (V g mX13_text d 0 [(0, vr a1), (1, vr a2)] [] σ τ Q) (jw_text (gRm g) a1 a2 σ) (fun r => Q.1 none r τ) := by
  unfold jw_text
  refine sm_top (fun K hRET => ?_)
  refine sm_b (l' := [(0, vr a1), (1, vr a2)]) (st' := [vi 34, vr a1]) (pc' := 3) [(.aload_n 0, vi 0, 1), (.bipush 34, vi 34, 3)] (by decide +kernel) rfl rfl ?_
  refine sm_de (fun p1 h2 => ?_)
  refine sm_st [vi 34, vr (some p1)] (by rw [h2] <;> rfl) ?_
  refine sm_gd (fun h3 => ?_)
  refine sm_cv (N := mX3_add) (d' := d - 1) (fun r => none) (fun r => r) (fun _ => τ) [vi 34] [] rfl (by decide +kernel) q1105 q535 q536 (Or.inl ⟨rfl, q537⟩) (show okN yX3_add 1 = true by decide +kernel) (fun H hR => hR.rvR G.1 h3) rfl rfl (by omega) rfl (fun Q' => r_add_ok G (d - 1) (by omega) p1 34 σ Q') (fun y4 => ?_)
  refine sm_b (l' := [(0, vr a1), (1, vr a2), (2, vi 0)]) (st' := []) (pc' := 8) [(.iconst 0, vi 0, 7), (.istore_n 2, vi 0, 8)] (by decide +kernel) rfl rfl ?_
  refine sm_bind1 (fun (v5 : ST) => V g mX13_text d 73 [(0, vr a1)] [] v5 τ Q) (fun v5 => ?_) (fun K6 j7 => ?_)
  · refine sm_b (l' := [(0, vr a1)]) (st' := [vi 34, vr a1]) (pc' := 76) [(.aload_n 0, vi 0, 74), (.bipush 34, vi 34, 76)] (by decide +kernel) rfl rfl ?_
    refine sm_st [vi 34, vr (some p1)] (by rw [h2] <;> rfl) ?_
    refine sm_gd (fun h9 => ?_)
    refine sm_cv (N := mX3_add) (d' := d - 1) (fun r => none) (fun r => r) (fun _ => τ) [vi 34] [] rfl (by decide +kernel) q1105 q535 q536 (Or.inl ⟨rfl, q537⟩) (show okN yX3_add 1 = true by decide +kernel) (fun H hR => hR.rvR G.1 h9) rfl rfl (by omega) rfl (fun Q' => r_add_ok G (d - 1) (by omega) p1 34 v5 Q') (fun y10 => ?_)
    exact sm_vret rfl (by decide +kernel) (fun h => hRET _ h)
  · exact jw_text_L8_ok G d hd1 a1 a2  (fun _ h => j7 _ h) FU 0 y4
def et_nameOf_L2 (u0 : Nat) (u1 : Int64) (σ : ST) : Nat → Int → Option ((Option Nat) ⊕ (Int))
  | 0, _ => none
  | n + 1, w3 => gd (sc σ u0 = 8) (Option.bind (sR σ 114 u0) fun p15 => gd (sc σ p15 = 16) (Option.bind (l_size p15 σ) fun y18 => gd (rg w3) (gd (rg y18) (if y18 ≤ w3 then (some (Sum.inl none)) else (Option.bind (sR σ 115 u0) fun p27 => gd (sc σ p27 = 102) (gd (ib w3 (sN σ p27)) (if (iL (sE σ p27 w3.toNat)) = u1 then (some (Sum.inr w3)) else (et_nameOf_L2 u0 u1 σ n (w3 + 1)))))))))
def et_nameOf (a0 : Nat) (a1 : Int64) (σ : ST) : Option (Option Nat) := Option.bind (et_nameOf_L2 a0 a1 σ FU 0) (Sum.elim some fun (v1 : Int) => gd (sc σ a0 = 8) (Option.bind (sR σ 114 a0) fun p6 => gd (sc σ p6 = 16) (Option.bind (l_get p6 v1 σ) fun y9 => Option.bind y9 fun p10 => gd (sc σ p10 = 4) (some ((some p10))))))
set_option maxHeartbeats 4000000 in
theorem et_nameOf_L2_ok {g : GE} (G : GG g) {τ : TT} {Q : VQ} (d : Nat) (hd1 : 4 ≤ d) (u0 : Nat) (u1 : Int64) (σ : ST)  {K : (Option Nat) ⊕ (Int) → Prop} (hRET : ∀ r : Option Nat, K (Sum.inl r) → Q.1 (some (vr r)) σ τ) (hE25 : ∀ v13 : Int, K (Sum.inr v13) → V g mX7_nameOf d 25 [(0, vr (some u0)), (3, vi v13)] [] σ τ Q) : ∀ (n : Nat) (w3 : Int), Sm (V g mX7_nameOf d 2 [(0, vr (some u0)), (1, vl u1), (3, vi w3)] [] σ τ Q) (et_nameOf_L2 u0 u1 σ n w3) K := by
  intro n
  induction n with
  | zero => intro w3; exact sm_none
  | succ n ih =>
    intro w3
    rw [et_nameOf_L2.eq_2]
    refine sm_b (l' := [(0, vr (some u0)), (1, vl u1), (3, vi w3)]) (st' := [vr (some u0), vi w3]) (pc' := 4) [(.iload_n 3, vi 0, 3), (.aload_n 0, vi 0, 4)] (by decide +kernel) rfl rfl ?_
    refine sm_gd (fun h14 => ?_)
    refine sm_g (k := 2) (x := vr (sR σ 114 u0)) cd7 rfl h14 rfl q670 rfl (by decide +kernel) ?_
    refine sm_de (fun p15 h16 => ?_)
    refine sm_st [vr (some p15), vi w3] (by rw [h16] <;> rfl) ?_
    refine sm_gd (fun h17 => ?_)
    refine sm_cv (N := mJ2_size) (d' := d - 1) (fun r => (some (vi r))) (fun _ => σ) (fun _ => τ) [] [vi w3] rfl (by decide +kernel) q895 q519 q520 (Or.inl ⟨rfl, q521⟩) (show okN yJ2_size 0 = true by decide +kernel) (fun H hR => hR.rvL G.1 h17) rfl rfl (by omega) rfl (fun Q' => l_size_ok G (d - 1) (by omega) p15 σ Q') (fun y18 => ?_)
    refine sm_gd (fun h19 => ?_)
    refine sm_gd (fun h20 => ?_)
    refine sm_case (V g mX7_nameOf d 43 [(0, vr (some u0)), (1, vl u1), (3, vi w3)] [] σ τ Q) (V g mX7_nameOf d 13 [(0, vr (some u0)), (1, vl u1), (3, vi w3)] [] σ τ Q) ?_ ?_ (fun f36 p37 n38 => ?_)
    · refine sm_b (l' := [(0, vr (some u0)), (1, vl u1), (3, vi w3)]) (st' := [vr none]) (pc' := 44) [(.aconst_null, vi 0, 44)] (by decide +kernel) rfl rfl ?_
      exact sm_aret rfl rfl (by decide +kernel) (fun h => hRET _ h)
    · refine sm_b (l' := [(0, vr (some u0)), (1, vl u1), (3, vi w3)]) (st' := [vr (some u0)]) (pc' := 14) [(.aload_n 0, vi 0, 14)] (by decide +kernel) rfl rfl ?_
      refine sm_g (k := 3) (x := vr (sR σ 115 u0)) cd7 rfl h14 rfl q672 rfl (by decide +kernel) ?_
      refine sm_b (l' := [(0, vr (some u0)), (1, vl u1), (3, vi w3)]) (st' := [vi w3, vr (sR σ 115 u0)]) (pc' := 18) [(.iload_n 3, vi 0, 18)] (by decide +kernel) rfl rfl ?_
      refine sm_de (fun p27 h28 => ?_)
      refine sm_st [vi w3, vr (some p27)] (by rw [h28] <;> rfl) ?_
      refine sm_gd (fun h29 => ?_)
      refine sm_gd (fun h30 => ?_)
      refine sm_el h29 h30 (by decide +kernel) ?_
      refine sm_b (l' := [(0, vr (some u0)), (1, vl u1), (3, vi w3)]) (st' := [vl u1, vl (iL (sE σ p27 w3.toNat))]) (pc' := 21) [(.i2l, vi 0, 20), (.lload_n 1, vi 0, 21)] (by decide +kernel) rfl rfl ?_
      refine sm_case (V g mX7_nameOf d 25 [(0, vr (some u0)), (1, vl u1), (3, vi w3)] [] σ τ Q) (V g mX7_nameOf d 37 [(0, vr (some u0)), (1, vl u1), (3, vi w3)] [] σ τ Q) ?_ ?_ (fun f32 p33 n34 => ?_)
      · refine sm_pick [0, 2] (l' := [(0, vr (some u0)), (3, vi w3)]) rfl ?_
        exact sm_leaf (fun h => hE25 _ h)
      · refine sm_b (l' := [(0, vr (some u0)), (1, vl u1), (3, vi (w3 + 1))]) (st' := []) (pc' := 2) [(.iinc 3 1, vi 1, 40), (.goto (-38), vi 0, 2)] (by decide +kernel) rfl rfl ?_
        exact ih (w3 + 1)
      refine sm_lc_ne (off := 15) (tgt := 37) (by decide +kernel) (by decide +kernel) (fun c35 => ?_) (fun c35 => ?_)
      · exact n34 c35
      · exact p33 c35
    refine sm_icmp_ge (off := 33) (tgt := 43) h19 h20 (by decide +kernel) (fun c39 => ?_) (fun c39 => ?_)
    · exact p37 c39
    · exact n38 c39
set_option maxHeartbeats 4000000 in
theorem et_nameOf_ok {g : GE} (G : GG g) {τ : TT} (d : Nat) (hd1 : 4 ≤ d) (a0 : Nat) (a1 : Int64)  (σ : ST) (Q : VQ) : Sm (V g mX7_nameOf d 0 [(0, vr (some a0)), (1, vl a1)] [] σ τ Q) (et_nameOf a0 a1 σ) (fun r => Q.1 (some (vr r)) σ τ) := by
  unfold et_nameOf
  refine sm_top (fun K hRET => ?_)
  refine sm_b (l' := [(0, vr (some a0)), (1, vl a1), (3, vi 0)]) (st' := []) (pc' := 2) [(.iconst 0, vi 0, 1), (.istore_n 3, vi 0, 2)] (by decide +kernel) rfl rfl ?_
  refine sm_bindS (fun (v1 : Int) => V g mX7_nameOf d 25 [(0, vr (some a0)), (3, vi v1)] [] σ τ Q) (fun v1 => ?_) (fun K2 o4 j3 => ?_)
  · refine sm_b (l' := [(0, vr (some a0)), (3, vi v1)]) (st' := [vr (some a0)]) (pc' := 26) [(.aload_n 0, vi 0, 26)] (by decide +kernel) rfl rfl ?_
    refine sm_gd (fun h5 => ?_)
    refine sm_g (k := 2) (x := vr (sR σ 114 a0)) cd7 rfl h5 rfl q670 rfl (by decide +kernel) ?_
    refine sm_b (l' := [(0, vr (some a0)), (3, vi v1)]) (st' := [vi v1, vr (sR σ 114 a0)]) (pc' := 30) [(.iload_n 3, vi 0, 30)] (by decide +kernel) rfl rfl ?_
    refine sm_de (fun p6 h7 => ?_)
    refine sm_st [vi v1, vr (some p6)] (by rw [h7] <;> rfl) ?_
    refine sm_gd (fun h8 => ?_)
    refine sm_cv (N := mJ2_get) (d' := d - 1) (fun r => (some (vr r))) (fun _ => σ) (fun _ => τ) [vi v1] [] rfl (by decide +kernel) q1134 q791 q792 (Or.inl ⟨rfl, q793⟩) (show okN yJ2_get 1 = true by decide +kernel) (fun H hR => hR.rvL G.1 h8) rfl rfl (by omega) rfl (fun Q' => l_get_ok G (d - 1) (by omega) p6 v1 σ Q') (fun y9 => ?_)
    refine sm_de (fun p10 h11 => ?_)
    refine sm_st [vr (some p10)] (by rw [h11] <;> rfl) ?_
    refine sm_gd (fun h12 => ?_)
    refine sm_cast cd3 q1135 (fun H hR => hR.rvR G.1 h12) (by decide +kernel) ?_
    exact sm_aret rfl rfl (by decide +kernel) (fun h => hRET _ h)
  · exact et_nameOf_L2_ok G d hd1 a0 a1 σ  (fun r h => hRET _ (o4 _ h)) (fun _ h => j3 _ h) FU 0
def jw_base64_L77 (bb : Nat × Nat) (u0 : Option Nat) (u1 : Option Nat) (u2 : Int) (u3 : Int) (u4 : Int) : Nat → Int → ST → Option (ST)
  | 0, _, _ => none
  | n + 1, w5, σ => gd (rg w5) (if 4 ≤ w5 then (some σ) else (Option.bind (gd (rg u3) (if w5 ≤ u3 then (gd (ib (iAnd (iShr u4 (18 - (6 * w5))) 63) (slen 2)) (some ((((sch 2 (iAnd (iShr u4 (18 - (6 * w5))) 63).toNat : Nat) : Int))))) else (some 61))) fun (v55 : Int) => Option.bind u0 fun p59 => gd (sc σ p59 = 4) (Option.bind (r_add bb p59 v55 σ) fun y62 => jw_base64_L77 bb u0 u1 u2 u3 u4 n (w5 + 1) y62)))
def jw_base64_L8 (bb : Nat × Nat) (u0 : Option Nat) (u1 : Option Nat) : Nat → Int → ST → Option (ST)
  | 0, _, _ => none
  | n + 1, w2, σ => Option.bind u1 fun p12 => gd (sc σ p12 = 4) (gd (rg w2) (if ((((sW σ p12).length : Nat) : Int)) ≤ w2 then (some σ) else (Option.bind (jl_min 3 (((((sW σ p12).length : Nat) : Int)) - w2)) fun y24 => Option.bind (row_at p12 w2 σ) fun y25 => Option.bind (gd (rg y24) (if y24 ≤ 1 then (some 0) else (Option.bind (row_at p12 (w2 + 1) σ) fun y77 => some ((iShl y77 8))))) fun (v30 : Int) => Option.bind (gd (rg y24) (if y24 ≤ 2 then (some 0) else (Option.bind (row_at p12 (w2 + 2) σ) fun y72 => some y72))) fun (v38 : Int) => nm (iOr (iOr (iShl y25 16) v30) v38) fun x42 => Option.bind (jw_base64_L77 bb u0 u1 w2 y24 x42 FU 0 σ) fun (v43 : ST) => jw_base64_L8 bb u0 u1 n (w2 + 3) v43)))
def jw_base64 (bb : Nat × Nat) (a1 : Option Nat) (a2 : Option Nat) (σ : ST) : Option (ST) := Option.bind a1 fun p1 => gd (sc σ p1 = 4) (Option.bind (r_add bb p1 34 σ) fun y4 => Option.bind (jw_base64_L8 bb a1 a2 FU 0 y4) fun (v5 : ST) => gd (sc v5 p1 = 4) (Option.bind (r_add bb p1 34 v5) fun y10 => some y10))
set_option maxHeartbeats 4000000 in
theorem jw_base64_L77_ok {g : GE} (G : GG g) {τ : TT} {Q : VQ} (d : Nat) (hd1 : 6 ≤ d) (u0 : Option Nat) (u1 : Option Nat) (u2 : Int) (u3 : Int) (u4 : Int)  {K : ST → Prop} (hE123 : ∀ v47 : ST, K (v47) → V g mX13_base64 d 123 [(0, vr u0), (1, vr u1), (2, vi u2)] [] v47 τ Q) : ∀ (n : Nat) (w5 : Int) (σ : ST), Sm (V g mX13_base64 d 77 [(0, vr u0), (1, vr u1), (2, vi u2), (3, vi u3), (4, vi u4), (5, vi w5)] [] σ τ Q) (jw_base64_L77 (gRm g) u0 u1 u2 u3 u4 n w5 σ) K := by
  intro n
  induction n with
  | zero => intro w5 σ; exact sm_none
  | succ n ih =>
    intro w5 σ
    rw [jw_base64_L77.eq_2]
    refine sm_b (l' := [(0, vr u0), (1, vr u1), (2, vi u2), (3, vi u3), (4, vi u4), (5, vi w5)]) (st' := [vi 4, vi w5]) (pc' := 80) [(.iload 5, vi 0, 79), (.iconst 4, vi 4, 80)] (by decide +kernel) rfl rfl ?_
    refine sm_gd (fun h48 => ?_)
    refine sm_case (V g mX13_base64 d 123 [(0, vr u0), (1, vr u1), (2, vi u2), (3, vi u3), (4, vi u4), (5, vi w5)] [] σ τ Q) (V g mX13_base64 d 83 [(0, vr u0), (1, vr u1), (2, vi u2), (3, vi u3), (4, vi u4), (5, vi w5)] [] σ τ Q) ?_ ?_ (fun f68 p69 n70 => ?_)
    · refine sm_pick [0, 1, 2] (l' := [(0, vr u0), (1, vr u1), (2, vi u2)]) rfl ?_
      exact sm_leaf (fun h => hE123 _ h)
    · refine sm_b (l' := [(0, vr u0), (1, vr u1), (2, vi u2), (3, vi u3), (4, vi u4), (5, vi w5)]) (st' := [vi u3, vi w5, vr u0]) (pc' := 87) [(.aload_n 0, vi 0, 84), (.iload 5, vi 0, 86), (.iload_n 3, vi 0, 87)] (by decide +kernel) rfl rfl ?_
      refine sm_bind1 (fun (v55 : Int) => V g mX13_base64 d 114 [(0, vr u0), (1, vr u1), (2, vi u2), (3, vi u3), (4, vi u4), (5, vi w5)] [vi v55, vr u0] σ τ Q) (fun v55 => ?_) (fun K56 j57 => ?_)
      · refine sm_de (fun p59 h60 => ?_)
        refine sm_st [vi v55, vr (some p59)] (by rw [h60] <;> rfl) ?_
        refine sm_gd (fun h61 => ?_)
        refine sm_cv (N := mX3_add) (d' := d - 1) (fun r => none) (fun r => r) (fun _ => τ) [vi v55] [] rfl (by decide +kernel) q1105 q535 q536 (Or.inl ⟨rfl, q537⟩) (show okN yX3_add 1 = true by decide +kernel) (fun H hR => hR.rvR G.1 h61) rfl rfl (by omega) rfl (fun Q' => r_add_ok G (d - 1) (by omega) p59 v55 σ Q') (fun y62 => ?_)
        refine sm_b (l' := [(0, vr u0), (1, vr u1), (2, vi u2), (3, vi u3), (4, vi u4), (5, vi (w5 + 1))]) (st' := []) (pc' := 77) [(.iinc 5 1, vi 1, 120), (.goto (-43), vi 0, 77)] (by decide +kernel) rfl rfl ?_
        exact ih (w5 + 1) y62
      · refine sm_gd (fun h51 => ?_)
        refine sm_case (V g mX13_base64 d 95 [(0, vr u0), (1, vr u1), (2, vi u2), (3, vi u3), (4, vi u4), (5, vi w5)] [vr u0] σ τ Q) (V g mX13_base64 d 90 [(0, vr u0), (1, vr u1), (2, vi u2), (3, vi u3), (4, vi u4), (5, vi w5)] [vr u0] σ τ Q) ?_ ?_ (fun f64 p65 n66 => ?_)
        · refine sm_str (k := 2) G rfl (by decide +kernel) ?_
          refine sm_b (l' := [(0, vr u0), (1, vr u1), (2, vi u2), (3, vi u3), (4, vi u4), (5, vi w5)]) (st' := [vi (iAnd (iShr u4 (18 - (6 * w5))) 63), vr (some (gK g 2)), vr u0]) (pc' := 111) [(.iload 4, vi 0, 99), (.bipush 18, vi 18, 101), (.bipush 6, vi 6, 103), (.iload 5, vi 0, 105), (.imul, vi 0, 106), (.isub, vi 0, 107), (.ishr, vi 0, 108), (.bipush 63, vi 63, 110), (.iand, vi 0, 111)] (by decide +kernel) rfl rfl ?_
          refine sm_gd (fun h63 => ?_)
          refine sm_scha (k := 2) G [vr u0] rfl (by decide +kernel) q1123 h63 (by omega) rfl ?_
          exact sm_leaf (fun h => j57 _ h)
        · refine sm_b (l' := [(0, vr u0), (1, vr u1), (2, vi u2), (3, vi u3), (4, vi u4), (5, vi w5)]) (st' := [vi 61, vr u0]) (pc' := 114) [(.bipush 61, vi 61, 92), (.goto 22, vi 0, 114)] (by decide +kernel) rfl rfl ?_
          exact sm_leaf (fun h => j57 _ h)
        refine sm_icmp_le (off := 8) (tgt := 95) h48 h51 (by decide +kernel) (fun c67 => ?_) (fun c67 => ?_)
        · exact p65 c67
        · exact n66 c67
    refine sm_icmp_ge (off := 43) (tgt := 123) h48 (by decide) (by decide +kernel) (fun c71 => ?_) (fun c71 => ?_)
    · exact p69 c71
    · exact n70 c71
set_option maxHeartbeats 4000000 in
theorem jw_base64_L8_ok {g : GE} (G : GG g) {τ : TT} {Q : VQ} (d : Nat) (hd1 : 6 ≤ d) (u0 : Option Nat) (u1 : Option Nat)  {K : ST → Prop} (hE129 : ∀ v11 : ST, K (v11) → V g mX13_base64 d 129 [(0, vr u0)] [] v11 τ Q) : ∀ (n : Nat) (w2 : Int) (σ : ST), Sm (V g mX13_base64 d 8 [(0, vr u0), (1, vr u1), (2, vi w2)] [] σ τ Q) (jw_base64_L8 (gRm g) u0 u1 n w2 σ) K := by
  intro n
  induction n with
  | zero => intro w2 σ; exact sm_none
  | succ n ih =>
    intro w2 σ
    rw [jw_base64_L8.eq_2]
    refine sm_b (l' := [(0, vr u0), (1, vr u1), (2, vi w2)]) (st' := [vr u1, vi w2]) (pc' := 10) [(.iload_n 2, vi 0, 9), (.aload_n 1, vi 0, 10)] (by decide +kernel) rfl rfl ?_
    refine sm_de (fun p12 h13 => ?_)
    refine sm_st [vr (some p12), vi w2] (by rw [h13] <;> rfl) ?_
    refine sm_gd (fun h14 => ?_)
    refine sm_rszN h14 q282 (by decide +kernel) ?_
    refine sm_rowf h14 (fun b15 b16 => ?_)
    refine sm_gd (fun h17 => ?_)
    refine sm_case (V g mX13_base64 d 129 [(0, vr u0), (1, vr u1), (2, vi w2)] [] σ τ Q) (V g mX13_base64 d 16 [(0, vr u0), (1, vr u1), (2, vi w2)] [] σ τ Q) ?_ ?_ (fun f82 p83 n84 => ?_)
    · refine sm_pick [0] (l' := [(0, vr u0)]) rfl ?_
      exact sm_leaf (fun h => hE129 _ h)
    · refine sm_b (l' := [(0, vr u0), (1, vr u1), (2, vi w2)]) (st' := [vr u1, vi 3]) (pc' := 18) [(.iconst 3, vi 3, 17), (.aload_n 1, vi 0, 18)] (by decide +kernel) rfl rfl ?_
      refine sm_st [vr (some p12), vi 3] (by rw [h13] <;> rfl) ?_
      refine sm_rszN h14 q282 (by decide +kernel) ?_
      refine sm_rowf h14 (fun b22 b23 => ?_)
      refine sm_b (l' := [(0, vr u0), (1, vr u1), (2, vi w2)]) (st' := [vi (((((sW σ p12).length : Nat) : Int)) - w2), vi 3]) (pc' := 23) [(.iload_n 2, vi 0, 22), (.isub, vi 0, 23)] (by decide +kernel) rfl rfl ?_
      refine sm_cs (N := mJ11_min) (d' := d - 1) (fun r => (some (vi r))) (fun _ => σ) (fun _ => τ) [vi 3, vi (((((sW σ p12).length : Nat) : Int)) - w2)] [] rfl (by decide +kernel) q1140 q647 q150 (Or.inl ⟨rfl, q648⟩) (show okN yJ11_min 2 = true by decide +kernel) rfl rfl (by omega) rfl (fun Q' => jl_min_ok G (d - 1) (by omega) 3 (((((sW σ p12).length : Nat) : Int)) - w2) τ Q') (fun y24 => ?_)
      refine sm_b (l' := [(0, vr u0), (1, vr u1), (2, vi w2), (3, vi y24)]) (st' := [vi w2, vr u1]) (pc' := 29) [(.istore_n 3, vi 0, 27), (.aload_n 1, vi 0, 28), (.iload_n 2, vi 0, 29)] (by decide +kernel) rfl rfl ?_
      refine sm_st [vi w2, vr (some p12)] (by rw [h13] <;> rfl) ?_
      refine sm_cv (N := mX3_at) (d' := d - 1) (fun r => (some (vi r))) (fun _ => σ) (fun _ => τ) [vi w2] [] rfl (by decide +kernel) q1113 q710 q711 (Or.inl ⟨rfl, q712⟩) (show okN yX3_at 1 = true by decide +kernel) (fun H hR => hR.rvR G.1 h14) rfl rfl (by omega) rfl (fun Q' => row_at_ok G (d - 1) (by omega) p12 w2 σ Q') (fun y25 => ?_)
      refine sm_b (l' := [(0, vr u0), (1, vr u1), (2, vi w2), (3, vi y24)]) (st' := [vi 1, vi y24, vi (iShl y25 16)]) (pc' := 37) [(.bipush 16, vi 16, 34), (.ishl, vi 0, 35), (.iload_n 3, vi 0, 36), (.iconst 1, vi 1, 37)] (by decide +kernel) rfl rfl ?_
      refine sm_bind1 (fun (v30 : Int) => V g mX13_base64 d 54 [(0, vr u0), (1, vr u1), (2, vi w2), (3, vi y24)] [vi v30, vi (iShl y25 16)] σ τ Q) (fun v30 => ?_) (fun K31 j32 => ?_)
      · refine sm_b (l' := [(0, vr u0), (1, vr u1), (2, vi w2), (3, vi y24)]) (st' := [vi 2, vi y24, vi (iOr (iShl y25 16) v30)]) (pc' := 57) [(.ior, vi 0, 55), (.iload_n 3, vi 0, 56), (.iconst 2, vi 2, 57)] (by decide +kernel) rfl rfl ?_
        refine sm_bind1 (fun (v38 : Int) => V g mX13_base64 d 71 [(0, vr u0), (1, vr u1), (2, vi w2), (3, vi y24)] [vi v38, vi (iOr (iShl y25 16) v30)] σ τ Q) (fun v38 => ?_) (fun K39 j40 => ?_)
        · refine sm_b (l' := [(0, vr u0), (1, vr u1), (2, vi w2), (3, vi y24)]) (st' := [vi (iOr (iOr (iShl y25 16) v30) v38)]) (pc' := 72) [(.ior, vi 0, 72)] (by decide +kernel) rfl rfl ?_
          refine sm_nmi (fun x42 => ?_)
          refine sm_b (l' := [(0, vr u0), (1, vr u1), (2, vi w2), (3, vi y24), (4, vi x42), (5, vi 0)]) (st' := []) (pc' := 77) [(.istore 4, vi 0, 74), (.iconst 0, vi 0, 75), (.istore 5, vi 0, 77)] (by decide +kernel) rfl rfl ?_
          refine sm_bind1 (fun (v43 : ST) => V g mX13_base64 d 123 [(0, vr u0), (1, vr u1), (2, vi w2)] [] v43 τ Q) (fun v43 => ?_) (fun K44 j45 => ?_)
          · refine sm_b (l' := [(0, vr u0), (1, vr u1), (2, vi (w2 + 3))]) (st' := []) (pc' := 8) [(.iinc 2 3, vi 3, 126), (.goto (-118), vi 0, 8)] (by decide +kernel) rfl rfl ?_
            exact ih (w2 + 3) v43
          · exact jw_base64_L77_ok G d hd1 u0 u1 w2 y24 x42  (fun _ h => j45 _ h) FU 0 σ
        · refine sm_gd (fun h34 => ?_)
          refine sm_case (V g mX13_base64 d 70 [(0, vr u0), (1, vr u1), (2, vi w2), (3, vi y24)] [vi (iOr (iShl y25 16) v30)] σ τ Q) (V g mX13_base64 d 60 [(0, vr u0), (1, vr u1), (2, vi w2), (3, vi y24)] [vi (iOr (iShl y25 16) v30)] σ τ Q) ?_ ?_ (fun f73 p74 n75 => ?_)
          · refine sm_b (l' := [(0, vr u0), (1, vr u1), (2, vi w2), (3, vi y24)]) (st' := [vi 0, vi (iOr (iShl y25 16) v30)]) (pc' := 71) [(.iconst 0, vi 0, 71)] (by decide +kernel) rfl rfl ?_
            exact sm_leaf (fun h => j40 _ h)
          · refine sm_b (l' := [(0, vr u0), (1, vr u1), (2, vi w2), (3, vi y24)]) (st' := [vi (w2 + 2), vr u1, vi (iOr (iShl y25 16) v30)]) (pc' := 64) [(.aload_n 1, vi 0, 61), (.iload_n 2, vi 0, 62), (.iconst 2, vi 2, 63), (.iadd, vi 0, 64)] (by decide +kernel) rfl rfl ?_
            refine sm_st [vi (w2 + 2), vr (some p12), vi (iOr (iShl y25 16) v30)] (by rw [h13] <;> rfl) ?_
            refine sm_cv (N := mX3_at) (d' := d - 1) (fun r => (some (vi r))) (fun _ => σ) (fun _ => τ) [vi (w2 + 2)] [vi (iOr (iShl y25 16) v30)] rfl (by decide +kernel) q1113 q710 q711 (Or.inl ⟨rfl, q712⟩) (show okN yX3_at 1 = true by decide +kernel) (fun H hR => hR.rvR G.1 h14) rfl rfl (by omega) rfl (fun Q' => row_at_ok G (d - 1) (by omega) p12 (w2 + 2) σ Q') (fun y72 => ?_)
            refine sm_b (l' := [(0, vr u0), (1, vr u1), (2, vi w2), (3, vi y24)]) (st' := [vi y72, vi (iOr (iShl y25 16) v30)]) (pc' := 71) [(.goto 4, vi 0, 71)] (by decide +kernel) rfl rfl ?_
            exact sm_leaf (fun h => j40 _ h)
          refine sm_icmp_le (off := 13) (tgt := 70) h34 (by decide) (by decide +kernel) (fun c76 => ?_) (fun c76 => ?_)
          · exact p74 c76
          · exact n75 c76
      · refine sm_gd (fun h26 => ?_)
        refine sm_case (V g mX13_base64 d 53 [(0, vr u0), (1, vr u1), (2, vi w2), (3, vi y24)] [vi (iShl y25 16)] σ τ Q) (V g mX13_base64 d 40 [(0, vr u0), (1, vr u1), (2, vi w2), (3, vi y24)] [vi (iShl y25 16)] σ τ Q) ?_ ?_ (fun f78 p79 n80 => ?_)
        · refine sm_b (l' := [(0, vr u0), (1, vr u1), (2, vi w2), (3, vi y24)]) (st' := [vi 0, vi (iShl y25 16)]) (pc' := 54) [(.iconst 0, vi 0, 54)] (by decide +kernel) rfl rfl ?_
          exact sm_leaf (fun h => j32 _ h)
        · refine sm_b (l' := [(0, vr u0), (1, vr u1), (2, vi w2), (3, vi y24)]) (st' := [vi (w2 + 1), vr u1, vi (iShl y25 16)]) (pc' := 44) [(.aload_n 1, vi 0, 41), (.iload_n 2, vi 0, 42), (.iconst 1, vi 1, 43), (.iadd, vi 0, 44)] (by decide +kernel) rfl rfl ?_
          refine sm_st [vi (w2 + 1), vr (some p12), vi (iShl y25 16)] (by rw [h13] <;> rfl) ?_
          refine sm_cv (N := mX3_at) (d' := d - 1) (fun r => (some (vi r))) (fun _ => σ) (fun _ => τ) [vi (w2 + 1)] [vi (iShl y25 16)] rfl (by decide +kernel) q1113 q710 q711 (Or.inl ⟨rfl, q712⟩) (show okN yX3_at 1 = true by decide +kernel) (fun H hR => hR.rvR G.1 h14) rfl rfl (by omega) rfl (fun Q' => row_at_ok G (d - 1) (by omega) p12 (w2 + 1) σ Q') (fun y77 => ?_)
          refine sm_b (l' := [(0, vr u0), (1, vr u1), (2, vi w2), (3, vi y24)]) (st' := [vi (iShl y77 8), vi (iShl y25 16)]) (pc' := 54) [(.bipush 8, vi 8, 49), (.ishl, vi 0, 50), (.goto 4, vi 0, 54)] (by decide +kernel) rfl rfl ?_
          exact sm_leaf (fun h => j32 _ h)
        refine sm_icmp_le (off := 16) (tgt := 53) h26 (by decide) (by decide +kernel) (fun c81 => ?_) (fun c81 => ?_)
        · exact p79 c81
        · exact n80 c81
    refine sm_icmp_ge (off := 116) (tgt := 129) h17 (rwl_rg (Nat.lt_of_le_of_lt b15 b16)) (by decide +kernel) (fun c85 => ?_) (fun c85 => ?_)
    · exact p83 c85
    · exact n84 c85
set_option maxHeartbeats 4000000 in
theorem jw_base64_ok {g : GE} (G : GG g) {τ : TT} (d : Nat) (hd1 : 6 ≤ d) (a1 : Option Nat) (a2 : Option Nat)  (σ : ST) (Q : VQ) : Sm (V g mX13_base64 d 0 [(0, vr a1), (1, vr a2)] [] σ τ Q) (jw_base64 (gRm g) a1 a2 σ) (fun r => Q.1 none r τ) := by
  unfold jw_base64
  refine sm_top (fun K hRET => ?_)
  refine sm_b (l' := [(0, vr a1), (1, vr a2)]) (st' := [vi 34, vr a1]) (pc' := 3) [(.aload_n 0, vi 0, 1), (.bipush 34, vi 34, 3)] (by decide +kernel) rfl rfl ?_
  refine sm_de (fun p1 h2 => ?_)
  refine sm_st [vi 34, vr (some p1)] (by rw [h2] <;> rfl) ?_
  refine sm_gd (fun h3 => ?_)
  refine sm_cv (N := mX3_add) (d' := d - 1) (fun r => none) (fun r => r) (fun _ => τ) [vi 34] [] rfl (by decide +kernel) q1105 q535 q536 (Or.inl ⟨rfl, q537⟩) (show okN yX3_add 1 = true by decide +kernel) (fun H hR => hR.rvR G.1 h3) rfl rfl (by omega) rfl (fun Q' => r_add_ok G (d - 1) (by omega) p1 34 σ Q') (fun y4 => ?_)
  refine sm_b (l' := [(0, vr a1), (1, vr a2), (2, vi 0)]) (st' := []) (pc' := 8) [(.iconst 0, vi 0, 7), (.istore_n 2, vi 0, 8)] (by decide +kernel) rfl rfl ?_
  refine sm_bind1 (fun (v5 : ST) => V g mX13_base64 d 129 [(0, vr a1)] [] v5 τ Q) (fun v5 => ?_) (fun K6 j7 => ?_)
  · refine sm_b (l' := [(0, vr a1)]) (st' := [vi 34, vr a1]) (pc' := 132) [(.aload_n 0, vi 0, 130), (.bipush 34, vi 34, 132)] (by decide +kernel) rfl rfl ?_
    refine sm_st [vi 34, vr (some p1)] (by rw [h2] <;> rfl) ?_
    refine sm_gd (fun h9 => ?_)
    refine sm_cv (N := mX3_add) (d' := d - 1) (fun r => none) (fun r => r) (fun _ => τ) [vi 34] [] rfl (by decide +kernel) q1105 q535 q536 (Or.inl ⟨rfl, q537⟩) (show okN yX3_add 1 = true by decide +kernel) (fun H hR => hR.rvR G.1 h9) rfl rfl (by omega) rfl (fun Q' => r_add_ok G (d - 1) (by omega) p1 34 v5 Q') (fun y10 => ?_)
    exact sm_vret rfl (by decide +kernel) (fun h => hRET _ h)
  · exact jw_base64_L8_ok G d hd1 a1 a2  (fun _ h => j7 _ h) FU 0 y4
def jw_number_L53 (bb : Nat × Nat) (u0 : Option Nat) : Nat → Int64 → Int64 → ST → Option (ST)
  | 0, _, _, _ => none
  | n + 1, w4, w6, σ => if w6 = 0 then (some σ) else (Option.bind (jl_divideUnsigned w4 w6) fun y15 => Option.bind u0 fun p16 => gd (sc σ p16 = 4) (Option.bind (r_add bb p16 (lI (48 + y15)) σ) fun y19 => nm (w4 - (y15 * w6)) fun x20 => Option.bind (jl_divideUnsigned w6 10) fun y21 => jw_number_L53 bb u0 n x20 y21 y19))
def jw_number_L26 (bb : Nat × Nat) (u0 : Option Nat) (u4 : Int64) (σ : ST) : Nat → Int64 → Option (Int64)
  | 0, _ => none
  | n + 1, w6 => Option.bind (jl_divideUnsigned u4 w6) fun y27 => Option.bind (jl_compareUnsigned y27 9) fun y28 => gd (rg y28) (if y28 ≤ 0 then (some w6) else (nm (w6 * 10) fun x31 => jw_number_L26 bb u0 u4 σ n x31))
def jw_number (bb : Nat × Nat) (a1 : Option Nat) (a2 : Int64) (a3 : Int) (σ : ST) : Option (ST) := Option.bind (gd (¬ (0 ≤ a2) → rg a3) (if (0 ≤ a2) ∨ (¬ (a3 = 0)) then (some ((a2, σ))) else (Option.bind a1 fun p36 => gd (sc σ p36 = 4) (Option.bind (r_add bb p36 45 σ) fun y39 => nm (-a2) fun x40 => some ((x40, y39)))))) fun (v4 : Int64 × ST) => Option.bind (jw_number_L26 bb a1 v4.1 v4.2 FU 1) fun (v8 : Int64) => jw_number_L53 bb a1 FU v4.1 v8 v4.2
set_option maxHeartbeats 4000000 in
theorem jw_number_L53_ok {g : GE} (G : GG g) {τ : TT} {Q : VQ} (d : Nat) (hd1 : 3 ≤ d) (u0 : Option Nat)  {K : ST → Prop} (hRET : ∀ r : ST, K (r) → Q.1 none r τ) : ∀ (n : Nat) (w4 : Int64) (w6 : Int64) (σ : ST), Sm (V g mX13_number d 53 [(0, vr u0), (4, vl w4), (6, vl w6)] [] σ τ Q) (jw_number_L53 (gRm g) u0 n w4 w6 σ) K := by
  intro n
  induction n with
  | zero => intro w4 w6 σ; exact sm_none
  | succ n ih =>
    intro w4 w6 σ
    rw [jw_number_L53.eq_2]
    refine sm_b (l' := [(0, vr u0), (4, vl w4), (6, vl w6)]) (st' := [vl 0, vl w6]) (pc' := 56) [(.lload 6, vi 0, 55), (.lconst 0, vl 0, 56)] (by decide +kernel) rfl rfl ?_
    refine sm_case (V g mX13_number d 103 [(0, vr u0), (4, vl w4), (6, vl w6)] [] σ τ Q) (V g mX13_number d 60 [(0, vr u0), (4, vl w4), (6, vl w6)] [] σ τ Q) ?_ ?_ (fun f22 p23 n24 => ?_)
    · exact sm_vret rfl (by decide +kernel) (fun h => hRET _ h)
    · refine sm_b (l' := [(0, vr u0), (4, vl w4), (6, vl w6)]) (st' := [vl w6, vl w4]) (pc' := 64) [(.lload 4, vi 0, 62), (.lload 6, vi 0, 64)] (by decide +kernel) rfl rfl ?_
      refine sm_cs (N := mJ15_divideUnsigned) (d' := d - 1) (fun r => (some (vl r))) (fun _ => σ) (fun _ => τ) [vl w4, vl w6] [] rfl (by decide +kernel) q1147 q1148 q161 (Or.inl ⟨rfl, q1149⟩) (show okN yJ15_divideUnsigned 2 = true by decide +kernel) rfl rfl (by omega) rfl (fun Q' => jl_divideUnsigned_ok G (d - 1) (by omega) w4 w6 τ Q') (fun y15 => ?_)
      refine sm_b (l' := [(0, vr u0), (4, vl w4), (6, vl w6), (8, vl y15)]) (st' := [vr u0]) (pc' := 70) [(.lstore 8, vi 0, 69), (.aload_n 0, vi 0, 70)] (by decide +kernel) rfl rfl ?_
      refine sm_ldc2 (by decide +kernel) q1160 ?_
      refine sm_b (l' := [(0, vr u0), (4, vl w4), (6, vl w6), (8, vl y15)]) (st' := [vi (lI (48 + y15)), vr u0]) (pc' := 77) [(.lload 8, vi 0, 75), (.ladd, vi 0, 76), (.l2i, vi 0, 77)] (by decide +kernel) rfl rfl ?_
      refine sm_de (fun p16 h17 => ?_)
      refine sm_st [vi (lI (48 + y15)), vr (some p16)] (by rw [h17] <;> rfl) ?_
      refine sm_gd (fun h18 => ?_)
      refine sm_cv (N := mX3_add) (d' := d - 1) (fun r => none) (fun r => r) (fun _ => τ) [vi (lI (48 + y15))] [] rfl (by decide +kernel) q1105 q535 q536 (Or.inl ⟨rfl, q537⟩) (show okN yX3_add 1 = true by decide +kernel) (fun H hR => hR.rvR G.1 h18) rfl rfl (by omega) rfl (fun Q' => r_add_ok G (d - 1) (by omega) p16 (lI (48 + y15)) σ Q') (fun y19 => ?_)
      refine sm_b (l' := [(0, vr u0), (4, vl w4), (6, vl w6), (8, vl y15)]) (st' := [vl (w4 - (y15 * w6))]) (pc' := 88) [(.lload 4, vi 0, 82), (.lload 8, vi 0, 84), (.lload 6, vi 0, 86), (.lmul, vi 0, 87), (.lsub, vi 0, 88)] (by decide +kernel) rfl rfl ?_
      refine sm_nml (fun x20 => ?_)
      refine sm_b (l' := [(0, vr u0), (4, vl x20), (6, vl w6), (8, vl y15)]) (st' := [vl w6]) (pc' := 92) [(.lstore 4, vi 0, 90), (.lload 6, vi 0, 92)] (by decide +kernel) rfl rfl ?_
      refine sm_ldc2 (by decide +kernel) q1159 ?_
      refine sm_cs (N := mJ15_divideUnsigned) (d' := d - 1) (fun r => (some (vl r))) (fun _ => y19) (fun _ => τ) [vl w6, vl 10] [] rfl (by decide +kernel) q1147 q1148 q161 (Or.inl ⟨rfl, q1149⟩) (show okN yJ15_divideUnsigned 2 = true by decide +kernel) rfl rfl (by omega) rfl (fun Q' => jl_divideUnsigned_ok G (d - 1) (by omega) w6 10 τ Q') (fun y21 => ?_)
      refine sm_b (l' := [(0, vr u0), (4, vl x20), (6, vl y21), (8, vl y15)]) (st' := []) (pc' := 53) [(.lstore 6, vi 0, 100), (.goto (-47), vi 0, 53)] (by decide +kernel) rfl rfl ?_
      refine sm_pick [0, 1, 2] (l' := [(0, vr u0), (4, vl x20), (6, vl y21)]) rfl ?_
      exact ih x20 y21 y19
    refine sm_lc_eq (off := 46) (tgt := 103) (by decide +kernel) (by decide +kernel) (fun c25 => ?_) (fun c25 => ?_)
    · exact p23 c25
    · exact n24 c25
set_option maxHeartbeats 4000000 in
theorem jw_number_L26_ok {g : GE} (G : GG g) {τ : TT} {Q : VQ} (d : Nat) (hd1 : 3 ≤ d) (u0 : Option Nat) (u4 : Int64) (σ : ST)  {K : Int64 → Prop} (hE53 : ∀ v26 : Int64, K (v26) → V g mX13_number d 53 [(0, vr u0), (4, vl u4), (6, vl v26)] [] σ τ Q) : ∀ (n : Nat) (w6 : Int64), Sm (V g mX13_number d 26 [(0, vr u0), (4, vl u4), (6, vl w6)] [] σ τ Q) (jw_number_L26 (gRm g) u0 u4 σ n w6) K := by
  intro n
  induction n with
  | zero => intro w6; exact sm_none
  | succ n ih =>
    intro w6
    rw [jw_number_L26.eq_2]
    refine sm_b (l' := [(0, vr u0), (4, vl u4), (6, vl w6)]) (st' := [vl w6, vl u4]) (pc' := 30) [(.lload 4, vi 0, 28), (.lload 6, vi 0, 30)] (by decide +kernel) rfl rfl ?_
    refine sm_cs (N := mJ15_divideUnsigned) (d' := d - 1) (fun r => (some (vl r))) (fun _ => σ) (fun _ => τ) [vl u4, vl w6] [] rfl (by decide +kernel) q1147 q1148 q161 (Or.inl ⟨rfl, q1149⟩) (show okN yJ15_divideUnsigned 2 = true by decide +kernel) rfl rfl (by omega) rfl (fun Q' => jl_divideUnsigned_ok G (d - 1) (by omega) u4 w6 τ Q') (fun y27 => ?_)
    refine sm_ldc2 (by decide +kernel) q1151 ?_
    refine sm_cs (N := mJ15_compareUnsigned) (d' := d - 1) (fun r => (some (vi r))) (fun _ => σ) (fun _ => τ) [vl y27, vl 9] [] rfl (by decide +kernel) q1152 q1153 q161 (Or.inl ⟨rfl, q1154⟩) (show okN yJ15_compareUnsigned 2 = true by decide +kernel) rfl rfl (by omega) rfl (fun Q' => jl_compareUnsigned_ok G (d - 1) (by omega) y27 9 τ Q') (fun y28 => ?_)
    refine sm_gd (fun h29 => ?_)
    refine sm_case (V g mX13_number d 53 [(0, vr u0), (4, vl u4), (6, vl w6)] [] σ τ Q) (V g mX13_number d 42 [(0, vr u0), (4, vl u4), (6, vl w6)] [] σ τ Q) ?_ ?_ (fun f32 p33 n34 => ?_)
    · exact sm_leaf (fun h => hE53 _ h)
    · refine sm_b (l' := [(0, vr u0), (4, vl u4), (6, vl w6)]) (st' := [vl w6]) (pc' := 44) [(.lload 6, vi 0, 44)] (by decide +kernel) rfl rfl ?_
      refine sm_ldc2 (by decide +kernel) q1159 ?_
      refine sm_b (l' := [(0, vr u0), (4, vl u4), (6, vl w6)]) (st' := [vl (w6 * 10)]) (pc' := 48) [(.lmul, vi 0, 48)] (by decide +kernel) rfl rfl ?_
      refine sm_nml (fun x31 => ?_)
      refine sm_b (l' := [(0, vr u0), (4, vl u4), (6, vl x31)]) (st' := []) (pc' := 26) [(.lstore 6, vi 0, 50), (.goto (-24), vi 0, 26)] (by decide +kernel) rfl rfl ?_
      exact ih x31
    refine sm_if_le (off := 14) (tgt := 53) h29 (by decide +kernel) (fun c35 => ?_) (fun c35 => ?_)
    · exact p33 c35
    · exact n34 c35
set_option maxHeartbeats 4000000 in
theorem jw_number_ok {g : GE} (G : GG g) {τ : TT} (d : Nat) (hd1 : 3 ≤ d) (a1 : Option Nat) (a2 : Int64) (a3 : Int)  (σ : ST) (Q : VQ) : Sm (V g mX13_number d 0 [(0, vr a1), (1, vl a2), (3, vi a3)] [] σ τ Q) (jw_number (gRm g) a1 a2 a3 σ) (fun r => Q.1 none r τ) := by
  unfold jw_number
  refine sm_top (fun K hRET => ?_)
  refine sm_b (l' := [(0, vr a1), (1, vl a2), (3, vi a3), (4, vl a2)]) (st' := [vl 0, vl a2]) (pc' := 5) [(.lload_n 1, vi 0, 1), (.lstore 4, vi 0, 3), (.lload_n 1, vi 0, 4), (.lconst 0, vl 0, 5)] (by decide +kernel) rfl rfl ?_
  refine sm_bind1 (fun (v4 : Int64 × ST) => V g mX13_number d 23 [(0, vr a1), (4, vl v4.1)] [] v4.2 τ Q) (fun v4 => ?_) (fun K5 j6 => ?_)
  · refine sm_b (l' := [(0, vr a1), (4, vl v4.1), (6, vl 1)]) (st' := []) (pc' := 26) [(.lconst 1, vl 1, 24), (.lstore 6, vi 0, 26)] (by decide +kernel) rfl rfl ?_
    refine sm_bind1 (fun (v8 : Int64) => V g mX13_number d 53 [(0, vr a1), (4, vl v4.1), (6, vl v8)] [] v4.2 τ Q) (fun v8 => ?_) (fun K9 j10 => ?_)
    · exact jw_number_L53_ok G d hd1 a1  (fun r h => hRET _ h) FU v4.1 v8 v4.2
    · exact jw_number_L26_ok G d hd1 a1 v4.1 v4.2  (fun _ h => j10 _ h) FU 1
  · refine sm_gd (fun h2 => ?_)
    refine sm_case (V g mX13_number d 23 [(0, vr a1), (1, vl a2), (3, vi a3), (4, vl a2)] [] σ τ Q) (V g mX13_number d 13 [(0, vr a1), (1, vl a2), (3, vi a3), (4, vl a2)] [] σ τ Q) ?_ ?_ (fun f41 p42 n43 => ?_)
    · refine sm_pick [0, 3] (l' := [(0, vr a1), (4, vl a2)]) rfl ?_
      exact sm_leaf (fun h => j6 _ h)
    · refine sm_b (l' := [(0, vr a1), (1, vl a2), (3, vi a3), (4, vl a2)]) (st' := [vi 45, vr a1]) (pc' := 16) [(.aload_n 0, vi 0, 14), (.bipush 45, vi 45, 16)] (by decide +kernel) rfl rfl ?_
      refine sm_de (fun p36 h37 => ?_)
      refine sm_st [vi 45, vr (some p36)] (by rw [h37] <;> rfl) ?_
      refine sm_gd (fun h38 => ?_)
      refine sm_cv (N := mX3_add) (d' := d - 1) (fun r => none) (fun r => r) (fun _ => τ) [vi 45] [] rfl (by decide +kernel) q1105 q535 q536 (Or.inl ⟨rfl, q537⟩) (show okN yX3_add 1 = true by decide +kernel) (fun H hR => hR.rvR G.1 h38) rfl rfl (by omega) rfl (fun Q' => r_add_ok G (d - 1) (by omega) p36 45 σ Q') (fun y39 => ?_)
      refine sm_b (l' := [(0, vr a1), (1, vl a2), (3, vi a3), (4, vl a2)]) (st' := [vl (-a2)]) (pc' := 21) [(.lload_n 1, vi 0, 20), (.lneg, vi 0, 21)] (by decide +kernel) rfl rfl ?_
      refine sm_nml (fun x40 => ?_)
      refine sm_b (l' := [(0, vr a1), (1, vl a2), (3, vi a3), (4, vl x40)]) (st' := []) (pc' := 23) [(.lstore 4, vi 0, 23)] (by decide +kernel) rfl rfl ?_
      refine sm_pick [0, 3] (l' := [(0, vr a1), (4, vl x40)]) rfl ?_
      exact sm_leaf (fun h => j6 _ h)
    refine sm_lc_ge (off := 17) (tgt := 23) (by decide +kernel) (by decide +kernel) (fun c44 => ?_) (fun c44 => ?_)
    · exact p42 (Or.inl c44)
    · have w1 : ¬ (0 ≤ a2) := c44
      refine sm_b (l' := [(0, vr a1), (1, vl a2), (3, vi a3), (4, vl a2)]) (st' := [vi a3]) (pc' := 10) [(.iload_n 3, vi 0, 10)] (by decide +kernel) rfl rfl ?_
      refine sm_if_ne (off := 13) (tgt := 23) (h2 w1) (by decide +kernel) (fun c45 => ?_) (fun c45 => ?_)
      · exact p42 (Or.inr c45)
      · exact n43 (fun q => q.elim c44 (fun q => q c45))
def jw_slot (bb : Nat × Nat) (rec : Option Nat → Option Nat → ST → Option (ST)) (a1 : Option Nat) (a2 : Option Nat) (σ : ST) : Option (ST) := Option.bind a2 fun p1 => gd (sc σ p1 = 13) (nm (sR σ 192 p1) fun x4 => Option.bind x4 fun p5 => gd (sc σ p5 = 9) (Option.bind (gd (rg (sI σ 132 p5)) (if ((((sI σ 132 p5) = 1) ∨ ((sI σ 132 p5) = 3)) ∨ ((sI σ 132 p5) = 5)) ∨ ((sI σ 132 p5) = 7) then (some 1) else (some 0))) fun (v14 : Int) => Option.bind (gd (rg (sI σ 132 p5)) (if (sI σ 132 p5) = 32 then (Option.bind (sR σ 138 p5) fun p119 => gd (sc σ p119 = 8) (Option.bind (et_nameOf p119 (sJ σ 193 p1) σ) fun y122 => some y122)) else (some none))) fun (v25 : Option Nat) => gd (rg (sI σ 132 p5)) (if (sI σ 132 p5) = 16 then (Option.bind (rec a1 (sR σ 195 p1) σ) fun y32 => some y32) else (if (sI σ 132 p5) = 9 then (Option.bind (jw_text bb a1 (sR σ 194 p1) σ) fun y35 => some y35) else (if (sI σ 132 p5) = 10 then (Option.bind (jw_base64 bb a1 (sR σ 194 p1) σ) fun y38 => some y38) else (if (sI σ 132 p5) = 8 then (Option.bind (if (sJ σ 193 p1) = 0 then (some 4) else (some 3)) fun (v43 : Nat) => Option.bind a1 fun p47 => gd (sc σ p47 = 4) (Option.bind (row_addText bb p47 v43 σ) fun y50 => some y50)) else (if v25 = none then (Option.bind (gd (rg v14) (if v14 = 0 then (some σ) else (Option.bind a1 fun p90 => gd (sc σ p90 = 4) (Option.bind (r_add bb p90 34 σ) fun y93 => some y93)))) fun (v60 : ST) => gd (sc v60 p1 = 13) (gd (sc v60 p5 = 9) (Option.bind (gd (rg (sI v60 132 p5)) (if ((sI v60 132 p5) = 3) ∨ ((sI v60 132 p5) = 7) then (some 1) else (some 0))) fun (v70 : Int) => Option.bind (jw_number bb a1 (sJ v60 193 p1) v70 v60) fun y74 => gd (rg v14) (if v14 = 0 then (some y74) else (Option.bind a1 fun p77 => gd (sc y74 p77 = 4) (Option.bind (r_add bb p77 34 y74) fun y80 => some y80)))))) else (Option.bind (jw_text bb a1 v25 σ) fun y98 => some y98))))))))
set_option maxHeartbeats 4000000 in
theorem jw_slot_ok {g : GE} (G : GG g) {D : Nat} (rec : Option Nat → Option Nat → ST → Option (ST)) (hrec : ∀ (d : Nat), D ≤ d → ∀ {τ : TT} (a1 : Option Nat) (a2 : Option Nat) (σ : ST) (Q' : VQ), Sm (V g mX13_write d 0 [(0, vr a1), (1, vr a2)] [] σ τ Q') (rec a1 a2 σ) (fun r => Q'.1 none r τ)) {τ : TT} (d : Nat) (hd1 : D + 1 ≤ d) (hd2 : 9 ≤ d) (a1 : Option Nat) (a2 : Option Nat)  (σ : ST) (Q : VQ) : Sm (V g mX13_slot d 0 [(0, vr a1), (1, vr a2)] [] σ τ Q) (jw_slot (gRm g) rec a1 a2 σ) (fun r => Q.1 none r τ) := by
  unfold jw_slot
  refine sm_top (fun K hRET => ?_)
  refine sm_b (l' := [(0, vr a1), (1, vr a2)]) (st' := [vr a2]) (pc' := 1) [(.aload_n 1, vi 0, 1)] (by decide +kernel) rfl rfl ?_
  refine sm_de (fun p1 h2 => ?_)
  refine sm_st [vr (some p1)] (by rw [h2] <;> rfl) ?_
  refine sm_gd (fun h3 => ?_)
  refine sm_gN (k := 0) (x := vr (sR σ 192 p1)) cd12 rfl h3 rfl q1019 rfl (by decide +kernel) ?_
  refine sm_nmr (fun x4 => ?_)
  refine sm_b (l' := [(0, vr a1), (1, vr a2), (2, vr x4)]) (st' := [vr x4]) (pc' := 6) [(.astore_n 2, vi 0, 5), (.aload_n 2, vi 0, 6)] (by decide +kernel) rfl rfl ?_
  refine sm_de (fun p5 h6 => ?_)
  refine sm_st [vr (some p5)] (by rw [h6] <;> rfl) ?_
  refine sm_gd (fun h7 => ?_)
  refine sm_gN (k := 4) (x := vi (sI σ 132 p5)) cd8 rfl h7 rfl q732 rfl (by decide +kernel) ?_
  refine sm_b (l' := [(0, vr a1), (1, vr a2), (2, vr x4)]) (st' := [vi 1, vi (sI σ 132 p5)]) (pc' := 10) [(.iconst 1, vi 1, 10)] (by decide +kernel) rfl rfl ?_
  refine sm_bind1 (fun (v14 : Int) => V g mX13_slot d 43 [(0, vr a1), (1, vr a2), (2, vr x4)] [vi v14] σ τ Q) (fun v14 => ?_) (fun K15 j16 => ?_)
  · refine sm_b (l' := [(0, vr a1), (1, vr a2), (2, vr x4), (3, vi v14)]) (st' := [vr x4]) (pc' := 45) [(.istore_n 3, vi 0, 44), (.aload_n 2, vi 0, 45)] (by decide +kernel) rfl rfl ?_
    refine sm_st [vr (some p5)] (by rw [h6] <;> rfl) ?_
    refine sm_gN (k := 4) (x := vi (sI σ 132 p5)) cd8 rfl h7 rfl q732 rfl (by decide +kernel) ?_
    refine sm_b (l' := [(0, vr a1), (1, vr a2), (2, vr x4), (3, vi v14)]) (st' := [vi 32, vi (sI σ 132 p5)]) (pc' := 50) [(.bipush 32, vi 32, 50)] (by decide +kernel) rfl rfl ?_
    refine sm_bind1 (fun (v25 : Option Nat) => V g mX13_slot d 68 [(0, vr a1), (1, vr a2), (2, vr x4), (3, vi v14)] [vr v25] σ τ Q) (fun v25 => ?_) (fun K26 j27 => ?_)
    · refine sm_b (l' := [(0, vr a1), (1, vr a2), (2, vr x4), (3, vi v14), (4, vr v25)]) (st' := [vr x4]) (pc' := 71) [(.astore 4, vi 0, 70), (.aload_n 2, vi 0, 71)] (by decide +kernel) rfl rfl ?_
      refine sm_st [vr (some p5)] (by rw [h6] <;> rfl) ?_
      refine sm_gN (k := 4) (x := vi (sI σ 132 p5)) cd8 rfl h7 rfl q732 rfl (by decide +kernel) ?_
      refine sm_b (l' := [(0, vr a1), (1, vr a2), (2, vr x4), (3, vi v14), (4, vr v25)]) (st' := [vi 16, vi (sI σ 132 p5)]) (pc' := 76) [(.bipush 16, vi 16, 76)] (by decide +kernel) rfl rfl ?_
      refine sm_gd (fun h29 => ?_)
      refine sm_case (V g mX13_slot d 79 [(0, vr a1), (1, vr a2), (2, vr x4), (3, vi v14), (4, vr v25)] [] σ τ Q) (V g mX13_slot d 90 [(0, vr a1), (1, vr a2), (2, vr x4), (3, vi v14), (4, vr v25)] [] σ τ Q) ?_ ?_ (fun f115 p116 n117 => ?_)
      · refine sm_b (l' := [(0, vr a1), (1, vr a2), (2, vr x4), (3, vi v14), (4, vr v25)]) (st' := [vr a2, vr a1]) (pc' := 81) [(.aload_n 0, vi 0, 80), (.aload_n 1, vi 0, 81)] (by decide +kernel) rfl rfl ?_
        refine sm_st [vr (some p1), vr a1] (by rw [h2] <;> rfl) ?_
        refine sm_gN (k := 3) (x := vr (sR σ 195 p1)) cd12 rfl h3 rfl q1033 rfl (by decide +kernel) ?_
        refine sm_cs (N := mX13_write) (d' := d - 1) (fun r => none) (fun r => r) (fun _ => τ) [vr a1, vr (sR σ 195 p1)] [] rfl (by decide +kernel) q1136 q1103 q160 (Or.inl ⟨rfl, q1104⟩) (show okN yX13_write 2 = true by decide +kernel) rfl rfl (by omega) rfl (fun Q' => hrec (d - 1) (by omega) a1 (sR σ 195 p1) σ Q') (fun y32 => ?_)
        refine sm_b (l' := [(0, vr a1), (1, vr a2), (2, vr x4), (3, vi v14), (4, vr v25)]) (st' := []) (pc' := 226) [(.goto 139, vi 0, 226)] (by decide +kernel) rfl rfl ?_
        exact sm_vret rfl (by decide +kernel) (fun h => hRET _ h)
      · refine sm_b (l' := [(0, vr a1), (1, vr a2), (2, vr x4), (3, vi v14), (4, vr v25)]) (st' := [vr x4]) (pc' := 91) [(.aload_n 2, vi 0, 91)] (by decide +kernel) rfl rfl ?_
        refine sm_st [vr (some p5)] (by rw [h6] <;> rfl) ?_
        refine sm_gN (k := 4) (x := vi (sI σ 132 p5)) cd8 rfl h7 rfl q732 rfl (by decide +kernel) ?_
        refine sm_b (l' := [(0, vr a1), (1, vr a2), (2, vr x4), (3, vi v14), (4, vr v25)]) (st' := [vi 9, vi (sI σ 132 p5)]) (pc' := 96) [(.bipush 9, vi 9, 96)] (by decide +kernel) rfl rfl ?_
        refine sm_case (V g mX13_slot d 99 [(0, vr a1), (1, vr a2), (2, vr x4), (3, vi v14), (4, vr v25)] [] σ τ Q) (V g mX13_slot d 110 [(0, vr a1), (1, vr a2), (2, vr x4), (3, vi v14), (4, vr v25)] [] σ τ Q) ?_ ?_ (fun f111 p112 n113 => ?_)
        · refine sm_b (l' := [(0, vr a1), (1, vr a2), (2, vr x4), (3, vi v14), (4, vr v25)]) (st' := [vr a2, vr a1]) (pc' := 101) [(.aload_n 0, vi 0, 100), (.aload_n 1, vi 0, 101)] (by decide +kernel) rfl rfl ?_
          refine sm_st [vr (some p1), vr a1] (by rw [h2] <;> rfl) ?_
          refine sm_gN (k := 2) (x := vr (sR σ 194 p1)) cd12 rfl h3 rfl q1028 rfl (by decide +kernel) ?_
          refine sm_cs (N := mX13_text) (d' := d - 1) (fun r => none) (fun r => r) (fun _ => τ) [vr a1, vr (sR σ 194 p1)] [] rfl (by decide +kernel) q1110 q1111 q160 (Or.inl ⟨rfl, q1112⟩) (show okN yX13_text 2 = true by decide +kernel) rfl rfl (by omega) rfl (fun Q' => jw_text_ok G (d - 1) (by omega) a1 (sR σ 194 p1) σ Q') (fun y35 => ?_)
          refine sm_b (l' := [(0, vr a1), (1, vr a2), (2, vr x4), (3, vi v14), (4, vr v25)]) (st' := []) (pc' := 226) [(.goto 119, vi 0, 226)] (by decide +kernel) rfl rfl ?_
          exact sm_vret rfl (by decide +kernel) (fun h => hRET _ h)
        · refine sm_b (l' := [(0, vr a1), (1, vr a2), (2, vr x4), (3, vi v14), (4, vr v25)]) (st' := [vr x4]) (pc' := 111) [(.aload_n 2, vi 0, 111)] (by decide +kernel) rfl rfl ?_
          refine sm_st [vr (some p5)] (by rw [h6] <;> rfl) ?_
          refine sm_gN (k := 4) (x := vi (sI σ 132 p5)) cd8 rfl h7 rfl q732 rfl (by decide +kernel) ?_
          refine sm_b (l' := [(0, vr a1), (1, vr a2), (2, vr x4), (3, vi v14), (4, vr v25)]) (st' := [vi 10, vi (sI σ 132 p5)]) (pc' := 116) [(.bipush 10, vi 10, 116)] (by decide +kernel) rfl rfl ?_
          refine sm_case (V g mX13_slot d 119 [(0, vr a1), (1, vr a2), (2, vr x4), (3, vi v14), (4, vr v25)] [] σ τ Q) (V g mX13_slot d 130 [(0, vr a1), (1, vr a2), (2, vr x4), (3, vi v14), (4, vr v25)] [] σ τ Q) ?_ ?_ (fun f107 p108 n109 => ?_)
          · refine sm_b (l' := [(0, vr a1), (1, vr a2), (2, vr x4), (3, vi v14), (4, vr v25)]) (st' := [vr a2, vr a1]) (pc' := 121) [(.aload_n 0, vi 0, 120), (.aload_n 1, vi 0, 121)] (by decide +kernel) rfl rfl ?_
            refine sm_st [vr (some p1), vr a1] (by rw [h2] <;> rfl) ?_
            refine sm_gN (k := 2) (x := vr (sR σ 194 p1)) cd12 rfl h3 rfl q1028 rfl (by decide +kernel) ?_
            refine sm_cs (N := mX13_base64) (d' := d - 1) (fun r => none) (fun r => r) (fun _ => τ) [vr a1, vr (sR σ 194 p1)] [] rfl (by decide +kernel) q1137 q1138 q160 (Or.inl ⟨rfl, q1139⟩) (show okN yX13_base64 2 = true by decide +kernel) rfl rfl (by omega) rfl (fun Q' => jw_base64_ok G (d - 1) (by omega) a1 (sR σ 194 p1) σ Q') (fun y38 => ?_)
            refine sm_b (l' := [(0, vr a1), (1, vr a2), (2, vr x4), (3, vi v14), (4, vr v25)]) (st' := []) (pc' := 226) [(.goto 99, vi 0, 226)] (by decide +kernel) rfl rfl ?_
            exact sm_vret rfl (by decide +kernel) (fun h => hRET _ h)
          · refine sm_b (l' := [(0, vr a1), (1, vr a2), (2, vr x4), (3, vi v14), (4, vr v25)]) (st' := [vr x4]) (pc' := 131) [(.aload_n 2, vi 0, 131)] (by decide +kernel) rfl rfl ?_
            refine sm_st [vr (some p5)] (by rw [h6] <;> rfl) ?_
            refine sm_gN (k := 4) (x := vi (sI σ 132 p5)) cd8 rfl h7 rfl q732 rfl (by decide +kernel) ?_
            refine sm_b (l' := [(0, vr a1), (1, vr a2), (2, vr x4), (3, vi v14), (4, vr v25)]) (st' := [vi 8, vi (sI σ 132 p5)]) (pc' := 136) [(.bipush 8, vi 8, 136)] (by decide +kernel) rfl rfl ?_
            refine sm_case (V g mX13_slot d 139 [(0, vr a1), (1, vr a2), (2, vr x4), (3, vi v14), (4, vr v25)] [] σ τ Q) (V g mX13_slot d 162 [(0, vr a1), (1, vr a2), (2, vr x4), (3, vi v14), (4, vr v25)] [] σ τ Q) ?_ ?_ (fun f103 p104 n105 => ?_)
            · refine sm_b (l' := [(0, vr a1), (1, vr a2), (2, vr x4), (3, vi v14), (4, vr v25)]) (st' := [vr a2, vr a1]) (pc' := 141) [(.aload_n 0, vi 0, 140), (.aload_n 1, vi 0, 141)] (by decide +kernel) rfl rfl ?_
              refine sm_st [vr (some p1), vr a1] (by rw [h2] <;> rfl) ?_
              refine sm_gN (k := 1) (x := vl (sJ σ 193 p1)) cd12 rfl h3 rfl q1023 rfl (by decide +kernel) ?_
              refine sm_b (l' := [(0, vr a1), (1, vr a2), (2, vr x4), (3, vi v14), (4, vr v25)]) (st' := [vl 0, vl (sJ σ 193 p1), vr a1]) (pc' := 145) [(.lconst 0, vl 0, 145)] (by decide +kernel) rfl rfl ?_
              refine sm_bind1 (fun (v43 : Nat) => V g mX13_slot d 156 [] [vr (some (gK g v43)), vr a1] σ τ Q) (fun v43 => ?_) (fun K44 j45 => ?_)
              · refine sm_de (fun p47 h48 => ?_)
                refine sm_st [vr (some (gK g v43)), vr (some p47)] (by rw [h48] <;> rfl) ?_
                refine sm_gd (fun h49 => ?_)
                refine sm_cv (N := mX3_addText) (d' := d - 1) (fun r => none) (fun r => r) (fun _ => τ) [vr (some (gK g v43))] [] rfl (by decide +kernel) q1118 q1119 q1120 (Or.inl ⟨rfl, q1121⟩) (show okN yX3_addText 1 = true by decide +kernel) (fun H hR => hR.rvR G.1 h49) rfl rfl (by omega) rfl (fun Q' => row_addText_ok G (d - 1) (by omega) p47 v43 σ Q') (fun y50 => ?_)
                refine sm_b (l' := []) (st' := []) (pc' := 226) [(.goto 67, vi 0, 226)] (by decide +kernel) rfl rfl ?_
                exact sm_vret rfl (by decide +kernel) (fun h => hRET _ h)
              · refine sm_case (V g mX13_slot d 154 [(0, vr a1), (1, vr a2), (2, vr x4), (3, vi v14), (4, vr v25)] [vr a1] σ τ Q) (V g mX13_slot d 149 [(0, vr a1), (1, vr a2), (2, vr x4), (3, vi v14), (4, vr v25)] [vr a1] σ τ Q) ?_ ?_ (fun f51 p52 n53 => ?_)
                · refine sm_str (k := 4) G rfl (by decide +kernel) ?_
                  refine sm_pick [] (l' := []) rfl ?_
                  exact sm_leaf (fun h => j45 _ h)
                · refine sm_str (k := 3) G rfl (by decide +kernel) ?_
                  refine sm_b (l' := [(0, vr a1), (1, vr a2), (2, vr x4), (3, vi v14), (4, vr v25)]) (st' := [vr (some (gK g 3)), vr a1]) (pc' := 156) [(.goto 5, vi 0, 156)] (by decide +kernel) rfl rfl ?_
                  refine sm_pick [] (l' := []) rfl ?_
                  exact sm_leaf (fun h => j45 _ h)
                refine sm_lc_eq (off := 8) (tgt := 154) (by decide +kernel) (by decide +kernel) (fun c54 => ?_) (fun c54 => ?_)
                · exact p52 c54
                · exact n53 c54
            · refine sm_b (l' := [(0, vr a1), (1, vr a2), (2, vr x4), (3, vi v14), (4, vr v25)]) (st' := [vr v25]) (pc' := 164) [(.aload 4, vi 0, 164)] (by decide +kernel) rfl rfl ?_
              refine sm_case (V g mX13_slot d 176 [(0, vr a1), (1, vr a2), (2, vr x4), (3, vi v14), (4, vr v25)] [] σ τ Q) (V g mX13_slot d 167 [(0, vr a1), (1, vr a2), (2, vr x4), (3, vi v14), (4, vr v25)] [] σ τ Q) ?_ ?_ (fun f99 p100 n101 => ?_)
              · refine sm_b (l' := [(0, vr a1), (1, vr a2), (2, vr x4), (3, vi v14), (4, vr v25)]) (st' := [vi v14]) (pc' := 177) [(.iload_n 3, vi 0, 177)] (by decide +kernel) rfl rfl ?_
                refine sm_bind1 (fun (v60 : ST) => V g mX13_slot d 186 [(0, vr a1), (1, vr a2), (2, vr x4), (3, vi v14)] [] v60 τ Q) (fun v60 => ?_) (fun K61 j62 => ?_)
                · refine sm_b (l' := [(0, vr a1), (1, vr a2), (2, vr x4), (3, vi v14)]) (st' := [vr a2, vr a1]) (pc' := 188) [(.aload_n 0, vi 0, 187), (.aload_n 1, vi 0, 188)] (by decide +kernel) rfl rfl ?_
                  refine sm_st [vr (some p1), vr a1] (by rw [h2] <;> rfl) ?_
                  refine sm_gd (fun h64 => ?_)
                  refine sm_gN (k := 1) (x := vl (sJ v60 193 p1)) cd12 rfl h64 rfl q1023 rfl (by decide +kernel) ?_
                  refine sm_b (l' := [(0, vr a1), (1, vr a2), (2, vr x4), (3, vi v14)]) (st' := [vr x4, vl (sJ v60 193 p1), vr a1]) (pc' := 192) [(.aload_n 2, vi 0, 192)] (by decide +kernel) rfl rfl ?_
                  refine sm_st [vr (some p5), vl (sJ v60 193 p1), vr a1] (by rw [h6] <;> rfl) ?_
                  refine sm_gd (fun h65 => ?_)
                  refine sm_gN (k := 4) (x := vi (sI v60 132 p5)) cd8 rfl h65 rfl q732 rfl (by decide +kernel) ?_
                  refine sm_b (l' := [(0, vr a1), (1, vr a2), (2, vr x4), (3, vi v14)]) (st' := [vi 3, vi (sI v60 132 p5), vl (sJ v60 193 p1), vr a1]) (pc' := 196) [(.iconst 3, vi 3, 196)] (by decide +kernel) rfl rfl ?_
                  refine sm_bind1 (fun (v70 : Int) => V g mX13_slot d 213 [(0, vr a1), (3, vi v14)] [vi v70, vl (sJ v60 193 p1), vr a1] v60 τ Q) (fun v70 => ?_) (fun K71 j72 => ?_)
                  · refine sm_cs (N := mX13_number) (d' := d - 1) (fun r => none) (fun r => r) (fun _ => τ) [vr a1, vl (sJ v60 193 p1), vi v70] [] rfl (by decide +kernel) q1144 q1145 q160 (Or.inl ⟨rfl, q1146⟩) (show okN yX13_number 3 = true by decide +kernel) rfl rfl (by omega) rfl (fun Q' => jw_number_ok G (d - 1) (by omega) a1 (sJ v60 193 p1) v70 v60 Q') (fun y74 => ?_)
                    refine sm_b (l' := [(0, vr a1), (3, vi v14)]) (st' := [vi v14]) (pc' := 217) [(.iload_n 3, vi 0, 217)] (by decide +kernel) rfl rfl ?_
                    refine sm_gd (fun h75 => ?_)
                    refine sm_case (V g mX13_slot d 226 [(0, vr a1), (3, vi v14)] [] y74 τ Q) (V g mX13_slot d 220 [(0, vr a1), (3, vi v14)] [] y74 τ Q) ?_ ?_ (fun f81 p82 n83 => ?_)
                    · exact sm_vret rfl (by decide +kernel) (fun h => hRET _ h)
                    · refine sm_b (l' := [(0, vr a1), (3, vi v14)]) (st' := [vi 34, vr a1]) (pc' := 223) [(.aload_n 0, vi 0, 221), (.bipush 34, vi 34, 223)] (by decide +kernel) rfl rfl ?_
                      refine sm_de (fun p77 h78 => ?_)
                      refine sm_st [vi 34, vr (some p77)] (by rw [h78] <;> rfl) ?_
                      refine sm_gd (fun h79 => ?_)
                      refine sm_cv (N := mX3_add) (d' := d - 1) (fun r => none) (fun r => r) (fun _ => τ) [vi 34] [] rfl (by decide +kernel) q1105 q535 q536 (Or.inl ⟨rfl, q537⟩) (show okN yX3_add 1 = true by decide +kernel) (fun H hR => hR.rvR G.1 h79) rfl rfl (by omega) rfl (fun Q' => r_add_ok G (d - 1) (by omega) p77 34 y74 Q') (fun y80 => ?_)
                      exact sm_vret rfl (by decide +kernel) (fun h => hRET _ h)
                    refine sm_if_eq (off := 9) (tgt := 226) h75 (by decide +kernel) (fun c84 => ?_) (fun c84 => ?_)
                    · exact p82 c84
                    · exact n83 c84
                  · refine sm_gd (fun h66 => ?_)
                    refine sm_case (V g mX13_slot d 208 [(0, vr a1), (1, vr a2), (2, vr x4), (3, vi v14)] [vl (sJ v60 193 p1), vr a1] v60 τ Q) (V g mX13_slot d 212 [(0, vr a1), (1, vr a2), (2, vr x4), (3, vi v14)] [vl (sJ v60 193 p1), vr a1] v60 τ Q) ?_ ?_ (fun f85 p86 n87 => ?_)
                    · refine sm_b (l' := [(0, vr a1), (1, vr a2), (2, vr x4), (3, vi v14)]) (st' := [vi 1, vl (sJ v60 193 p1), vr a1]) (pc' := 213) [(.iconst 1, vi 1, 209), (.goto 4, vi 0, 213)] (by decide +kernel) rfl rfl ?_
                      refine sm_pick [0, 3] (l' := [(0, vr a1), (3, vi v14)]) rfl ?_
                      exact sm_leaf (fun h => j72 _ h)
                    · refine sm_b (l' := [(0, vr a1), (1, vr a2), (2, vr x4), (3, vi v14)]) (st' := [vi 0, vl (sJ v60 193 p1), vr a1]) (pc' := 213) [(.iconst 0, vi 0, 213)] (by decide +kernel) rfl rfl ?_
                      refine sm_pick [0, 3] (l' := [(0, vr a1), (3, vi v14)]) rfl ?_
                      exact sm_leaf (fun h => j72 _ h)
                    refine sm_icmp_eq (off := 12) (tgt := 208) h66 (by decide) (by decide +kernel) (fun c88 => ?_) (fun c88 => ?_)
                    · exact p86 (Or.inl c88)
                    · refine sm_b (l' := [(0, vr a1), (1, vr a2), (2, vr x4), (3, vi v14)]) (st' := [vr x4, vl (sJ v60 193 p1), vr a1]) (pc' := 200) [(.aload_n 2, vi 0, 200)] (by decide +kernel) rfl rfl ?_
                      refine sm_st [vr (some p5), vl (sJ v60 193 p1), vr a1] (by rw [h6] <;> rfl) ?_
                      refine sm_gN (k := 4) (x := vi (sI v60 132 p5)) cd8 rfl h65 rfl q732 rfl (by decide +kernel) ?_
                      refine sm_b (l' := [(0, vr a1), (1, vr a2), (2, vr x4), (3, vi v14)]) (st' := [vi 7, vi (sI v60 132 p5), vl (sJ v60 193 p1), vr a1]) (pc' := 205) [(.bipush 7, vi 7, 205)] (by decide +kernel) rfl rfl ?_
                      refine sm_icmp_ne (off := 7) (tgt := 212) h66 (by decide) (by decide +kernel) (fun c89 => ?_) (fun c89 => ?_)
                      · exact n87 (fun q => q.elim c88 c89)
                      · exact p86 (Or.inr c89)
                · refine sm_gd (fun h58 => ?_)
                  refine sm_case (V g mX13_slot d 186 [(0, vr a1), (1, vr a2), (2, vr x4), (3, vi v14), (4, vr v25)] [] σ τ Q) (V g mX13_slot d 180 [(0, vr a1), (1, vr a2), (2, vr x4), (3, vi v14), (4, vr v25)] [] σ τ Q) ?_ ?_ (fun f94 p95 n96 => ?_)
                  · refine sm_pick [0, 1, 2, 3] (l' := [(0, vr a1), (1, vr a2), (2, vr x4), (3, vi v14)]) rfl ?_
                    exact sm_leaf (fun h => j62 _ h)
                  · refine sm_b (l' := [(0, vr a1), (1, vr a2), (2, vr x4), (3, vi v14), (4, vr v25)]) (st' := [vi 34, vr a1]) (pc' := 183) [(.aload_n 0, vi 0, 181), (.bipush 34, vi 34, 183)] (by decide +kernel) rfl rfl ?_
                    refine sm_de (fun p90 h91 => ?_)
                    refine sm_st [vi 34, vr (some p90)] (by rw [h91] <;> rfl) ?_
                    refine sm_gd (fun h92 => ?_)
                    refine sm_cv (N := mX3_add) (d' := d - 1) (fun r => none) (fun r => r) (fun _ => τ) [vi 34] [] rfl (by decide +kernel) q1105 q535 q536 (Or.inl ⟨rfl, q537⟩) (show okN yX3_add 1 = true by decide +kernel) (fun H hR => hR.rvR G.1 h92) rfl rfl (by omega) rfl (fun Q' => r_add_ok G (d - 1) (by omega) p90 34 σ Q') (fun y93 => ?_)
                    refine sm_pick [0, 1, 2, 3] (l' := [(0, vr a1), (1, vr a2), (2, vr x4), (3, vi v14)]) rfl ?_
                    exact sm_leaf (fun h => j62 _ h)
                  refine sm_if_eq (off := 9) (tgt := 186) h58 (by decide +kernel) (fun c97 => ?_) (fun c97 => ?_)
                  · exact p95 c97
                  · exact n96 c97
              · refine sm_b (l' := [(0, vr a1), (1, vr a2), (2, vr x4), (3, vi v14), (4, vr v25)]) (st' := [vr v25, vr a1]) (pc' := 170) [(.aload_n 0, vi 0, 168), (.aload 4, vi 0, 170)] (by decide +kernel) rfl rfl ?_
                refine sm_cs (N := mX13_text) (d' := d - 1) (fun r => none) (fun r => r) (fun _ => τ) [vr a1, vr v25] [] rfl (by decide +kernel) q1110 q1111 q160 (Or.inl ⟨rfl, q1112⟩) (show okN yX13_text 2 = true by decide +kernel) rfl rfl (by omega) rfl (fun Q' => jw_text_ok G (d - 1) (by omega) a1 v25 σ Q') (fun y98 => ?_)
                refine sm_b (l' := [(0, vr a1), (1, vr a2), (2, vr x4), (3, vi v14), (4, vr v25)]) (st' := []) (pc' := 226) [(.goto 53, vi 0, 226)] (by decide +kernel) rfl rfl ?_
                exact sm_vret rfl (by decide +kernel) (fun h => hRET _ h)
              refine sm_ifnull (off := 12) (tgt := 176) (by decide +kernel) (fun c102 => ?_) (fun c102 => ?_)
              · exact p100 c102
              · exact n101 c102
            refine sm_icmp_ne (off := 26) (tgt := 162) h29 (by decide) (by decide +kernel) (fun c106 => ?_) (fun c106 => ?_)
            · exact n105 c106
            · exact p104 c106
          refine sm_icmp_ne (off := 14) (tgt := 130) h29 (by decide) (by decide +kernel) (fun c110 => ?_) (fun c110 => ?_)
          · exact n109 c110
          · exact p108 c110
        refine sm_icmp_ne (off := 14) (tgt := 110) h29 (by decide) (by decide +kernel) (fun c114 => ?_) (fun c114 => ?_)
        · exact n113 c114
        · exact p112 c114
      refine sm_icmp_ne (off := 14) (tgt := 90) h29 (by decide) (by decide +kernel) (fun c118 => ?_) (fun c118 => ?_)
      · exact n117 c118
      · exact p116 c118
    · refine sm_gd (fun h18 => ?_)
      refine sm_case (V g mX13_slot d 53 [(0, vr a1), (1, vr a2), (2, vr x4), (3, vi v14)] [] σ τ Q) (V g mX13_slot d 67 [(0, vr a1), (1, vr a2), (2, vr x4), (3, vi v14)] [] σ τ Q) ?_ ?_ (fun f123 p124 n125 => ?_)
      · refine sm_b (l' := [(0, vr a1), (1, vr a2), (2, vr x4), (3, vi v14)]) (st' := [vr x4]) (pc' := 54) [(.aload_n 2, vi 0, 54)] (by decide +kernel) rfl rfl ?_
        refine sm_st [vr (some p5)] (by rw [h6] <;> rfl) ?_
        refine sm_gN (k := 10) (x := vr (sR σ 138 p5)) cd8 rfl h7 rfl q758 rfl (by decide +kernel) ?_
        refine sm_b (l' := [(0, vr a1), (1, vr a2), (2, vr x4), (3, vi v14)]) (st' := [vr a2, vr (sR σ 138 p5)]) (pc' := 58) [(.aload_n 1, vi 0, 58)] (by decide +kernel) rfl rfl ?_
        refine sm_st [vr (some p1), vr (sR σ 138 p5)] (by rw [h2] <;> rfl) ?_
        refine sm_gN (k := 1) (x := vl (sJ σ 193 p1)) cd12 rfl h3 rfl q1023 rfl (by decide +kernel) ?_
        refine sm_de (fun p119 h120 => ?_)
        refine sm_st [vl (sJ σ 193 p1), vr (some p119)] (by rw [h120] <;> rfl) ?_
        refine sm_gd (fun h121 => ?_)
        refine sm_cv (N := mX7_nameOf) (d' := d - 1) (fun r => (some (vr r))) (fun _ => σ) (fun _ => τ) [vl (sJ σ 193 p1)] [] rfl (by decide +kernel) q1130 q1131 q1132 (Or.inl ⟨rfl, q1133⟩) (show okN yX7_nameOf 1 = true by decide +kernel) (fun H hR => hR.rv G.1 cd7 rfl h121) rfl rfl (by omega) rfl (fun Q' => et_nameOf_ok G (d - 1) (by omega) p119 (sJ σ 193 p1) σ Q') (fun y122 => ?_)
        refine sm_b (l' := [(0, vr a1), (1, vr a2), (2, vr x4), (3, vi v14)]) (st' := [vr y122]) (pc' := 68) [(.goto 4, vi 0, 68)] (by decide +kernel) rfl rfl ?_
        exact sm_leaf (fun h => j27 _ h)
      · refine sm_b (l' := [(0, vr a1), (1, vr a2), (2, vr x4), (3, vi v14)]) (st' := [vr none]) (pc' := 68) [(.aconst_null, vi 0, 68)] (by decide +kernel) rfl rfl ?_
        exact sm_leaf (fun h => j27 _ h)
      refine sm_icmp_ne (off := 17) (tgt := 67) h18 (by decide) (by decide +kernel) (fun c126 => ?_) (fun c126 => ?_)
      · exact n125 c126
      · exact p124 c126
  · refine sm_gd (fun h8 => ?_)
    refine sm_case (V g mX13_slot d 38 [(0, vr a1), (1, vr a2), (2, vr x4)] [] σ τ Q) (V g mX13_slot d 42 [(0, vr a1), (1, vr a2), (2, vr x4)] [] σ τ Q) ?_ ?_ (fun f127 p128 n129 => ?_)
    · refine sm_b (l' := [(0, vr a1), (1, vr a2), (2, vr x4)]) (st' := [vi 1]) (pc' := 43) [(.iconst 1, vi 1, 39), (.goto 4, vi 0, 43)] (by decide +kernel) rfl rfl ?_
      exact sm_leaf (fun h => j16 _ h)
    · refine sm_b (l' := [(0, vr a1), (1, vr a2), (2, vr x4)]) (st' := [vi 0]) (pc' := 43) [(.iconst 0, vi 0, 43)] (by decide +kernel) rfl rfl ?_
      exact sm_leaf (fun h => j16 _ h)
    refine sm_icmp_eq (off := 28) (tgt := 38) h8 (by decide) (by decide +kernel) (fun c130 => ?_) (fun c130 => ?_)
    · exact p128 (Or.inl (Or.inl (Or.inl c130)))
    · refine sm_b (l' := [(0, vr a1), (1, vr a2), (2, vr x4)]) (st' := [vr x4]) (pc' := 14) [(.aload_n 2, vi 0, 14)] (by decide +kernel) rfl rfl ?_
      refine sm_st [vr (some p5)] (by rw [h6] <;> rfl) ?_
      refine sm_gN (k := 4) (x := vi (sI σ 132 p5)) cd8 rfl h7 rfl q732 rfl (by decide +kernel) ?_
      refine sm_b (l' := [(0, vr a1), (1, vr a2), (2, vr x4)]) (st' := [vi 3, vi (sI σ 132 p5)]) (pc' := 18) [(.iconst 3, vi 3, 18)] (by decide +kernel) rfl rfl ?_
      refine sm_icmp_eq (off := 20) (tgt := 38) h8 (by decide) (by decide +kernel) (fun c131 => ?_) (fun c131 => ?_)
      · exact p128 (Or.inl (Or.inl (Or.inr c131)))
      · refine sm_b (l' := [(0, vr a1), (1, vr a2), (2, vr x4)]) (st' := [vr x4]) (pc' := 22) [(.aload_n 2, vi 0, 22)] (by decide +kernel) rfl rfl ?_
        refine sm_st [vr (some p5)] (by rw [h6] <;> rfl) ?_
        refine sm_gN (k := 4) (x := vi (sI σ 132 p5)) cd8 rfl h7 rfl q732 rfl (by decide +kernel) ?_
        refine sm_b (l' := [(0, vr a1), (1, vr a2), (2, vr x4)]) (st' := [vi 5, vi (sI σ 132 p5)]) (pc' := 26) [(.iconst 5, vi 5, 26)] (by decide +kernel) rfl rfl ?_
        refine sm_icmp_eq (off := 12) (tgt := 38) h8 (by decide) (by decide +kernel) (fun c132 => ?_) (fun c132 => ?_)
        · exact p128 (Or.inl (Or.inr c132))
        · refine sm_b (l' := [(0, vr a1), (1, vr a2), (2, vr x4)]) (st' := [vr x4]) (pc' := 30) [(.aload_n 2, vi 0, 30)] (by decide +kernel) rfl rfl ?_
          refine sm_st [vr (some p5)] (by rw [h6] <;> rfl) ?_
          refine sm_gN (k := 4) (x := vi (sI σ 132 p5)) cd8 rfl h7 rfl q732 rfl (by decide +kernel) ?_
          refine sm_b (l' := [(0, vr a1), (1, vr a2), (2, vr x4)]) (st' := [vi 7, vi (sI σ 132 p5)]) (pc' := 35) [(.bipush 7, vi 7, 35)] (by decide +kernel) rfl rfl ?_
          refine sm_icmp_ne (off := 7) (tgt := 42) h8 (by decide) (by decide +kernel) (fun c133 => ?_) (fun c133 => ?_)
          · exact n129 (fun q => q.elim (fun q => q.elim (fun q => q.elim c130 c131) c132) c133)
          · exact p128 (Or.inr c133)
