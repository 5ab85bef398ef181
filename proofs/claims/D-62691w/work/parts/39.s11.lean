set_option maxRecDepth 100000
/-! the system: X13_row, X13_write, X0_json, X0_tell, X0_toJson, X15_init, X14_init, X14_look, X14_blanks, X14_sign, X14_passes -/
def jw_row_L8 (bb : Nat × Nat) (rec : Option Nat → Option Nat → ST → Option (ST)) (u0 : Option Nat) (u1 : Option Nat) : Nat → Option Nat → ST → Option (ST)
  | 0, _, _ => none
  | n + 1, w2, σ => if w2 = none then (some σ) else (Option.bind (if w2 = u1 then (some σ) else (Option.bind u0 fun p23 => gd (sc σ p23 = 4) (Option.bind (r_add bb p23 44 σ) fun y26 => some y26))) fun (v14 : ST) => Option.bind (jw_slot bb rec u0 w2 v14) fun y18 => Option.bind w2 fun p19 => gd (sc y18 p19 = 13) (Option.bind (vlu_of (sR y18 192 p19) (sR y18 196 p19) y18) fun y22 => jw_row_L8 bb rec u0 u1 n y22 y18))
def jw_row (bb : Nat × Nat) (rec : Option Nat → Option Nat → ST → Option (ST)) (a1 : Option Nat) (a2 : Option Nat) (σ : ST) : Option (ST) := Option.bind a1 fun p1 => gd (sc σ p1 = 4) (Option.bind (r_add bb p1 91 σ) fun y4 => Option.bind (jw_row_L8 bb rec a1 a2 FU a2 y4) fun (v5 : ST) => gd (sc v5 p1 = 4) (Option.bind (r_add bb p1 93 v5) fun y10 => some y10))
set_option maxHeartbeats 4000000 in
theorem jw_row_L8_ok {g : GE} (G : GG g) {D : Nat} (rec : Option Nat → Option Nat → ST → Option (ST)) (hrec : ∀ (d : Nat), D ≤ d → ∀ {τ : TT} (a1 : Option Nat) (a2 : Option Nat) (σ : ST) (Q' : VQ), Sm (V g mX13_write d 0 [(0, vr a1), (1, vr a2)] [] σ τ Q') (rec a1 a2 σ) (fun r => Q'.1 none r τ)) {τ : TT} {Q : VQ} (d : Nat) (hd1 : D + 2 ≤ d) (hd2 : 10 ≤ d) (u0 : Option Nat) (u1 : Option Nat)  {K : ST → Prop} (hE43 : ∀ v11 : ST, K (v11) → V g mX13_row d 43 [(0, vr u0)] [] v11 τ Q) : ∀ (n : Nat) (w2 : Option Nat) (σ : ST), Sm (V g mX13_row d 8 [(0, vr u0), (1, vr u1), (2, vr w2)] [] σ τ Q) (jw_row_L8 (gRm g) rec u0 u1 n w2 σ) K := by
  intro n
  induction n with
  | zero => intro w2 σ; exact sm_none
  | succ n ih =>
    intro w2 σ
    rw [jw_row_L8.eq_2]
    refine sm_b (l' := [(0, vr u0), (1, vr u1), (2, vr w2)]) (st' := [vr w2]) (pc' := 9) [(.aload_n 2, vi 0, 9)] (by decide +kernel) rfl rfl ?_
    refine sm_case (V g mX13_row d 43 [(0, vr u0), (1, vr u1), (2, vr w2)] [] σ τ Q) (V g mX13_row d 12 [(0, vr u0), (1, vr u1), (2, vr w2)] [] σ τ Q) ?_ ?_ (fun f31 p32 n33 => ?_)
    · refine sm_pick [0] (l' := [(0, vr u0)]) rfl ?_
      exact sm_leaf (fun h => hE43 _ h)
    · refine sm_b (l' := [(0, vr u0), (1, vr u1), (2, vr w2)]) (st' := [vr u1, vr w2]) (pc' := 14) [(.aload_n 2, vi 0, 13), (.aload_n 1, vi 0, 14)] (by decide +kernel) rfl rfl ?_
      refine sm_bind1 (fun (v14 : ST) => V g mX13_row d 23 [(0, vr u0), (1, vr u1), (2, vr w2)] [] v14 τ Q) (fun v14 => ?_) (fun K15 j16 => ?_)
      · refine sm_b (l' := [(0, vr u0), (1, vr u1), (2, vr w2)]) (st' := [vr w2, vr u0]) (pc' := 25) [(.aload_n 0, vi 0, 24), (.aload_n 2, vi 0, 25)] (by decide +kernel) rfl rfl ?_
        refine sm_cs (N := mX13_slot) (d' := d - 1) (fun r => none) (fun r => r) (fun _ => τ) [vr u0, vr w2] [] rfl (by decide +kernel) q1127 q1128 q160 (Or.inl ⟨rfl, q1129⟩) (show okN yX13_slot 2 = true by decide +kernel) rfl rfl (by omega) rfl (fun Q' => jw_slot_ok G (D := D) rec hrec (d - 1) (by omega) (by omega) u0 w2 v14 Q') (fun y18 => ?_)
        refine sm_b (l' := [(0, vr u0), (1, vr u1), (2, vr w2)]) (st' := [vr w2]) (pc' := 29) [(.aload_n 2, vi 0, 29)] (by decide +kernel) rfl rfl ?_
        refine sm_de (fun p19 h20 => ?_)
        refine sm_st [vr (some p19)] (by rw [h20] <;> rfl) ?_
        refine sm_gd (fun h21 => ?_)
        refine sm_gN (k := 0) (x := vr (sR y18 192 p19)) cd12 rfl h21 rfl q1019 rfl (by decide +kernel) ?_
        refine sm_b (l' := [(0, vr u0), (1, vr u1), (2, vr w2)]) (st' := [vr w2, vr (sR y18 192 p19)]) (pc' := 33) [(.aload_n 2, vi 0, 33)] (by decide +kernel) rfl rfl ?_
        refine sm_st [vr (some p19), vr (sR y18 192 p19)] (by rw [h20] <;> rfl) ?_
        refine sm_gN (k := 4) (x := vr (sR y18 196 p19)) cd12 rfl h21 rfl q1037 rfl (by decide +kernel) ?_
        refine sm_cs (N := mX10_of) (d' := d - 1) (fun r => (some (vr r))) (fun _ => y18) (fun _ => τ) [vr (sR y18 192 p19), vr (sR y18 196 p19)] [] rfl (by decide +kernel) q1106 q1107 q157 (Or.inl ⟨rfl, q1108⟩) (show okN yX10_of 2 = true by decide +kernel) rfl rfl (by omega) rfl (fun Q' => vlu_of_ok G (d - 1) (by omega) (sR y18 192 p19) (sR y18 196 p19) y18 Q') (fun y22 => ?_)
        refine sm_b (l' := [(0, vr u0), (1, vr u1), (2, vr y22)]) (st' := []) (pc' := 8) [(.astore_n 2, vi 0, 40), (.goto (-32), vi 0, 8)] (by decide +kernel) rfl rfl ?_
        exact ih y22 y18
      · refine sm_case (V g mX13_row d 23 [(0, vr u0), (1, vr u1), (2, vr w2)] [] σ τ Q) (V g mX13_row d 17 [(0, vr u0), (1, vr u1), (2, vr w2)] [] σ τ Q) ?_ ?_ (fun f27 p28 n29 => ?_)
        · exact sm_leaf (fun h => j16 _ h)
        · refine sm_b (l' := [(0, vr u0), (1, vr u1), (2, vr w2)]) (st' := [vi 44, vr u0]) (pc' := 20) [(.aload_n 0, vi 0, 18), (.bipush 44, vi 44, 20)] (by decide +kernel) rfl rfl ?_
          refine sm_de (fun p23 h24 => ?_)
          refine sm_st [vi 44, vr (some p23)] (by rw [h24] <;> rfl) ?_
          refine sm_gd (fun h25 => ?_)
          refine sm_cv (N := mX3_add) (d' := d - 1) (fun r => none) (fun r => r) (fun _ => τ) [vi 44] [] rfl (by decide +kernel) q1105 q535 q536 (Or.inl ⟨rfl, q537⟩) (show okN yX3_add 1 = true by decide +kernel) (fun H hR => hR.rvR G.1 h25) rfl rfl (by omega) rfl (fun Q' => r_add_ok G (d - 1) (by omega) p23 44 σ Q') (fun y26 => ?_)
          exact sm_leaf (fun h => j16 _ h)
        refine sm_acmp_eq (off := 9) (tgt := 23) (by decide +kernel) (fun c30 => ?_) (fun c30 => ?_)
        · exact p28 c30
        · exact n29 c30
    refine sm_ifnull (off := 34) (tgt := 43) (by decide +kernel) (fun c34 => ?_) (fun c34 => ?_)
    · exact p32 c34
    · exact n33 c34
set_option maxHeartbeats 4000000 in
theorem jw_row_ok {g : GE} (G : GG g) {D : Nat} (rec : Option Nat → Option Nat → ST → Option (ST)) (hrec : ∀ (d : Nat), D ≤ d → ∀ {τ : TT} (a1 : Option Nat) (a2 : Option Nat) (σ : ST) (Q' : VQ), Sm (V g mX13_write d 0 [(0, vr a1), (1, vr a2)] [] σ τ Q') (rec a1 a2 σ) (fun r => Q'.1 none r τ)) {τ : TT} (d : Nat) (hd1 : D + 2 ≤ d) (hd2 : 10 ≤ d) (a1 : Option Nat) (a2 : Option Nat)  (σ : ST) (Q : VQ) : Sm (V g mX13_row d 0 [(0, vr a1), (1, vr a2)] [] σ τ Q) (jw_row (gRm g) rec a1 a2 σ) (fun r => Q.1 none r τ) := by
  unfold jw_row
  refine sm_top (fun K hRET => ?_)
  refine sm_b (l' := [(0, vr a1), (1, vr a2)]) (st' := [vi 91, vr a1]) (pc' := 3) [(.aload_n 0, vi 0, 1), (.bipush 91, vi 91, 3)] (by decide +kernel) rfl rfl ?_
  refine sm_de (fun p1 h2 => ?_)
  refine sm_st [vi 91, vr (some p1)] (by rw [h2] <;> rfl) ?_
  refine sm_gd (fun h3 => ?_)
  refine sm_cv (N := mX3_add) (d' := d - 1) (fun r => none) (fun r => r) (fun _ => τ) [vi 91] [] rfl (by decide +kernel) q1105 q535 q536 (Or.inl ⟨rfl, q537⟩) (show okN yX3_add 1 = true by decide +kernel) (fun H hR => hR.rvR G.1 h3) rfl rfl (by omega) rfl (fun Q' => r_add_ok G (d - 1) (by omega) p1 91 σ Q') (fun y4 => ?_)
  refine sm_b (l' := [(0, vr a1), (1, vr a2), (2, vr a2)]) (st' := []) (pc' := 8) [(.aload_n 1, vi 0, 7), (.astore_n 2, vi 0, 8)] (by decide +kernel) rfl rfl ?_
  refine sm_bind1 (fun (v5 : ST) => V g mX13_row d 43 [(0, vr a1)] [] v5 τ Q) (fun v5 => ?_) (fun K6 j7 => ?_)
  · refine sm_b (l' := [(0, vr a1)]) (st' := [vi 93, vr a1]) (pc' := 46) [(.aload_n 0, vi 0, 44), (.bipush 93, vi 93, 46)] (by decide +kernel) rfl rfl ?_
    refine sm_st [vi 93, vr (some p1)] (by rw [h2] <;> rfl) ?_
    refine sm_gd (fun h9 => ?_)
    refine sm_cv (N := mX3_add) (d' := d - 1) (fun r => none) (fun r => r) (fun _ => τ) [vi 93] [] rfl (by decide +kernel) q1105 q535 q536 (Or.inl ⟨rfl, q537⟩) (show okN yX3_add 1 = true by decide +kernel) (fun H hR => hR.rvR G.1 h9) rfl rfl (by omega) rfl (fun Q' => r_add_ok G (d - 1) (by omega) p1 93 v5 Q') (fun y10 => ?_)
    exact sm_vret rfl (by decide +kernel) (fun h => hRET _ h)
  · exact jw_row_L8_ok G rec hrec d hd1 hd2 a1 a2  (fun _ h => j7 _ h) FU a2 y4
def jw_write_L23 (bb : Nat × Nat) (rec : Option Nat → Option Nat → ST → Option (ST)) (u0 : Option Nat) (u1 : Option Nat) (u3 : Option Nat) (u4 : Int) : Nat → Int → Int → ST → Option (ST)
  | 0, _, _, _ => none
  | n + 1, w2, w5, σ => gd (rg w5) (gd (rg u4) (if u4 ≤ w5 then (some σ) else (Option.bind u3 fun p30 => gd (sc σ p30 = 103) (gd (ib w5 (sN σ p30)) (nm (sF σ p30 w5.toNat) fun x34 => Option.bind x34 fun p35 => gd (sc σ p35 = 9) (Option.bind (gd (rg (sI σ 135 p35)) (if (sI σ 135 p35) = 0 then (Option.bind u1 fun p94 => gd (sc σ p94 = 11) (Option.bind (vlu_get p94 x34 σ) fun y97 => some y97)) else (Option.bind u1 fun p98 => gd (sc σ p98 = 11) (Option.bind (vlu_of x34 (sR σ 162 p98) σ) fun y101 => some y101)))) fun (v49 : Option Nat) => Option.bind (if v49 = none then (some ((w2, σ))) else (Option.bind (gd (rg w2) (if w2 = 0 then (some σ) else (Option.bind u0 fun p82 => gd (sc σ p82 = 4) (Option.bind (r_add bb p82 44 σ) fun y85 => some y85)))) fun (v62 : ST) => gd (sc v62 p35 = 9) (Option.bind (jw_text bb u0 (sR v62 130 p35) v62) fun y67 => Option.bind u0 fun p68 => gd (sc y67 p68 = 4) (Option.bind (r_add bb p68 58 y67) fun y71 => gd (sc y71 p35 = 9) (gd (rg (sI y71 135 p35)) (if (sI y71 135 p35) = 0 then (Option.bind (jw_slot bb rec u0 v49 y71) fun y76 => some ((1, y76))) else (Option.bind (jw_row bb rec u0 v49 y71) fun y77 => some ((1, y77))))))))) fun (v56 : Int × ST) => jw_write_L23 bb rec u0 u1 u3 u4 n v56.1 (w5 + 1) v56.2))))))
def jw_writeb (bb : Nat × Nat) (rec : Option Nat → Option Nat → ST → Option (ST)) (a1 : Option Nat) (a2 : Option Nat) (σ : ST) : Option (ST) := Option.bind a1 fun p1 => gd (sc σ p1 = 4) (Option.bind (r_add bb p1 123 σ) fun y4 => Option.bind a2 fun p5 => gd (sc y4 p5 = 11) (Option.bind (sR y4 160 p5) fun p8 => gd (sc y4 p8 = 7) (nm (sR y4 103 p8) fun x11 => Option.bind x11 fun p12 => gd (sc y4 p12 = 103) (nm (((sN y4 p12 : Nat) : Int)) fun x15 => Option.bind (jw_write_L23 bb rec a1 a2 x11 x15 FU 0 0 y4) fun (v16 : ST) => gd (sc v16 p1 = 4) (Option.bind (r_add bb p1 125 v16) fun y21 => some y21)))))
set_option maxHeartbeats 4000000 in
theorem jw_write_L23_ok {g : GE} (G : GG g) {D : Nat} (rec : Option Nat → Option Nat → ST → Option (ST)) (hrec : ∀ (d : Nat), D ≤ d → ∀ {τ : TT} (a1 : Option Nat) (a2 : Option Nat) (σ : ST) (Q' : VQ), Sm (V g mX13_write d 0 [(0, vr a1), (1, vr a2)] [] σ τ Q') (rec a1 a2 σ) (fun r => Q'.1 none r τ)) {τ : TT} {Q : VQ} (d : Nat) (hd1 : D + 3 ≤ d) (hd2 : 11 ≤ d) (u0 : Option Nat) (u1 : Option Nat) (u3 : Option Nat) (u4 : Int)  {K : ST → Prop} (hE128 : ∀ v22 : ST, K (v22) → V g mX13_write d 128 [(0, vr u0)] [] v22 τ Q) : ∀ (n : Nat) (w2 : Int) (w5 : Int) (σ : ST), Sm (V g mX13_write d 23 [(0, vr u0), (1, vr u1), (2, vi w2), (3, vr u3), (4, vi u4), (5, vi w5)] [] σ τ Q) (jw_write_L23 (gRm g) rec u0 u1 u3 u4 n w2 w5 σ) K := by
  intro n
  induction n with
  | zero => intro w2 w5 σ; exact sm_none
  | succ n ih =>
    intro w2 w5 σ
    rw [jw_write_L23.eq_2]
    refine sm_b (l' := [(0, vr u0), (1, vr u1), (2, vi w2), (3, vr u3), (4, vi u4), (5, vi w5)]) (st' := [vi u4, vi w5]) (pc' := 27) [(.iload 5, vi 0, 25), (.iload 4, vi 0, 27)] (by decide +kernel) rfl rfl ?_
    refine sm_gd (fun h23 => ?_)
    refine sm_gd (fun h24 => ?_)
    refine sm_case (V g mX13_write d 128 [(0, vr u0), (1, vr u1), (2, vi w2), (3, vr u3), (4, vi u4), (5, vi w5)] [] σ τ Q) (V g mX13_write d 30 [(0, vr u0), (1, vr u1), (2, vi w2), (3, vr u3), (4, vi u4), (5, vi w5)] [] σ τ Q) ?_ ?_ (fun f106 p107 n108 => ?_)
    · refine sm_pick [0] (l' := [(0, vr u0)]) rfl ?_
      exact sm_leaf (fun h => hE128 _ h)
    · refine sm_b (l' := [(0, vr u0), (1, vr u1), (2, vi w2), (3, vr u3), (4, vi u4), (5, vi w5)]) (st' := [vi w5, vr u3]) (pc' := 33) [(.aload_n 3, vi 0, 31), (.iload 5, vi 0, 33)] (by decide +kernel) rfl rfl ?_
      refine sm_de (fun p30 h31 => ?_)
      refine sm_st [vi w5, vr (some p30)] (by rw [h31] <;> rfl) ?_
      refine sm_gd (fun h32 => ?_)
      refine sm_gd (fun h33 => ?_)
      refine sm_fl h32 h33 (by decide +kernel) ?_
      refine sm_nmr (fun x34 => ?_)
      refine sm_b (l' := [(0, vr u0), (1, vr u1), (2, vi w2), (3, vr u3), (4, vi u4), (5, vi w5), (6, vr x34)]) (st' := [vr x34]) (pc' := 38) [(.astore 6, vi 0, 36), (.aload 6, vi 0, 38)] (by decide +kernel) rfl rfl ?_
      refine sm_de (fun p35 h36 => ?_)
      refine sm_st [vr (some p35)] (by rw [h36] <;> rfl) ?_
      refine sm_gd (fun h37 => ?_)
      refine sm_gN (k := 7) (x := vi (sI σ 135 p35)) cd8 rfl h37 rfl q745 rfl (by decide +kernel) ?_
      refine sm_bind1 (fun (v49 : Option Nat) => V g mX13_write d 62 [(0, vr u0), (1, vr u1), (2, vi w2), (3, vr u3), (4, vi u4), (5, vi w5), (6, vr x34)] [vr v49] σ τ Q) (fun v49 => ?_) (fun K50 j51 => ?_)
      · refine sm_b (l' := [(0, vr u0), (1, vr u1), (2, vi w2), (3, vr u3), (4, vi u4), (5, vi w5), (6, vr x34), (7, vr v49)]) (st' := [vr v49]) (pc' := 66) [(.astore 7, vi 0, 64), (.aload 7, vi 0, 66)] (by decide +kernel) rfl rfl ?_
        refine sm_bind1 (fun (v56 : Int × ST) => V g mX13_write d 122 [(0, vr u0), (1, vr u1), (2, vi v56.1), (3, vr u3), (4, vi u4), (5, vi w5)] [] v56.2 τ Q) (fun v56 => ?_) (fun K57 j58 => ?_)
        · refine sm_b (l' := [(0, vr u0), (1, vr u1), (2, vi v56.1), (3, vr u3), (4, vi u4), (5, vi (w5 + 1))]) (st' := []) (pc' := 23) [(.iinc 5 1, vi 1, 125), (.goto (-102), vi 0, 23)] (by decide +kernel) rfl rfl ?_
          exact ih v56.1 (w5 + 1) v56.2
        · refine sm_case (V g mX13_write d 69 [(0, vr u0), (1, vr u1), (2, vi w2), (3, vr u3), (4, vi u4), (5, vi w5), (6, vr x34), (7, vr v49)] [] σ τ Q) (V g mX13_write d 72 [(0, vr u0), (1, vr u1), (2, vi w2), (3, vr u3), (4, vi u4), (5, vi w5), (6, vr x34), (7, vr v49)] [] σ τ Q) ?_ ?_ (fun f90 p91 n92 => ?_)
          · refine sm_b (l' := [(0, vr u0), (1, vr u1), (2, vi w2), (3, vr u3), (4, vi u4), (5, vi w5), (6, vr x34), (7, vr v49)]) (st' := []) (pc' := 122) [(.goto 53, vi 0, 122)] (by decide +kernel) rfl rfl ?_
            refine sm_pick [0, 1, 2, 3, 4, 5] (l' := [(0, vr u0), (1, vr u1), (2, vi w2), (3, vr u3), (4, vi u4), (5, vi w5)]) rfl ?_
            exact sm_leaf (fun h => j58 _ h)
          · refine sm_b (l' := [(0, vr u0), (1, vr u1), (2, vi w2), (3, vr u3), (4, vi u4), (5, vi w5), (6, vr x34), (7, vr v49)]) (st' := [vi w2]) (pc' := 73) [(.iload_n 2, vi 0, 73)] (by decide +kernel) rfl rfl ?_
            refine sm_bind1 (fun (v62 : ST) => V g mX13_write d 82 [(0, vr u0), (1, vr u1), (3, vr u3), (4, vi u4), (5, vi w5), (6, vr x34), (7, vr v49)] [] v62 τ Q) (fun v62 => ?_) (fun K63 j64 => ?_)
            · refine sm_b (l' := [(0, vr u0), (1, vr u1), (3, vr u3), (4, vi u4), (5, vi w5), (6, vr x34), (7, vr v49), (2, vi 1)]) (st' := [vr x34, vr u0]) (pc' := 87) [(.iconst 1, vi 1, 83), (.istore_n 2, vi 0, 84), (.aload_n 0, vi 0, 85), (.aload 6, vi 0, 87)] (by decide +kernel) rfl rfl ?_
              refine sm_st [vr (some p35), vr u0] (by rw [h36] <;> rfl) ?_
              refine sm_gd (fun h66 => ?_)
              refine sm_gN (k := 2) (x := vr (sR v62 130 p35)) cd8 rfl h66 rfl q723 rfl (by decide +kernel) ?_
              refine sm_cs (N := mX13_text) (d' := d - 1) (fun r => none) (fun r => r) (fun _ => τ) [vr u0, vr (sR v62 130 p35)] [] rfl (by decide +kernel) q1110 q1111 q160 (Or.inl ⟨rfl, q1112⟩) (show okN yX13_text 2 = true by decide +kernel) rfl rfl (by omega) rfl (fun Q' => jw_text_ok G (d - 1) (by omega) u0 (sR v62 130 p35) v62 Q') (fun y67 => ?_)
              refine sm_b (l' := [(0, vr u0), (1, vr u1), (3, vr u3), (4, vi u4), (5, vi w5), (6, vr x34), (7, vr v49), (2, vi 1)]) (st' := [vi 58, vr u0]) (pc' := 96) [(.aload_n 0, vi 0, 94), (.bipush 58, vi 58, 96)] (by decide +kernel) rfl rfl ?_
              refine sm_de (fun p68 h69 => ?_)
              refine sm_st [vi 58, vr (some p68)] (by rw [h69] <;> rfl) ?_
              refine sm_gd (fun h70 => ?_)
              refine sm_cv (N := mX3_add) (d' := d - 1) (fun r => none) (fun r => r) (fun _ => τ) [vi 58] [] rfl (by decide +kernel) q1105 q535 q536 (Or.inl ⟨rfl, q537⟩) (show okN yX3_add 1 = true by decide +kernel) (fun H hR => hR.rvR G.1 h70) rfl rfl (by omega) rfl (fun Q' => r_add_ok G (d - 1) (by omega) p68 58 y67 Q') (fun y71 => ?_)
              refine sm_b (l' := [(0, vr u0), (1, vr u1), (3, vr u3), (4, vi u4), (5, vi w5), (6, vr x34), (7, vr v49), (2, vi 1)]) (st' := [vr x34]) (pc' := 101) [(.aload 6, vi 0, 101)] (by decide +kernel) rfl rfl ?_
              refine sm_st [vr (some p35)] (by rw [h36] <;> rfl) ?_
              refine sm_gd (fun h72 => ?_)
              refine sm_gN (k := 7) (x := vi (sI y71 135 p35)) cd8 rfl h72 rfl q745 rfl (by decide +kernel) ?_
              refine sm_gd (fun h73 => ?_)
              refine sm_case (V g mX13_write d 116 [(0, vr u0), (1, vr u1), (3, vr u3), (4, vi u4), (5, vi w5), (6, vr x34), (7, vr v49), (2, vi 1)] [] y71 τ Q) (V g mX13_write d 107 [(0, vr u0), (1, vr u1), (3, vr u3), (4, vi u4), (5, vi w5), (6, vr x34), (7, vr v49), (2, vi 1)] [] y71 τ Q) ?_ ?_ (fun f78 p79 n80 => ?_)
              · refine sm_b (l' := [(0, vr u0), (1, vr u1), (3, vr u3), (4, vi u4), (5, vi w5), (6, vr x34), (7, vr v49), (2, vi 1)]) (st' := [vr v49, vr u0]) (pc' := 119) [(.aload_n 0, vi 0, 117), (.aload 7, vi 0, 119)] (by decide +kernel) rfl rfl ?_
                refine sm_cs (N := mX13_slot) (d' := d - 1) (fun r => none) (fun r => r) (fun _ => τ) [vr u0, vr v49] [] rfl (by decide +kernel) q1127 q1128 q160 (Or.inl ⟨rfl, q1129⟩) (show okN yX13_slot 2 = true by decide +kernel) rfl rfl (by omega) rfl (fun Q' => jw_slot_ok G (D := D) rec hrec (d - 1) (by omega) (by omega) u0 v49 y71 Q') (fun y76 => ?_)
                refine sm_pick [0, 1, 7, 2, 3, 4] (l' := [(0, vr u0), (1, vr u1), (2, vi 1), (3, vr u3), (4, vi u4), (5, vi w5)]) rfl ?_
                exact sm_leaf (fun h => j58 _ h)
              · refine sm_b (l' := [(0, vr u0), (1, vr u1), (3, vr u3), (4, vi u4), (5, vi w5), (6, vr x34), (7, vr v49), (2, vi 1)]) (st' := [vr v49, vr u0]) (pc' := 110) [(.aload_n 0, vi 0, 108), (.aload 7, vi 0, 110)] (by decide +kernel) rfl rfl ?_
                refine sm_cs (N := mX13_row) (d' := d - 1) (fun r => none) (fun r => r) (fun _ => τ) [vr u0, vr v49] [] rfl (by decide +kernel) q1124 q1125 q160 (Or.inl ⟨rfl, q1126⟩) (show okN yX13_row 2 = true by decide +kernel) rfl rfl (by omega) rfl (fun Q' => jw_row_ok G (D := D) rec hrec (d - 1) (by omega) (by omega) u0 v49 y71 Q') (fun y77 => ?_)
                refine sm_b (l' := [(0, vr u0), (1, vr u1), (3, vr u3), (4, vi u4), (5, vi w5), (6, vr x34), (7, vr v49), (2, vi 1)]) (st' := []) (pc' := 122) [(.goto 9, vi 0, 122)] (by decide +kernel) rfl rfl ?_
                refine sm_pick [0, 1, 7, 2, 3, 4] (l' := [(0, vr u0), (1, vr u1), (2, vi 1), (3, vr u3), (4, vi u4), (5, vi w5)]) rfl ?_
                exact sm_leaf (fun h => j58 _ h)
              refine sm_if_eq (off := 12) (tgt := 116) h73 (by decide +kernel) (fun c81 => ?_) (fun c81 => ?_)
              · exact p79 c81
              · exact n80 c81
            · refine sm_gd (fun h60 => ?_)
              refine sm_case (V g mX13_write d 82 [(0, vr u0), (1, vr u1), (2, vi w2), (3, vr u3), (4, vi u4), (5, vi w5), (6, vr x34), (7, vr v49)] [] σ τ Q) (V g mX13_write d 76 [(0, vr u0), (1, vr u1), (2, vi w2), (3, vr u3), (4, vi u4), (5, vi w5), (6, vr x34), (7, vr v49)] [] σ τ Q) ?_ ?_ (fun f86 p87 n88 => ?_)
              · refine sm_pick [0, 1, 3, 4, 5, 6, 7] (l' := [(0, vr u0), (1, vr u1), (3, vr u3), (4, vi u4), (5, vi w5), (6, vr x34), (7, vr v49)]) rfl ?_
                exact sm_leaf (fun h => j64 _ h)
              · refine sm_b (l' := [(0, vr u0), (1, vr u1), (2, vi w2), (3, vr u3), (4, vi u4), (5, vi w5), (6, vr x34), (7, vr v49)]) (st' := [vi 44, vr u0]) (pc' := 79) [(.aload_n 0, vi 0, 77), (.bipush 44, vi 44, 79)] (by decide +kernel) rfl rfl ?_
                refine sm_de (fun p82 h83 => ?_)
                refine sm_st [vi 44, vr (some p82)] (by rw [h83] <;> rfl) ?_
                refine sm_gd (fun h84 => ?_)
                refine sm_cv (N := mX3_add) (d' := d - 1) (fun r => none) (fun r => r) (fun _ => τ) [vi 44] [] rfl (by decide +kernel) q1105 q535 q536 (Or.inl ⟨rfl, q537⟩) (show okN yX3_add 1 = true by decide +kernel) (fun H hR => hR.rvR G.1 h84) rfl rfl (by omega) rfl (fun Q' => r_add_ok G (d - 1) (by omega) p82 44 σ Q') (fun y85 => ?_)
                refine sm_pick [0, 1, 3, 4, 5, 6, 7] (l' := [(0, vr u0), (1, vr u1), (3, vr u3), (4, vi u4), (5, vi w5), (6, vr x34), (7, vr v49)]) rfl ?_
                exact sm_leaf (fun h => j64 _ h)
              refine sm_if_eq (off := 9) (tgt := 82) h60 (by decide +kernel) (fun c89 => ?_) (fun c89 => ?_)
              · exact p87 c89
              · exact n88 c89
          refine sm_ifnonnull (off := 6) (tgt := 72) (by decide +kernel) (fun c93 => ?_) (fun c93 => ?_)
          · exact n92 c93
          · exact p91 c93
      · refine sm_gd (fun h38 => ?_)
        refine sm_case (V g mX13_write d 56 [(0, vr u0), (1, vr u1), (2, vi w2), (3, vr u3), (4, vi u4), (5, vi w5), (6, vr x34)] [] σ τ Q) (V g mX13_write d 44 [(0, vr u0), (1, vr u1), (2, vi w2), (3, vr u3), (4, vi u4), (5, vi w5), (6, vr x34)] [] σ τ Q) ?_ ?_ (fun f102 p103 n104 => ?_)
        · refine sm_b (l' := [(0, vr u0), (1, vr u1), (2, vi w2), (3, vr u3), (4, vi u4), (5, vi w5), (6, vr x34)]) (st' := [vr x34, vr u1]) (pc' := 59) [(.aload_n 1, vi 0, 57), (.aload 6, vi 0, 59)] (by decide +kernel) rfl rfl ?_
          refine sm_de (fun p94 h95 => ?_)
          refine sm_st [vr x34, vr (some p94)] (by rw [h95] <;> rfl) ?_
          refine sm_gd (fun h96 => ?_)
          refine sm_cv (N := mX10_get) (d' := d - 1) (fun r => (some (vr r))) (fun _ => σ) (fun _ => τ) [vr x34] [] rfl (by decide +kernel) q1109 q1088 q1089 (Or.inl ⟨rfl, q1090⟩) (show okN yX10_get 1 = true by decide +kernel) (fun H hR => hR.rv G.1 cd10 rfl h96) rfl rfl (by omega) rfl (fun Q' => vlu_get_ok G (d - 1) (by omega) p94 x34 σ Q') (fun y97 => ?_)
          exact sm_leaf (fun h => j51 _ h)
        · refine sm_b (l' := [(0, vr u0), (1, vr u1), (2, vi w2), (3, vr u3), (4, vi u4), (5, vi w5), (6, vr x34)]) (st' := [vr u1, vr x34]) (pc' := 47) [(.aload 6, vi 0, 46), (.aload_n 1, vi 0, 47)] (by decide +kernel) rfl rfl ?_
          refine sm_de (fun p98 h99 => ?_)
          refine sm_st [vr (some p98), vr x34] (by rw [h99] <;> rfl) ?_
          refine sm_gd (fun h100 => ?_)
          refine sm_gN (k := 2) (x := vr (sR σ 162 p98)) cd10 rfl h100 rfl q953 rfl (by decide +kernel) ?_
          refine sm_cs (N := mX10_of) (d' := d - 1) (fun r => (some (vr r))) (fun _ => σ) (fun _ => τ) [vr x34, vr (sR σ 162 p98)] [] rfl (by decide +kernel) q1106 q1107 q157 (Or.inl ⟨rfl, q1108⟩) (show okN yX10_of 2 = true by decide +kernel) rfl rfl (by omega) rfl (fun Q' => vlu_of_ok G (d - 1) (by omega) x34 (sR σ 162 p98) σ Q') (fun y101 => ?_)
          refine sm_b (l' := [(0, vr u0), (1, vr u1), (2, vi w2), (3, vr u3), (4, vi u4), (5, vi w5), (6, vr x34)]) (st' := [vr y101]) (pc' := 62) [(.goto 9, vi 0, 62)] (by decide +kernel) rfl rfl ?_
          exact sm_leaf (fun h => j51 _ h)
        refine sm_if_eq (off := 15) (tgt := 56) h38 (by decide +kernel) (fun c105 => ?_) (fun c105 => ?_)
        · exact p103 c105
        · exact n104 c105
    refine sm_icmp_ge (off := 101) (tgt := 128) h23 h24 (by decide +kernel) (fun c109 => ?_) (fun c109 => ?_)
    · exact p107 c109
    · exact n108 c109
set_option maxHeartbeats 4000000 in
theorem jw_writeb_ok {g : GE} (G : GG g) {D : Nat} (rec : Option Nat → Option Nat → ST → Option (ST)) (hrec : ∀ (d : Nat), D ≤ d → ∀ {τ : TT} (a1 : Option Nat) (a2 : Option Nat) (σ : ST) (Q' : VQ), Sm (V g mX13_write d 0 [(0, vr a1), (1, vr a2)] [] σ τ Q') (rec a1 a2 σ) (fun r => Q'.1 none r τ)) {τ : TT} (d : Nat) (hd1 : D + 3 ≤ d) (hd2 : 11 ≤ d) (a1 : Option Nat) (a2 : Option Nat)  (σ : ST) (Q : VQ) : Sm (V g mX13_write d 0 [(0, vr a1), (1, vr a2)] [] σ τ Q) (jw_writeb (gRm g) rec a1 a2 σ) (fun r => Q.1 none r τ) := by
  unfold jw_writeb
  refine sm_top (fun K hRET => ?_)
  refine sm_b (l' := [(0, vr a1), (1, vr a2)]) (st' := [vi 123, vr a1]) (pc' := 3) [(.aload_n 0, vi 0, 1), (.bipush 123, vi 123, 3)] (by decide +kernel) rfl rfl ?_
  refine sm_de (fun p1 h2 => ?_)
  refine sm_st [vi 123, vr (some p1)] (by rw [h2] <;> rfl) ?_
  refine sm_gd (fun h3 => ?_)
  refine sm_cv (N := mX3_add) (d' := d - 1) (fun r => none) (fun r => r) (fun _ => τ) [vi 123] [] rfl (by decide +kernel) q1105 q535 q536 (Or.inl ⟨rfl, q537⟩) (show okN yX3_add 1 = true by decide +kernel) (fun H hR => hR.rvR G.1 h3) rfl rfl (by omega) rfl (fun Q' => r_add_ok G (d - 1) (by omega) p1 123 σ Q') (fun y4 => ?_)
  refine sm_b (l' := [(0, vr a1), (1, vr a2), (2, vi 0)]) (st' := [vr a2]) (pc' := 9) [(.iconst 0, vi 0, 7), (.istore_n 2, vi 0, 8), (.aload_n 1, vi 0, 9)] (by decide +kernel) rfl rfl ?_
  refine sm_de (fun p5 h6 => ?_)
  refine sm_st [vr (some p5)] (by rw [h6] <;> rfl) ?_
  refine sm_gd (fun h7 => ?_)
  refine sm_gN (k := 0) (x := vr (sR y4 160 p5)) cd10 rfl h7 rfl q947 rfl (by decide +kernel) ?_
  refine sm_de (fun p8 h9 => ?_)
  refine sm_st [vr (some p8)] (by rw [h9] <;> rfl) ?_
  refine sm_gd (fun h10 => ?_)
  refine sm_gN (k := 7) (x := vr (sR y4 103 p8)) cd6 rfl h10 rfl q573 rfl (by decide +kernel) ?_
  refine sm_nmr (fun x11 => ?_)
  refine sm_b (l' := [(0, vr a1), (1, vr a2), (2, vi 0), (3, vr x11)]) (st' := [vr x11]) (pc' := 17) [(.astore_n 3, vi 0, 16), (.aload_n 3, vi 0, 17)] (by decide +kernel) rfl rfl ?_
  refine sm_de (fun p12 h13 => ?_)
  refine sm_st [vr (some p12)] (by rw [h13] <;> rfl) ?_
  refine sm_gd (fun h14 => ?_)
  refine sm_alF h14 (by decide +kernel) ?_
  refine sm_nmi (fun x15 => ?_)
  refine sm_b (l' := [(0, vr a1), (1, vr a2), (2, vi 0), (3, vr x11), (4, vi x15), (5, vi 0)]) (st' := []) (pc' := 23) [(.istore 4, vi 0, 20), (.iconst 0, vi 0, 21), (.istore 5, vi 0, 23)] (by decide +kernel) rfl rfl ?_
  refine sm_bind1 (fun (v16 : ST) => V g mX13_write d 128 [(0, vr a1)] [] v16 τ Q) (fun v16 => ?_) (fun K17 j18 => ?_)
  · refine sm_b (l' := [(0, vr a1)]) (st' := [vi 125, vr a1]) (pc' := 131) [(.aload_n 0, vi 0, 129), (.bipush 125, vi 125, 131)] (by decide +kernel) rfl rfl ?_
    refine sm_st [vi 125, vr (some p1)] (by rw [h2] <;> rfl) ?_
    refine sm_gd (fun h20 => ?_)
    refine sm_cv (N := mX3_add) (d' := d - 1) (fun r => none) (fun r => r) (fun _ => τ) [vi 125] [] rfl (by decide +kernel) q1105 q535 q536 (Or.inl ⟨rfl, q537⟩) (show okN yX3_add 1 = true by decide +kernel) (fun H hR => hR.rvR G.1 h20) rfl rfl (by omega) rfl (fun Q' => r_add_ok G (d - 1) (by omega) p1 125 v16 Q') (fun y21 => ?_)
    exact sm_vret rfl (by decide +kernel) (fun h => hRET _ h)
  · exact jw_write_L23_ok G rec hrec d hd1 hd2 a1 a2 x11 x15  (fun _ h => j18 _ h) FU 0 0 y4
def jw_write (bb : Nat × Nat) : Nat → Option Nat → Option Nat → ST → Option (ST)
  | 0 => fun _ _ _ => none
  | n + 1 => fun a1 a2 σ => jw_writeb bb (jw_write bb n) a1 a2 σ
set_option maxHeartbeats 4000000 in
theorem jw_write_ok {g : GE} (G : GG g) (n : Nat) : ∀ (d : Nat), 11 + 3 * n ≤ d → ∀ {τ : TT} (a1 : Option Nat) (a2 : Option Nat) (σ : ST) (Q : VQ), Sm (V g mX13_write d 0 [(0, vr a1), (1, vr a2)] [] σ τ Q) (jw_write (gRm g) n a1 a2 σ) (fun r => Q.1 none r τ) := by
  induction n with
  | zero => intro d hd τ a1 a2 σ Q; exact sm_none
  | succ n ih =>
    intro d hd τ a1 a2 σ Q
    exact jw_writeb_ok G (D := 11 + 3 * n) (jw_write (gRm g) n) ih d (by omega) (by omega) a1 a2 σ Q
def ws_json (bb : Nat × Nat) (a0 : Nat) (a1 : Option Nat) (σ : ST) : Option (Option Nat × ST) := gd (rm bb σ 4) (nm (nO σ 11 4) fun σ2 => Option.bind (vlu_init bb (sZ σ) a1 σ2) fun y3 => gd (rm bb y3 2) (nm (nO y3 12 2) fun σ5 => gd (sc σ5 a0 = 1) (Option.bind (wr_init bb (sZ y3) (sR σ5 1 a0) σ5) fun y7 => gd (sc y7 a0 = 1) (Option.bind (wr_read bb 12 (some (sZ y3)) (some (sZ σ)) (sI y7 3 a0) 1 y7) (tC (fun σ13 => some ((none, σ13))) fun y10 σ11 => gd (sc σ11 a0 = 1) (nm (sR σ11 6 a0) fun x16 => Option.bind x16 fun p17 => gd (sc σ11 p17 = 4) (Option.bind (r_clear p17 σ11) fun y20 => Option.bind (jw_write bb 12 x16 (some (sZ σ)) y20) fun y21 => some ((x16, y21)))))))))
set_option maxHeartbeats 4000000 in
theorem ws_json_ok {g : GE} (G : GG g) {τ : TT} (d : Nat) (hd1 : 48 ≤ d) (a0 : Nat) (a1 : Option Nat)  (σ : ST) (Q : VQ) : Sm (V g mX0_json d 0 [(0, vr (some a0)), (1, vr a1)] [] σ τ Q) (ws_json (gRm g) a0 a1 σ) (fun r => Q.1 (some (vr r.1)) r.2 τ) := by
  unfold ws_json
  refine sm_top (fun K hRET => ?_)
  refine sm_gd (fun h1 => ?_)
  refine sm_new cd10 rfl q939 q940 q157 (new_10 σ) h1 (by decide +kernel) ?_
  refine sm_nms (fun σ2 => ?_)
  refine sm_b (l' := [(0, vr (some a0)), (1, vr a1)]) (st' := [vr a1, vr (some (sZ σ)), vr (some (sZ σ))]) (pc' := 5) [(.dup, vi 0, 4), (.aload_n 1, vi 0, 5)] (by decide +kernel) rfl rfl ?_
  refine sm_ci (N := mX10_init) (d' := d - 1) [vr a1] [vr (some (sZ σ))] rfl (by decide +kernel) q941 q942 rfl q943 rfl rfl (show okN yX10_init 1 = true by decide +kernel) rfl rfl (by omega) rfl (fun Q' => vlu_init_ok G (d - 1) (by omega) (sZ σ) a1 σ2 Q') (fun y3 => ?_)
  refine sm_b (l' := [(0, vr (some a0)), (1, vr a1), (2, vr (some (sZ σ)))]) (st' := []) (pc' := 9) [(.astore_n 2, vi 0, 9)] (by decide +kernel) rfl rfl ?_
  refine sm_gd (fun h4 => ?_)
  refine sm_new cd11 rfl q964 q965 q158 (new_11 y3) h4 (by decide +kernel) ?_
  refine sm_nms (fun σ5 => ?_)
  refine sm_b (l' := [(0, vr (some a0)), (1, vr a1), (2, vr (some (sZ σ)))]) (st' := [vr (some a0), vr (some (sZ y3)), vr (some (sZ y3))]) (pc' := 14) [(.dup, vi 0, 13), (.aload_n 0, vi 0, 14)] (by decide +kernel) rfl rfl ?_
  refine sm_gd (fun h6 => ?_)
  refine sm_g (k := 1) (x := vr (sR σ5 1 a0)) cd0 rfl h6 rfl q291 rfl (by decide +kernel) ?_
  refine sm_ciZ (N := mX11_init) (d' := d - 1) [vr (sR σ5 1 a0)] [vr (some (sZ y3))] (by decide +kernel) q966 q967 rfl q968 rfl rfl (show okN yX11_init 1 = true by decide +kernel) rfl rfl (by omega) rfl (fun Q' => wr_init_ok G (d - 1) (by omega) (sZ y3) (sR σ5 1 a0) σ5 Q') (fun y7 => ?_)
  refine sm_b (l' := [(0, vr (some a0)), (1, vr a1), (2, vr (some (sZ σ)))]) (st' := [vr (some a0), vr (some (sZ σ)), vr (some (sZ y3))]) (pc' := 22) [(.aload_n 2, vi 0, 21), (.aload_n 0, vi 0, 22)] (by decide +kernel) rfl rfl ?_
  refine sm_gd (fun h8 => ?_)
  refine sm_g (k := 3) (x := vi (sI y7 3 a0)) cd0 rfl h8 rfl q293 rfl (by decide +kernel) ?_
  refine sm_b (l' := [(0, vr (some a0)), (1, vr a1), (2, vr (some (sZ σ)))]) (st' := [vi 1, vi (sI y7 3 a0), vr (some (sZ σ)), vr (some (sZ y3))]) (pc' := 26) [(.iconst 1, vi 1, 26)] (by decide +kernel) rfl rfl ?_
  refine sm_csCN (N := mX11_read) (d' := d - 1) G (fun _ : Unit => none) [vr (some (sZ y3)), vr (some (sZ σ)), vi (sI y7 3 a0), vi 1] [] 9 29 32 59 rfl rfl q331 (by decide +kernel) q977 q978 q158 (Or.inl ⟨rfl, q979⟩) (show okN yX11_read 4 = true by decide +kernel) rfl rfl (by omega) rfl (fun Q' => wr_read_ok G 12 (d - 1) (by omega) (some (sZ y3)) (some (sZ σ)) (sI y7 3 a0) 1 y7 Q') (fun z12 σ13 h14 => ?_) (fun y10 σ11 => ?_)
  · refine sm_b (l' := [(0, vr (some a0)), (1, vr a1), (2, vr (some (sZ σ))), (3, vr (some z12))]) (st' := [vr none]) (pc' := 34) [(.astore_n 3, vi 0, 33), (.aconst_null, vi 0, 34)] (by decide +kernel) rfl rfl ?_
    exact sm_aret rfl rfl (by decide +kernel) (fun h => hRET _ h)
  refine sm_b (l' := [(0, vr (some a0)), (1, vr a1), (2, vr (some (sZ σ)))]) (st' := [vr (some a0)]) (pc' := 36) [(.goto 6, vi 0, 35), (.aload_n 0, vi 0, 36)] (by decide +kernel) rfl rfl ?_
  refine sm_gd (fun h15 => ?_)
  refine sm_g (k := 6) (x := vr (sR σ11 6 a0)) cd0 rfl h15 rfl q296 rfl (by decide +kernel) ?_
  refine sm_nmr (fun x16 => ?_)
  refine sm_b (l' := [(0, vr (some a0)), (1, vr a1), (2, vr (some (sZ σ))), (3, vr x16)]) (st' := [vr x16]) (pc' := 41) [(.astore_n 3, vi 0, 40), (.aload_n 3, vi 0, 41)] (by decide +kernel) rfl rfl ?_
  refine sm_de (fun p17 h18 => ?_)
  refine sm_st [vr (some p17)] (by rw [h18] <;> rfl) ?_
  refine sm_gd (fun h19 => ?_)
  refine sm_cv (N := mX3_clear) (d' := d - 1) (fun r => none) (fun r => r) (fun _ => τ) [] [] rfl (by decide +kernel) q1098 q1099 q1100 (Or.inl ⟨rfl, q1101⟩) (show okN yX3_clear 0 = true by decide +kernel) (fun H hR => hR.rvR G.1 h19) rfl rfl (by omega) rfl (fun Q' => r_clear_ok G (d - 1) (by omega) p17 σ11 Q') (fun y20 => ?_)
  refine sm_b (l' := [(0, vr (some a0)), (1, vr a1), (2, vr (some (sZ σ))), (3, vr x16)]) (st' := [vr (some (sZ σ)), vr x16]) (pc' := 46) [(.aload_n 3, vi 0, 45), (.aload_n 2, vi 0, 46)] (by decide +kernel) rfl rfl ?_
  refine sm_cs (N := mX13_write) (d' := d - 1) (fun r => none) (fun r => r) (fun _ => τ) [vr x16, vr (some (sZ σ))] [] rfl (by decide +kernel) q1102 q1103 q160 (Or.inl ⟨rfl, q1104⟩) (show okN yX13_write 2 = true by decide +kernel) rfl rfl (by omega) rfl (fun Q' => jw_write_ok G 12 (d - 1) (by omega) x16 (some (sZ σ)) y20 Q') (fun y21 => ?_)
  refine sm_b (l' := [(0, vr (some a0)), (1, vr a1), (2, vr (some (sZ σ))), (3, vr x16)]) (st' := [vr x16]) (pc' := 50) [(.aload_n 3, vi 0, 50)] (by decide +kernel) rfl rfl ?_
  exact sm_aret rfl rfl (by decide +kernel) (fun h => hRET _ h)
def ws_tell (bb : Nat × Nat) (a0 : Nat) (a1 : Option Nat) (a2 : Int) (σ : ST) : Option (Int × ST) := gd (sc σ a0 = 1) (Option.bind (sR σ 5 a0) fun p2 => gd (sc σ p2 = 4) (Option.bind (r_clear p2 σ) fun y5 => gd (¬ (a1 = none) → ¬ a1 = none) (gd (¬ (a1 = none) → sc y5 (ad a1) = 4) (gd (¬ (a1 = none) → rg a2) (if (a1 = none) ∨ (¬ (((((sW y5 (ad a1)).length : Nat) : Int)) ≤ a2)) then (some (((-1), y5))) else (gd (sc y5 a0 = 1) (Option.bind (if a1 = (sR y5 6 a0) then (nm (pR y5 6 a0 (sR y5 5 a0)) fun σ29 => some σ29) else (some y5)) fun (v18 : ST) => gd (sc v18 a0 = 1) (nm (pR v18 5 a0 a1) fun σ23 => Option.bind a1 fun p24 => gd (sc σ23 p24 = 4) (some (((((sW σ23 p24).length : Nat) : Int), σ23)))))))))))
set_option maxHeartbeats 4000000 in
theorem ws_tell_ok {g : GE} (G : GG g) {τ : TT} (d : Nat) (hd1 : 1 ≤ d) (a0 : Nat) (a1 : Option Nat) (a2 : Int)  (σ : ST) (Q : VQ) : Sm (V g mX0_tell d 0 [(0, vr (some a0)), (1, vr a1), (2, vi a2)] [] σ τ Q) (ws_tell (gRm g) a0 a1 a2 σ) (fun r => Q.1 (some (vi r.1)) r.2 τ) := by
  unfold ws_tell
  refine sm_top (fun K hRET => ?_)
  refine sm_b (l' := [(0, vr (some a0)), (1, vr a1), (2, vi a2)]) (st' := [vr (some a0)]) (pc' := 1) [(.aload_n 0, vi 0, 1)] (by decide +kernel) rfl rfl ?_
  refine sm_gd (fun h1 => ?_)
  refine sm_g (k := 5) (x := vr (sR σ 5 a0)) cd0 rfl h1 rfl q295 rfl (by decide +kernel) ?_
  refine sm_de (fun p2 h3 => ?_)
  refine sm_st [vr (some p2)] (by rw [h3] <;> rfl) ?_
  refine sm_gd (fun h4 => ?_)
  refine sm_cv (N := mX3_clear) (d' := d - 1) (fun r => none) (fun r => r) (fun _ => τ) [] [] rfl (by decide +kernel) q1098 q1099 q1100 (Or.inl ⟨rfl, q1101⟩) (show okN yX3_clear 0 = true by decide +kernel) (fun H hR => hR.rvR G.1 h4) rfl rfl (by omega) rfl (fun Q' => r_clear_ok G (d - 1) (by omega) p2 σ Q') (fun y5 => ?_)
  refine sm_b (l' := [(0, vr (some a0)), (1, vr a1), (2, vi a2)]) (st' := [vr a1]) (pc' := 8) [(.aload_n 1, vi 0, 8)] (by decide +kernel) rfl rfl ?_
  refine sm_gd (fun h7 => ?_)
  refine sm_gd (fun h9 => ?_)
  refine sm_gd (fun h12 => ?_)
  refine sm_case (V g mX0_tell d 19 [(0, vr (some a0)), (1, vr a1), (2, vi a2)] [] y5 τ Q) (V g mX0_tell d 21 [(0, vr (some a0)), (1, vr a1), (2, vi a2)] [] y5 τ Q) ?_ ?_ (fun f34 p35 n36 => ?_)
  · refine sm_b (l' := [(0, vr (some a0)), (1, vr a1), (2, vi a2)]) (st' := [vi ((-1))]) (pc' := 20) [(.iconst (-1), vi (-1), 20)] (by decide +kernel) rfl rfl ?_
    exact sm_iret rfl (by decide +kernel) (fun h => hRET _ h)
  · refine sm_b (l' := [(0, vr (some a0)), (1, vr a1), (2, vi a2)]) (st' := [vr (some a0), vr a1]) (pc' := 23) [(.aload_n 1, vi 0, 22), (.aload_n 0, vi 0, 23)] (by decide +kernel) rfl rfl ?_
    refine sm_gd (fun h16 => ?_)
    refine sm_g (k := 6) (x := vr (sR y5 6 a0)) cd0 rfl h16 rfl q296 rfl (by decide +kernel) ?_
    refine sm_bind1 (fun (v18 : ST) => V g mX0_tell d 37 [(0, vr (some a0)), (1, vr a1)] [] v18 τ Q) (fun v18 => ?_) (fun K19 j20 => ?_)
    · refine sm_b (l' := [(0, vr (some a0)), (1, vr a1)]) (st' := [vr a1, vr (some a0)]) (pc' := 39) [(.aload_n 0, vi 0, 38), (.aload_n 1, vi 0, 39)] (by decide +kernel) rfl rfl ?_
      refine sm_gd (fun h22 => ?_)
      refine sm_p (k := 5) (x := vr a1) cd0 rfl h22 rfl q295 rfl (nar_r _ rfl) (fit_r _ rfl) rfl (at_pR v18 5 a0 a1) (fp_5 v18 a0 a1) (by decide +kernel) ?_
      refine sm_nms (fun σ23 => ?_)
      refine sm_b (l' := [(0, vr (some a0)), (1, vr a1)]) (st' := [vr a1]) (pc' := 43) [(.aload_n 1, vi 0, 43)] (by decide +kernel) rfl rfl ?_
      refine sm_de (fun p24 h25 => ?_)
      refine sm_st [vr (some p24)] (by rw [h25] <;> rfl) ?_
      refine sm_gd (fun h26 => ?_)
      refine sm_rszN h26 q284 (by decide +kernel) ?_
      refine sm_rowf h26 (fun b27 b28 => ?_)
      exact sm_iret rfl (by decide +kernel) (fun h => hRET _ h)
    · refine sm_case (V g mX0_tell d 29 [(0, vr (some a0)), (1, vr a1), (2, vi a2)] [] y5 τ Q) (V g mX0_tell d 37 [(0, vr (some a0)), (1, vr a1), (2, vi a2)] [] y5 τ Q) ?_ ?_ (fun f30 p31 n32 => ?_)
      · refine sm_b (l' := [(0, vr (some a0)), (1, vr a1), (2, vi a2)]) (st' := [vr (some a0), vr (some a0)]) (pc' := 31) [(.aload_n 0, vi 0, 30), (.aload_n 0, vi 0, 31)] (by decide +kernel) rfl rfl ?_
        refine sm_g (k := 5) (x := vr (sR y5 5 a0)) cd0 rfl h16 rfl q295 rfl (by decide +kernel) ?_
        refine sm_p (k := 6) (x := vr (sR y5 5 a0)) cd0 rfl h16 rfl q296 rfl (nar_r _ rfl) (fit_r _ rfl) rfl (at_pR y5 6 a0 (sR y5 5 a0)) (fp_6 y5 a0 (sR y5 5 a0)) (by decide +kernel) ?_
        refine sm_nms (fun σ29 => ?_)
        refine sm_pick [0, 1] (l' := [(0, vr (some a0)), (1, vr a1)]) rfl ?_
        exact sm_leaf (fun h => j20 _ h)
      · refine sm_pick [0, 1] (l' := [(0, vr (some a0)), (1, vr a1)]) rfl ?_
        exact sm_leaf (fun h => j20 _ h)
      refine sm_acmp_ne (off := 11) (tgt := 37) (by decide +kernel) (fun c33 => ?_) (fun c33 => ?_)
      · exact n32 c33
      · exact p31 c33
  refine sm_ifnull (off := 11) (tgt := 19) (by decide +kernel) (fun c37 => ?_) (fun c37 => ?_)
  · exact p35 (Or.inl c37)
  · have w6 : ¬ (a1 = none) := c37
    refine sm_b (l' := [(0, vr (some a0)), (1, vr a1), (2, vi a2)]) (st' := [vr a1]) (pc' := 12) [(.aload_n 1, vi 0, 12)] (by decide +kernel) rfl rfl ?_
    have q8 := (ad_some (h7 w6))
    refine sm_st [vr (some (ad a1))] (congrArg (fun z => [vr z]) q8) ?_
    refine sm_rszN (h9 w6) q284 (by decide +kernel) ?_
    refine sm_rowf (h9 w6) (fun b10 b11 => ?_)
    refine sm_b (l' := [(0, vr (some a0)), (1, vr a1), (2, vi a2)]) (st' := [vi a2, vi ((((sW y5 (ad a1)).length : Nat) : Int))]) (pc' := 16) [(.iload_n 2, vi 0, 16)] (by decide +kernel) rfl rfl ?_
    refine sm_icmp_le (off := 5) (tgt := 21) (rwl_rg (Nat.lt_of_le_of_lt b10 b11)) (h12 w6) (by decide +kernel) (fun c38 => ?_) (fun c38 => ?_)
    · exact n36 (fun q => q.elim c37 (fun q => q c38))
    · exact p35 (Or.inr c38)
def ws_toJson (bb : Nat × Nat) (a0 : Nat) (a1 : Int) (σ : ST) : Option (Int × ST) := gd (sc σ a0 = 1) (Option.bind (ws_isMessage a0 a1 σ) fun y2 => Option.bind (gd (rg y2) (if y2 = 0 then (some ((none, σ))) else (Option.bind (sR σ 4 a0) fun p22 => gd (sc σ p22 = 2) (Option.bind (sR σ 17 p22) fun p25 => gd (sc σ p25 = 16) (Option.bind (l_get p25 a1 σ) fun y28 => Option.bind y28 fun p29 => gd (sc σ p29 = 7) (Option.bind (ws_json bb a0 (some p29) σ) fun y32 => some ((y32.1, y32.2)))))))) fun (v16 : Option Nat × ST) => gd (sc v16.2 a0 = 1) (Option.bind (ws_tell bb a0 v16.1 4000 v16.2) fun y21 => some ((y21.1, y21.2))))
set_option maxHeartbeats 4000000 in
theorem ws_toJson_ok {g : GE} (G : GG g) {τ : TT} (d : Nat) (hd1 : 49 ≤ d) (a0 : Nat) (a1 : Int)  (σ : ST) (Q : VQ) : Sm (V g mX0_toJson d 0 [(0, vr (some a0)), (1, vi a1)] [] σ τ Q) (ws_toJson (gRm g) a0 a1 σ) (fun r => Q.1 (some (vi r.1)) r.2 τ) := by
  unfold ws_toJson
  refine sm_top (fun K hRET => ?_)
  refine sm_b (l' := [(0, vr (some a0)), (1, vi a1)]) (st' := [vi a1, vr (some a0), vr (some a0)]) (pc' := 3) [(.aload_n 0, vi 0, 1), (.aload_n 0, vi 0, 2), (.iload_n 1, vi 0, 3)] (by decide +kernel) rfl rfl ?_
  refine sm_gd (fun h1 => ?_)
  refine sm_cv (N := mX0_isMessage) (d' := d - 1) (fun r => (some (vi r))) (fun _ => σ) (fun _ => τ) [vi a1] [vr (some a0)] rfl (by decide +kernel) q930 q932 qs22 (Or.inl ⟨rfl, q933⟩) (show okN yX0_isMessage 1 = true by decide +kernel) (fun H hR => hR.rv G.1 cd0 rfl h1) rfl rfl (by omega) rfl (fun Q' => ws_isMessage_ok G (d - 1) (by omega) a0 a1 σ Q') (fun y2 => ?_)
  refine sm_bind1 (fun (v16 : Option Nat × ST) => V g mX0_toJson d 31 [] [vr v16.1, vr (some a0)] v16.2 τ Q) (fun v16 => ?_) (fun K17 j18 => ?_)
  · refine sm_b (l' := []) (st' := [vi 4000, vr v16.1, vr (some a0)]) (pc' := 34) [(.sipush 4000, vi 4000, 34)] (by decide +kernel) rfl rfl ?_
    refine sm_gd (fun h20 => ?_)
    refine sm_cv (N := mX0_tell) (d' := d - 1) (fun r => (some (vi r.1))) (fun r => r.2) (fun _ => τ) [vr v16.1, vi 4000] [] rfl (by decide +kernel) q1161 q1163 qs31 (Or.inl ⟨rfl, q1164⟩) (show okN yX0_tell 2 = true by decide +kernel) (fun H hR => hR.rv G.1 cd0 rfl h20) rfl rfl (by omega) rfl (fun Q' => ws_tell_ok G (d - 1) (by omega) a0 v16.1 4000 v16.2 Q') (fun y21 => ?_)
    exact sm_iret rfl (by decide +kernel) (fun h => hRET _ h)
  · refine sm_gd (fun h3 => ?_)
    refine sm_case (V g mX0_toJson d 30 [(0, vr (some a0)), (1, vi a1)] [vr (some a0)] σ τ Q) (V g mX0_toJson d 9 [(0, vr (some a0)), (1, vi a1)] [vr (some a0)] σ τ Q) ?_ ?_ (fun f33 p34 n35 => ?_)
    · refine sm_b (l' := [(0, vr (some a0)), (1, vi a1)]) (st' := [vr none, vr (some a0)]) (pc' := 31) [(.aconst_null, vi 0, 31)] (by decide +kernel) rfl rfl ?_
      refine sm_pick [] (l' := []) rfl ?_
      exact sm_leaf (fun h => j18 _ h)
    · refine sm_b (l' := [(0, vr (some a0)), (1, vi a1)]) (st' := [vr (some a0), vr (some a0), vr (some a0)]) (pc' := 11) [(.aload_n 0, vi 0, 10), (.aload_n 0, vi 0, 11)] (by decide +kernel) rfl rfl ?_
      refine sm_g (k := 4) (x := vr (sR σ 4 a0)) cd0 rfl h1 rfl q294 rfl (by decide +kernel) ?_
      refine sm_de (fun p22 h23 => ?_)
      refine sm_st [vr (some p22), vr (some a0), vr (some a0)] (by rw [h23] <;> rfl) ?_
      refine sm_gd (fun h24 => ?_)
      refine sm_gN (k := 1) (x := vr (sR σ 17 p22)) cd1 rfl h24 rfl q238 rfl (by decide +kernel) ?_
      refine sm_b (l' := [(0, vr (some a0)), (1, vi a1)]) (st' := [vi a1, vr (sR σ 17 p22), vr (some a0), vr (some a0)]) (pc' := 18) [(.iload_n 1, vi 0, 18)] (by decide +kernel) rfl rfl ?_
      refine sm_de (fun p25 h26 => ?_)
      refine sm_st [vi a1, vr (some p25), vr (some a0), vr (some a0)] (by rw [h26] <;> rfl) ?_
      refine sm_gd (fun h27 => ?_)
      refine sm_cv (N := mJ2_get) (d' := d - 1) (fun r => (some (vr r))) (fun _ => σ) (fun _ => τ) [vi a1] [vr (some a0), vr (some a0)] rfl (by decide +kernel) q919 q791 q792 (Or.inl ⟨rfl, q793⟩) (show okN yJ2_get 1 = true by decide +kernel) (fun H hR => hR.rvL G.1 h27) rfl rfl (by omega) rfl (fun Q' => l_get_ok G (d - 1) (by omega) p25 a1 σ Q') (fun y28 => ?_)
      refine sm_de (fun p29 h30 => ?_)
      refine sm_st [vr (some p29), vr (some a0), vr (some a0)] (by rw [h30] <;> rfl) ?_
      refine sm_gd (fun h31 => ?_)
      refine sm_cast cd6 q934 (fun H hR => hR.rv G.1 cd6 rfl h31) (by decide +kernel) ?_
      refine sm_cv (N := mX0_json) (d' := d - 1) (fun r => (some (vr r.1))) (fun r => r.2) (fun _ => τ) [vr (some p29)] [vr (some a0)] rfl (by decide +kernel) q935 q937 qs23 (Or.inr q938) (show okN yX0_json 1 = true by decide +kernel) (fun H hR => hR.rv G.1 cd0 rfl h1) rfl rfl (by omega) rfl (fun Q' => ws_json_ok G (d - 1) (by omega) a0 (some p29) σ Q') (fun y32 => ?_)
      refine sm_b (l' := [(0, vr (some a0)), (1, vi a1)]) (st' := [vr y32.1, vr (some a0)]) (pc' := 31) [(.goto 4, vi 0, 31)] (by decide +kernel) rfl rfl ?_
      refine sm_pick [] (l' := []) rfl ?_
      exact sm_leaf (fun h => j18 _ h)
    refine sm_if_eq (off := 24) (tgt := 30) h3 (by decide +kernel) (fun c36 => ?_) (fun c36 => ?_)
    · exact p34 c36
    · exact n35 c36
def wh_init (bb : Nat × Nat) (a0 : Nat) (σ : ST) : Option (ST) := some σ
set_option maxHeartbeats 4000000 in
theorem wh_init_ok {g : GE} (G : GG g) {τ : TT} (d : Nat) (hd1 : 1 ≤ d) (a0 : Nat)  (σ : ST) (Q : VQ) : Sm (V g mX15_init d 0 [(0, vr (some a0))] [] σ τ Q) (wh_init (gRm g) a0 σ) (fun r => Q.1 none r τ) := by
  unfold wh_init
  refine sm_top (fun K hRET => ?_)
  refine sm_b (l' := [(0, vr (some a0))]) (st' := [vr (some a0)]) (pc' := 1) [(.aload_n 0, vi 0, 1)] (by decide +kernel) rfl rfl ?_
  refine sm_obj q1186 (by omega) rfl (by decide +kernel) ?_
  exact sm_vret rfl (by decide +kernel) (fun h => hRET _ h)
def jr_init (bb : Nat × Nat) (a0 : Nat) (a1 : Option Nat) (a2 : Int) (σ : ST) : Option (ST) := gd (rm bb σ 2) (nm (nW σ) fun σ2 => gd (sc σ2 a0 = 14) (nm (pR σ2 211 a0 (some (sZ σ))) fun σ4 => gd (rm bb σ4 3) (nm (nO σ4 15 3) fun σ6 => Option.bind (wh_init bb (sZ σ4) σ6) fun y7 => gd (sc y7 a0 = 14) (nm (pR y7 212 a0 (some (sZ σ4))) fun σ9 => gd (sc σ9 a0 = 14) (nm (pR σ9 208 a0 a1) fun σ11 => gd (sc σ11 a0 = 14) (nm (pI σ11 209 a0 a2) fun σ13 => some σ13))))))
set_option maxHeartbeats 4000000 in
theorem jr_init_ok {g : GE} (G : GG g) {τ : TT} (d : Nat) (hd1 : 2 ≤ d) (a0 : Nat) (a1 : Option Nat) (a2 : Int)  (σ : ST) (Q : VQ) : Sm (V g mX14_init d 0 [(0, vr (some a0)), (1, vr a1), (2, vi a2)] [] σ τ Q) (jr_init (gRm g) a0 a1 a2 σ) (fun r => Q.1 none r τ) := by
  unfold jr_init
  refine sm_top (fun K hRET => ?_)
  refine sm_b (l' := [(0, vr (some a0)), (1, vr a1), (2, vi a2)]) (st' := [vr (some a0)]) (pc' := 1) [(.aload_n 0, vi 0, 1)] (by decide +kernel) rfl rfl ?_
  refine sm_obj q1178 (by omega) rfl (by decide +kernel) ?_
  refine sm_b (l' := [(0, vr (some a0)), (1, vr a1), (2, vi a2)]) (st' := [vr (some a0)]) (pc' := 5) [(.aload_n 0, vi 0, 5)] (by decide +kernel) rfl rfl ?_
  refine sm_gd (fun h1 => ?_)
  refine sm_newRowN (i := 9) (i2 := 11) q1179 rfl q1180 h1 (by omega) rfl (by decide +kernel) (by decide +kernel) (by decide +kernel) ?_
  refine sm_nms (fun σ2 => ?_)
  refine sm_gd (fun h3 => ?_)
  refine sm_pF (k := 3) (x := vr (some (sZ σ))) cd13 rfl h3 rfl q1203 rfl rfl rfl (nar_r _ rfl) (fit_r _ rfl) rfl (at_pR σ2 211 a0 (some (sZ σ))) (fp_211 σ2 a0 (some (sZ σ))) (by decide +kernel) ?_
  refine sm_nms (fun σ4 => ?_)
  refine sm_b (l' := [(0, vr (some a0)), (1, vr a1), (2, vi a2)]) (st' := [vr (some a0)]) (pc' := 16) [(.aload_n 0, vi 0, 16)] (by decide +kernel) rfl rfl ?_
  refine sm_gd (fun h5 => ?_)
  refine sm_new cd14 rfl q1181 q1182 q163 (new_14 σ4) h5 (by decide +kernel) ?_
  refine sm_nms (fun σ6 => ?_)
  refine sm_b (l' := [(0, vr (some a0)), (1, vr a1), (2, vi a2)]) (st' := [vr (some (sZ σ4)), vr (some (sZ σ4)), vr (some a0)]) (pc' := 20) [(.dup, vi 0, 20)] (by decide +kernel) rfl rfl ?_
  refine sm_ciN (N := mX15_init) (d' := d - 1) [] [vr (some (sZ σ4)), vr (some a0)] rfl (by decide +kernel) q1183 q1184 rfl q1185 rfl rfl (show okN yX15_init 0 = true by decide +kernel) rfl rfl (by omega) rfl (fun Q' => wh_init_ok G (d - 1) (by omega) (sZ σ4) σ6 Q') (fun y7 => ?_)
  refine sm_gd (fun h8 => ?_)
  refine sm_pF (k := 4) (x := vr (some (sZ σ4))) cd13 rfl h8 rfl q1204 rfl rfl rfl (nar_r _ rfl) (fit_r _ rfl) rfl (at_pR y7 212 a0 (some (sZ σ4))) (fp_212 y7 a0 (some (sZ σ4))) (by decide +kernel) ?_
  refine sm_nms (fun σ9 => ?_)
  refine sm_b (l' := [(0, vr (some a0)), (1, vr a1), (2, vi a2)]) (st' := [vr a1, vr (some a0)]) (pc' := 28) [(.aload_n 0, vi 0, 27), (.aload_n 1, vi 0, 28)] (by decide +kernel) rfl rfl ?_
  refine sm_gd (fun h10 => ?_)
  refine sm_pF (k := 0) (x := vr a1) cd13 rfl h10 rfl q1200 rfl rfl rfl (nar_r _ rfl) (fit_r _ rfl) rfl (at_pR σ9 208 a0 a1) (fp_208 σ9 a0 a1) (by decide +kernel) ?_
  refine sm_nms (fun σ11 => ?_)
  refine sm_b (l' := [(0, vr (some a0)), (1, vr a1), (2, vi a2)]) (st' := [vi a2, vr (some a0)]) (pc' := 33) [(.aload_n 0, vi 0, 32), (.iload_n 2, vi 0, 33)] (by decide +kernel) rfl rfl ?_
  refine sm_gd (fun h12 => ?_)
  refine sm_pF (k := 1) (x := vi a2) cd13 rfl h12 rfl q1201 rfl rfl rfl (nar_i _) (fit_i _) rfl (at_pI σ11 209 a0 a2) (fp_209 σ11 a0 a2) (by decide +kernel) ?_
  refine sm_nms (fun σ13 => ?_)
  exact sm_vret rfl (by decide +kernel) (fun h => hRET _ h)
def jr_look (a0 : Nat) (σ : ST) : Option (Int) := gd (sc σ a0 = 14) (gd (rg (sI σ 210 a0)) (gd (rg (sI σ 209 a0)) (if (sI σ 209 a0) ≤ (sI σ 210 a0) then (some (((-1)))) else (Option.bind (sR σ 208 a0) fun p10 => gd (sc σ p10 = 101) (gd (ib (sI σ 210 a0) (sN σ p10)) (some ((iAnd (sbI (sB σ p10 (sI σ 210 a0).toNat)) 255))))))))
set_option maxHeartbeats 4000000 in
theorem jr_look_ok {g : GE} (G : GG g) {τ : TT} (d : Nat) (hd1 : 0 ≤ d) (a0 : Nat)  (σ : ST) (Q : VQ) : Sm (V g mX14_look d 0 [(0, vr (some a0))] [] σ τ Q) (jr_look a0 σ) (fun r => Q.1 (some (vi r)) σ τ) := by
  unfold jr_look
  refine sm_top (fun K hRET => ?_)
  refine sm_b (l' := [(0, vr (some a0))]) (st' := [vr (some a0)]) (pc' := 1) [(.aload_n 0, vi 0, 1)] (by decide +kernel) rfl rfl ?_
  refine sm_gd (fun h1 => ?_)
  refine sm_g (k := 2) (x := vi (sI σ 210 a0)) cd13 rfl h1 rfl q1202 rfl (by decide +kernel) ?_
  refine sm_b (l' := [(0, vr (some a0))]) (st' := [vr (some a0), vi (sI σ 210 a0)]) (pc' := 5) [(.aload_n 0, vi 0, 5)] (by decide +kernel) rfl rfl ?_
  refine sm_g (k := 1) (x := vi (sI σ 209 a0)) cd13 rfl h1 rfl q1201 rfl (by decide +kernel) ?_
  refine sm_gd (fun h2 => ?_)
  refine sm_gd (fun h3 => ?_)
  refine sm_case (V g mX14_look d 27 [(0, vr (some a0))] [] σ τ Q) (V g mX14_look d 11 [(0, vr (some a0))] [] σ τ Q) ?_ ?_ (fun f14 p15 n16 => ?_)
  · refine sm_b (l' := [(0, vr (some a0))]) (st' := [vi ((-1))]) (pc' := 28) [(.iconst (-1), vi (-1), 28)] (by decide +kernel) rfl rfl ?_
    exact sm_iret rfl (by decide +kernel) (fun h => hRET _ h)
  · refine sm_b (l' := [(0, vr (some a0))]) (st' := [vr (some a0)]) (pc' := 12) [(.aload_n 0, vi 0, 12)] (by decide +kernel) rfl rfl ?_
    refine sm_g (k := 0) (x := vr (sR σ 208 a0)) cd13 rfl h1 rfl q1200 rfl (by decide +kernel) ?_
    refine sm_b (l' := [(0, vr (some a0))]) (st' := [vr (some a0), vr (sR σ 208 a0)]) (pc' := 16) [(.aload_n 0, vi 0, 16)] (by decide +kernel) rfl rfl ?_
    refine sm_g (k := 2) (x := vi (sI σ 210 a0)) cd13 rfl h1 rfl q1202 rfl (by decide +kernel) ?_
    refine sm_de (fun p10 h11 => ?_)
    refine sm_st [vi (sI σ 210 a0), vr (some p10)] (by rw [h11] <;> rfl) ?_
    refine sm_gd (fun h12 => ?_)
    refine sm_gd (fun h13 => ?_)
    refine sm_bl h12 h13 (by decide +kernel) ?_
    refine sm_b (l' := [(0, vr (some a0))]) (st' := [vi (iAnd (sbI (sB σ p10 (sI σ 210 a0).toNat)) 255)]) (pc' := 28) [(.sipush 255, vi 255, 23), (.iand, vi 0, 24), (.goto 4, vi 0, 28)] (by decide +kernel) rfl rfl ?_
    exact sm_iret rfl (by decide +kernel) (fun h => hRET _ h)
  refine sm_icmp_ge (off := 19) (tgt := 27) h2 h3 (by decide +kernel) (fun c17 => ?_) (fun c17 => ?_)
  · exact p15 c17
  · exact n16 c17
def jr_blanks_L0 (bb : Nat × Nat) (u0 : Nat) : Nat → ST → Option (ST)
  | 0, _ => none
  | n + 1, σ => gd (sc σ u0 = 14) (Option.bind (jr_look u0 σ) fun y2 => gd (rg y2) (gd (¬ (y2 = 32) → ok (jr_look u0 σ)) (gd (¬ (y2 = 32) → rg (vv (jr_look u0 σ))) (gd (¬ ((y2 = 32) ∨ ((vv (jr_look u0 σ)) = 9)) → ok (jr_look u0 σ)) (gd (¬ ((y2 = 32) ∨ ((vv (jr_look u0 σ)) = 9)) → rg (vv (jr_look u0 σ))) (gd (¬ (((y2 = 32) ∨ ((vv (jr_look u0 σ)) = 9)) ∨ ((vv (jr_look u0 σ)) = 10)) → ok (jr_look u0 σ)) (gd (¬ (((y2 = 32) ∨ ((vv (jr_look u0 σ)) = 9)) ∨ ((vv (jr_look u0 σ)) = 10)) → rg (vv (jr_look u0 σ))) (if (((y2 = 32) ∨ ((vv (jr_look u0 σ)) = 9)) ∨ ((vv (jr_look u0 σ)) = 10)) ∨ ((vv (jr_look u0 σ)) = 13) then (nm (pI σ 210 u0 ((sI σ 210 u0) + 1)) fun σ15 => jr_blanks_L0 bb u0 n σ15) else (some σ)))))))))
def jr_blanks (bb : Nat × Nat) (a0 : Nat) (σ : ST) : Option (ST) := jr_blanks_L0 bb a0 FU σ
set_option maxHeartbeats 4000000 in
theorem jr_blanks_L0_ok {g : GE} (G : GG g) {τ : TT} {Q : VQ} (d : Nat) (hd1 : 1 ≤ d) (u0 : Nat)  {K : ST → Prop} (hRET : ∀ r : ST, K (r) → Q.1 none r τ) : ∀ (n : Nat) (σ : ST), Sm (V g mX14_blanks d 0 [(0, vr (some u0))] [] σ τ Q) (jr_blanks_L0 (gRm g) u0 n σ) K := by
  intro n
  induction n with
  | zero => intro σ; exact sm_none
  | succ n ih =>
    intro σ
    rw [jr_blanks_L0.eq_2]
    refine sm_b (l' := [(0, vr (some u0))]) (st' := [vr (some u0)]) (pc' := 1) [(.aload_n 0, vi 0, 1)] (by decide +kernel) rfl rfl ?_
    refine sm_gd (fun h1 => ?_)
    refine sm_cv (N := mX14_look) (d' := d - 1) (fun r => (some (vi r))) (fun _ => σ) (fun _ => τ) [] [] rfl (by decide +kernel) q1233 q1235 qs35 (Or.inl ⟨rfl, q1236⟩) (show okN yX14_look 0 = true by decide +kernel) (fun H hR => hR.rv G.1 cd13 rfl h1) rfl rfl (by omega) rfl (fun Q' => jr_look_ok G (d - 1) (by omega) u0 σ Q') (fun y2 => ?_)
    refine sm_b (l' := [(0, vr (some u0))]) (st' := [vi 32, vi y2]) (pc' := 6) [(.bipush 32, vi 32, 6)] (by decide +kernel) rfl rfl ?_
    refine sm_gd (fun h3 => ?_)
    refine sm_gd (fun h5 => ?_)
    refine sm_gd (fun h6 => ?_)
    refine sm_gd (fun h8 => ?_)
    refine sm_gd (fun h9 => ?_)
    refine sm_gd (fun h11 => ?_)
    refine sm_gd (fun h12 => ?_)
    refine sm_case (V g mX14_blanks d 36 [(0, vr (some u0))] [] σ τ Q) (V g mX14_blanks d 49 [(0, vr (some u0))] [] σ τ Q) ?_ ?_ (fun f16 p17 n18 => ?_)
    · refine sm_b (l' := [(0, vr (some u0))]) (st' := [vr (some u0), vr (some u0)]) (pc' := 38) [(.aload_n 0, vi 0, 37), (.dup, vi 0, 38)] (by decide +kernel) rfl rfl ?_
      refine sm_g (k := 2) (x := vi (sI σ 210 u0)) cd13 rfl h1 rfl q1202 rfl (by decide +kernel) ?_
      refine sm_b (l' := [(0, vr (some u0))]) (st' := [vi ((sI σ 210 u0) + 1), vr (some u0)]) (pc' := 43) [(.iconst 1, vi 1, 42), (.iadd, vi 0, 43)] (by decide +kernel) rfl rfl ?_
      refine sm_p (k := 2) (x := vi ((sI σ 210 u0) + 1)) cd13 rfl h1 rfl q1202 rfl (nar_i _) (fit_i _) rfl (at_pI σ 210 u0 ((sI σ 210 u0) + 1)) (fp_210 σ u0 ((sI σ 210 u0) + 1)) (by decide +kernel) ?_
      refine sm_nms (fun σ15 => ?_)
      refine sm_b (l' := [(0, vr (some u0))]) (st' := []) (pc' := 0) [(.goto (-46), vi 0, 0)] (by decide +kernel) rfl rfl ?_
      exact ih σ15
    · exact sm_vret rfl (by decide +kernel) (fun h => hRET _ h)
    refine sm_icmp_eq (off := 30) (tgt := 36) h3 (by decide) (by decide +kernel) (fun c19 => ?_) (fun c19 => ?_)
    · exact p17 (Or.inl (Or.inl (Or.inl c19)))
    · have w4 : ¬ (y2 = 32) := c19
      refine sm_b (l' := [(0, vr (some u0))]) (st' := [vr (some u0)]) (pc' := 10) [(.aload_n 0, vi 0, 10)] (by decide +kernel) rfl rfl ?_
      refine sm_cvp (N := mX14_look) (d' := d - 1) (fun r => (some (vi r))) (some (vi (vv (jr_look u0 σ)))) (h5 w4) (fun y h => by rw [vv_some h]) [] [] rfl (by decide +kernel) q1233 q1235 qs35 (Or.inl ⟨rfl, q1236⟩) (show okN yX14_look 0 = true by decide +kernel) (fun H hR => hR.rv G.1 cd13 rfl h1) rfl rfl (by omega) rfl (fun Q' => jr_look_ok G (d - 1) (by omega) u0 σ Q') ?_
      refine sm_b (l' := [(0, vr (some u0))]) (st' := [vi 9, vi (vv (jr_look u0 σ))]) (pc' := 15) [(.bipush 9, vi 9, 15)] (by decide +kernel) rfl rfl ?_
      refine sm_icmp_eq (off := 21) (tgt := 36) (h6 w4) (by decide) (by decide +kernel) (fun c20 => ?_) (fun c20 => ?_)
      · exact p17 (Or.inl (Or.inl (Or.inr c20)))
      · have w7 : ¬ ((y2 = 32) ∨ ((vv (jr_look u0 σ)) = 9)) := (fun q => q.elim c19 c20)
        refine sm_b (l' := [(0, vr (some u0))]) (st' := [vr (some u0)]) (pc' := 19) [(.aload_n 0, vi 0, 19)] (by decide +kernel) rfl rfl ?_
        refine sm_cvp (N := mX14_look) (d' := d - 1) (fun r => (some (vi r))) (some (vi (vv (jr_look u0 σ)))) (h8 w7) (fun y h => by rw [vv_some h]) [] [] rfl (by decide +kernel) q1233 q1235 qs35 (Or.inl ⟨rfl, q1236⟩) (show okN yX14_look 0 = true by decide +kernel) (fun H hR => hR.rv G.1 cd13 rfl h1) rfl rfl (by omega) rfl (fun Q' => jr_look_ok G (d - 1) (by omega) u0 σ Q') ?_
        refine sm_b (l' := [(0, vr (some u0))]) (st' := [vi 10, vi (vv (jr_look u0 σ))]) (pc' := 24) [(.bipush 10, vi 10, 24)] (by decide +kernel) rfl rfl ?_
        refine sm_icmp_eq (off := 12) (tgt := 36) (h9 w7) (by decide) (by decide +kernel) (fun c21 => ?_) (fun c21 => ?_)
        · exact p17 (Or.inl (Or.inr c21))
        · have w10 : ¬ (((y2 = 32) ∨ ((vv (jr_look u0 σ)) = 9)) ∨ ((vv (jr_look u0 σ)) = 10)) := (fun q => q.elim (fun q => q.elim c19 c20) c21)
          refine sm_b (l' := [(0, vr (some u0))]) (st' := [vr (some u0)]) (pc' := 28) [(.aload_n 0, vi 0, 28)] (by decide +kernel) rfl rfl ?_
          refine sm_cvp (N := mX14_look) (d' := d - 1) (fun r => (some (vi r))) (some (vi (vv (jr_look u0 σ)))) (h11 w10) (fun y h => by rw [vv_some h]) [] [] rfl (by decide +kernel) q1233 q1235 qs35 (Or.inl ⟨rfl, q1236⟩) (show okN yX14_look 0 = true by decide +kernel) (fun H hR => hR.rv G.1 cd13 rfl h1) rfl rfl (by omega) rfl (fun Q' => jr_look_ok G (d - 1) (by omega) u0 σ Q') ?_
          refine sm_b (l' := [(0, vr (some u0))]) (st' := [vi 13, vi (vv (jr_look u0 σ))]) (pc' := 33) [(.bipush 13, vi 13, 33)] (by decide +kernel) rfl rfl ?_
          refine sm_icmp_ne (off := 16) (tgt := 49) (h12 w10) (by decide) (by decide +kernel) (fun c22 => ?_) (fun c22 => ?_)
          · exact n18 (fun q => q.elim (fun q => q.elim (fun q => q.elim c19 c20) c21) c22)
          · exact p17 (Or.inr c22)
set_option maxHeartbeats 4000000 in
theorem jr_blanks_ok {g : GE} (G : GG g) {τ : TT} (d : Nat) (hd1 : 1 ≤ d) (a0 : Nat)  (σ : ST) (Q : VQ) : Sm (V g mX14_blanks d 0 [(0, vr (some a0))] [] σ τ Q) (jr_blanks (gRm g) a0 σ) (fun r => Q.1 none r τ) := by
  unfold jr_blanks
  refine sm_top (fun K hRET => ?_)
  exact jr_blanks_L0_ok G d hd1 a0  (fun r h => hRET _ h) FU σ
def jr_sign (bb : Nat × Nat) (a0 : Nat) (a1 : Int) (σ : ST) : Option (Option Unit × ST) := gd (sc σ a0 = 14) (Option.bind (jr_blanks bb a0 σ) fun y2 => gd (sc y2 a0 = 14) (Option.bind (jr_look a0 y2) fun y4 => Option.bind (gd (rg y4) (gd (rg a1) (if y4 = a1 then (some 1) else (some 0)))) fun (v9 : Int) => Option.bind (s_must bb v9 y2) (tB (fun z => (none, z)) fun y14 σ15 => gd (sc σ15 a0 = 14) (nm (pI σ15 210 a0 ((sI σ15 210 a0) + 1)) fun σ17 => some ((some (), σ17))))))
set_option maxHeartbeats 4000000 in
theorem jr_sign_ok {g : GE} (G : GG g) {τ : TT} (d : Nat) (hd1 : 7 ≤ d) (a0 : Nat) (a1 : Int)  (σ : ST) (Q : VQ) : Sm (V g mX14_sign d 0 [(0, vr (some a0)), (1, vi a1)] [] σ τ Q) (jr_sign (gRm g) a0 a1 σ) (fun r => tQ Q τ (fun _ : Unit => none) r) := by
  unfold jr_sign
  refine sm_top (fun K hRET => ?_)
  refine sm_b (l' := [(0, vr (some a0)), (1, vi a1)]) (st' := [vr (some a0)]) (pc' := 1) [(.aload_n 0, vi 0, 1)] (by decide +kernel) rfl rfl ?_
  refine sm_gd (fun h1 => ?_)
  refine sm_cv (N := mX14_blanks) (d' := d - 1) (fun r => none) (fun r => r) (fun _ => τ) [] [] rfl (by decide +kernel) q1229 q1231 qs34 (Or.inl ⟨rfl, q1232⟩) (show okN yX14_blanks 0 = true by decide +kernel) (fun H hR => hR.rv G.1 cd13 rfl h1) rfl rfl (by omega) rfl (fun Q' => jr_blanks_ok G (d - 1) (by omega) a0 σ Q') (fun y2 => ?_)
  refine sm_b (l' := [(0, vr (some a0)), (1, vi a1)]) (st' := [vr (some a0)]) (pc' := 5) [(.aload_n 0, vi 0, 5)] (by decide +kernel) rfl rfl ?_
  refine sm_gd (fun h3 => ?_)
  refine sm_cv (N := mX14_look) (d' := d - 1) (fun r => (some (vi r))) (fun _ => y2) (fun _ => τ) [] [] rfl (by decide +kernel) q1233 q1235 qs35 (Or.inl ⟨rfl, q1236⟩) (show okN yX14_look 0 = true by decide +kernel) (fun H hR => hR.rv G.1 cd13 rfl h3) rfl rfl (by omega) rfl (fun Q' => jr_look_ok G (d - 1) (by omega) a0 y2 Q') (fun y4 => ?_)
  refine sm_b (l' := [(0, vr (some a0)), (1, vi a1)]) (st' := [vi a1, vi y4]) (pc' := 9) [(.iload_n 1, vi 0, 9)] (by decide +kernel) rfl rfl ?_
  refine sm_bind1 (fun (v9 : Int) => V g mX14_sign d 17 [(0, vr (some a0))] [vi v9] y2 τ Q) (fun v9 => ?_) (fun K10 j11 => ?_)
  · refine sm_csTE (N := mX14_must) (d' := d - 1) (fun _ : Unit => none) (fun z => (none, z)) [vi v9] [] rfl (by decide +kernel) q1237 q1238 q162 (Or.inl ⟨rfl, q1239⟩) (show okN yX14_must 1 = true by decide +kernel) rfl rfl (by omega) rfl (fun Q' => jr_must_ok G (d - 1) (by omega) v9 y2 Q') (fun z h => hRET _ h) (fun y14 σ15 => ?_)
    refine sm_b (l' := [(0, vr (some a0))]) (st' := [vr (some a0), vr (some a0)]) (pc' := 22) [(.aload_n 0, vi 0, 21), (.dup, vi 0, 22)] (by decide +kernel) rfl rfl ?_
    refine sm_gd (fun h16 => ?_)
    refine sm_g (k := 2) (x := vi (sI σ15 210 a0)) cd13 rfl h16 rfl q1202 rfl (by decide +kernel) ?_
    refine sm_b (l' := [(0, vr (some a0))]) (st' := [vi ((sI σ15 210 a0) + 1), vr (some a0)]) (pc' := 27) [(.iconst 1, vi 1, 26), (.iadd, vi 0, 27)] (by decide +kernel) rfl rfl ?_
    refine sm_p (k := 2) (x := vi ((sI σ15 210 a0) + 1)) cd13 rfl h16 rfl q1202 rfl (nar_i _) (fit_i _) rfl (at_pI σ15 210 a0 ((sI σ15 210 a0) + 1)) (fp_210 σ15 a0 ((sI σ15 210 a0) + 1)) (by decide +kernel) ?_
    refine sm_nms (fun σ17 => ?_)
    exact sm_vret rfl (by decide +kernel) (fun h => hRET _ h)
  · refine sm_gd (fun h5 => ?_)
    refine sm_gd (fun h6 => ?_)
    refine sm_case (V g mX14_sign d 12 [(0, vr (some a0)), (1, vi a1)] [] y2 τ Q) (V g mX14_sign d 16 [(0, vr (some a0)), (1, vi a1)] [] y2 τ Q) ?_ ?_ (fun f18 p19 n20 => ?_)
    · refine sm_b (l' := [(0, vr (some a0)), (1, vi a1)]) (st' := [vi 1]) (pc' := 17) [(.iconst 1, vi 1, 13), (.goto 4, vi 0, 17)] (by decide +kernel) rfl rfl ?_
      refine sm_pick [0] (l' := [(0, vr (some a0))]) rfl ?_
      exact sm_leaf (fun h => j11 _ h)
    · refine sm_b (l' := [(0, vr (some a0)), (1, vi a1)]) (st' := [vi 0]) (pc' := 17) [(.iconst 0, vi 0, 17)] (by decide +kernel) rfl rfl ?_
      refine sm_pick [0] (l' := [(0, vr (some a0))]) rfl ?_
      exact sm_leaf (fun h => j11 _ h)
    refine sm_icmp_ne (off := 7) (tgt := 16) h5 h6 (by decide +kernel) (fun c21 => ?_) (fun c21 => ?_)
    · exact n20 c21
    · exact p19 c21
def jr_passes (bb : Nat × Nat) (a0 : Nat) (a1 : Int) (σ : ST) : Option (Int × ST) := gd (sc σ a0 = 14) (Option.bind (jr_blanks bb a0 σ) fun y2 => gd (sc y2 a0 = 14) (Option.bind (jr_look a0 y2) fun y4 => Option.bind (gd (rg y4) (gd (rg a1) (if y4 = a1 then (some 1) else (some 0)))) fun (v9 : Int) => Option.bind (gd (rg v9) (if v9 = 0 then (some 0) else (some 1))) fun (v16 : Int) => nm (pI y2 210 a0 ((sI y2 210 a0) + v16)) fun σ20 => gd (zb v9) (some ((v9, σ20)))))
set_option maxHeartbeats 4000000 in
theorem jr_passes_ok {g : GE} (G : GG g) {τ : TT} (d : Nat) (hd1 : 2 ≤ d) (a0 : Nat) (a1 : Int)  (σ : ST) (Q : VQ) : Sm (V g mX14_passes d 0 [(0, vr (some a0)), (1, vi a1)] [] σ τ Q) (jr_passes (gRm g) a0 a1 σ) (fun r => Q.1 (some (vi r.1)) r.2 τ) := by
  unfold jr_passes
  refine sm_top (fun K hRET => ?_)
  refine sm_b (l' := [(0, vr (some a0)), (1, vi a1)]) (st' := [vr (some a0)]) (pc' := 1) [(.aload_n 0, vi 0, 1)] (by decide +kernel) rfl rfl ?_
  refine sm_gd (fun h1 => ?_)
  refine sm_cv (N := mX14_blanks) (d' := d - 1) (fun r => none) (fun r => r) (fun _ => τ) [] [] rfl (by decide +kernel) q1229 q1231 qs34 (Or.inl ⟨rfl, q1232⟩) (show okN yX14_blanks 0 = true by decide +kernel) (fun H hR => hR.rv G.1 cd13 rfl h1) rfl rfl (by omega) rfl (fun Q' => jr_blanks_ok G (d - 1) (by omega) a0 σ Q') (fun y2 => ?_)
  refine sm_b (l' := [(0, vr (some a0)), (1, vi a1)]) (st' := [vr (some a0)]) (pc' := 5) [(.aload_n 0, vi 0, 5)] (by decide +kernel) rfl rfl ?_
  refine sm_gd (fun h3 => ?_)
  refine sm_cv (N := mX14_look) (d' := d - 1) (fun r => (some (vi r))) (fun _ => y2) (fun _ => τ) [] [] rfl (by decide +kernel) q1233 q1235 qs35 (Or.inl ⟨rfl, q1236⟩) (show okN yX14_look 0 = true by decide +kernel) (fun H hR => hR.rv G.1 cd13 rfl h3) rfl rfl (by omega) rfl (fun Q' => jr_look_ok G (d - 1) (by omega) a0 y2 Q') (fun y4 => ?_)
  refine sm_b (l' := [(0, vr (some a0)), (1, vi a1)]) (st' := [vi a1, vi y4]) (pc' := 9) [(.iload_n 1, vi 0, 9)] (by decide +kernel) rfl rfl ?_
  refine sm_bind1 (fun (v9 : Int) => V g mX14_passes d 17 [(0, vr (some a0))] [vi v9] y2 τ Q) (fun v9 => ?_) (fun K10 j11 => ?_)
  · refine sm_b (l' := [(0, vr (some a0)), (2, vi v9)]) (st' := [vr (some a0), vr (some a0)]) (pc' := 20) [(.istore_n 2, vi 0, 18), (.aload_n 0, vi 0, 19), (.dup, vi 0, 20)] (by decide +kernel) rfl rfl ?_
    refine sm_g (k := 2) (x := vi (sI y2 210 a0)) cd13 rfl h3 rfl q1202 rfl (by decide +kernel) ?_
    refine sm_b (l' := [(0, vr (some a0)), (2, vi v9)]) (st' := [vi v9, vi (sI y2 210 a0), vr (some a0)]) (pc' := 24) [(.iload_n 2, vi 0, 24)] (by decide +kernel) rfl rfl ?_
    refine sm_bind1 (fun (v16 : Int) => V g mX14_passes d 32 [(2, vi v9)] [vi v16, vi (sI y2 210 a0), vr (some a0)] y2 τ Q) (fun v16 => ?_) (fun K17 j18 => ?_)
    · refine sm_b (l' := [(2, vi v9)]) (st' := [vi ((sI y2 210 a0) + v16), vr (some a0)]) (pc' := 33) [(.iadd, vi 0, 33)] (by decide +kernel) rfl rfl ?_
      refine sm_p (k := 2) (x := vi ((sI y2 210 a0) + v16)) cd13 rfl h3 rfl q1202 rfl (nar_i _) (fit_i _) rfl (at_pI y2 210 a0 ((sI y2 210 a0) + v16)) (fp_210 y2 a0 ((sI y2 210 a0) + v16)) (by decide +kernel) ?_
      refine sm_nms (fun σ20 => ?_)
      refine sm_b (l' := [(2, vi v9)]) (st' := [vi v9]) (pc' := 37) [(.iload_n 2, vi 0, 37)] (by decide +kernel) rfl rfl ?_
      refine sm_gd (fun h21 => ?_)
      exact sm_zret rfl (by decide +kernel) h21 (fun h => hRET _ h)
    · refine sm_gd (fun h13 => ?_)
      refine sm_case (V g mX14_passes d 31 [(0, vr (some a0)), (2, vi v9)] [vi (sI y2 210 a0), vr (some a0)] y2 τ Q) (V g mX14_passes d 27 [(0, vr (some a0)), (2, vi v9)] [vi (sI y2 210 a0), vr (some a0)] y2 τ Q) ?_ ?_ (fun f22 p23 n24 => ?_)
      · refine sm_b (l' := [(0, vr (some a0)), (2, vi v9)]) (st' := [vi 0, vi (sI y2 210 a0), vr (some a0)]) (pc' := 32) [(.iconst 0, vi 0, 32)] (by decide +kernel) rfl rfl ?_
        refine sm_pick [1] (l' := [(2, vi v9)]) rfl ?_
        exact sm_leaf (fun h => j18 _ h)
      · refine sm_b (l' := [(0, vr (some a0)), (2, vi v9)]) (st' := [vi 1, vi (sI y2 210 a0), vr (some a0)]) (pc' := 32) [(.iconst 1, vi 1, 28), (.goto 4, vi 0, 32)] (by decide +kernel) rfl rfl ?_
        refine sm_pick [1] (l' := [(2, vi v9)]) rfl ?_
        exact sm_leaf (fun h => j18 _ h)
      refine sm_if_eq (off := 7) (tgt := 31) h13 (by decide +kernel) (fun c25 => ?_) (fun c25 => ?_)
      · exact p23 c25
      · exact n24 c25
  · refine sm_gd (fun h5 => ?_)
    refine sm_gd (fun h6 => ?_)
    refine sm_case (V g mX14_passes d 12 [(0, vr (some a0)), (1, vi a1)] [] y2 τ Q) (V g mX14_passes d 16 [(0, vr (some a0)), (1, vi a1)] [] y2 τ Q) ?_ ?_ (fun f26 p27 n28 => ?_)
    · refine sm_b (l' := [(0, vr (some a0)), (1, vi a1)]) (st' := [vi 1]) (pc' := 17) [(.iconst 1, vi 1, 13), (.goto 4, vi 0, 17)] (by decide +kernel) rfl rfl ?_
      refine sm_pick [0] (l' := [(0, vr (some a0))]) rfl ?_
      exact sm_leaf (fun h => j11 _ h)
    · refine sm_b (l' := [(0, vr (some a0)), (1, vi a1)]) (st' := [vi 0]) (pc' := 17) [(.iconst 0, vi 0, 17)] (by decide +kernel) rfl rfl ?_
      refine sm_pick [0] (l' := [(0, vr (some a0))]) rfl ?_
      exact sm_leaf (fun h => j11 _ h)
    refine sm_icmp_ne (off := 7) (tgt := 16) h5 h6 (by decide +kernel) (fun c29 => ?_) (fun c29 => ?_)
    · exact n28 c29
    · exact p27 c29
