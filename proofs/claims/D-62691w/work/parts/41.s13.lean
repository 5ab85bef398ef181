set_option maxRecDepth 100000
/-! the system: X6_byName, X14_passesWord, X10_hasOther, X3_copy, X16_value, X16_read, X7_valueOf, X14_isNumberSign -/
def mt_byName_L55 (u1 : Option Nat) (u2 : Option Nat) (u3 : Int) (σ : ST) : Nat → Int → Option (Option Nat)
  | 0, _ => none
  | n + 1, w4 => gd (rg w4) (gd (rg u3) (if u3 ≤ w4 then (some none) else (Option.bind u2 fun p24 => gd (sc σ p24 = 103) (gd (ib w4 (sN σ p24)) (nm (sF σ p24 w4.toNat) fun x28 => Option.bind x28 fun p29 => gd (sc σ p29 = 9) (Option.bind (sR σ 129 p29) fun p32 => gd (sc σ p32 = 4) (Option.bind (r_same p32 u1 σ) fun y35 => gd (rg y35) (if y35 = 0 then (mt_byName_L55 u1 u2 u3 σ n (w4 + 1)) else (some x28)))))))))
def mt_byName_L11 (u0 : Nat) (u1 : Option Nat) (u2 : Option Nat) (u3 : Int) (σ : ST) : Nat → Int → Option ((Option Nat) ⊕ (Unit))
  | 0, _ => none
  | n + 1, w4 => gd (rg w4) (gd (rg u3) (if u3 ≤ w4 then (some (Sum.inr (()))) else (Option.bind u2 fun p55 => gd (sc σ p55 = 103) (gd (ib w4 (sN σ p55)) (nm (sF σ p55 w4.toNat) fun x59 => Option.bind x59 fun p60 => gd (sc σ p60 = 9) (Option.bind (sR σ 130 p60) fun p63 => gd (sc σ p63 = 4) (Option.bind (r_same p63 u1 σ) fun y66 => gd (rg y66) (if y66 = 0 then (mt_byName_L11 u0 u1 u2 u3 σ n (w4 + 1)) else (some (Sum.inl x59))))))))))
def mt_byName (a0 : Nat) (a1 : Option Nat) (σ : ST) : Option (Option Nat) := gd (sc σ a0 = 7) (nm (sR σ 103 a0) fun x2 => Option.bind x2 fun p3 => gd (sc σ p3 = 103) (nm (((sN σ p3 : Nat) : Int)) fun x6 => Option.bind (mt_byName_L11 a0 a1 x2 x6 σ FU 0) (Sum.elim some fun (v7 : Unit) => nm (sR σ 103 a0) fun x11 => Option.bind x11 fun p12 => gd (sc σ p12 = 103) (nm (((sN σ p12 : Nat) : Int)) fun x15 => mt_byName_L55 a1 x11 x15 σ FU 0))))
set_option maxHeartbeats 4000000 in
theorem mt_byName_L55_ok {g : GE} (G : GG g) {τ : TT} {Q : VQ} (d : Nat) (hd1 : 3 ≤ d) (u1 : Option Nat) (u2 : Option Nat) (u3 : Int) (σ : ST)  {K : Option Nat → Prop} (hRET : ∀ r : Option Nat, K (r) → Q.1 (some (vr r)) σ τ) : ∀ (n : Nat) (w4 : Int), Sm (V g mX6_byName d 55 [(1, vr u1), (2, vr u2), (3, vi u3), (4, vi w4)] [] σ τ Q) (mt_byName_L55 u1 u2 u3 σ n w4) K := by
  intro n
  induction n with
  | zero => intro w4; exact sm_none
  | succ n ih =>
    intro w4
    rw [mt_byName_L55.eq_2]
    refine sm_b (l' := [(1, vr u1), (2, vr u2), (3, vi u3), (4, vi w4)]) (st' := [vi u3, vi w4]) (pc' := 58) [(.iload 4, vi 0, 57), (.iload_n 3, vi 0, 58)] (by decide +kernel) rfl rfl ?_
    refine sm_gd (fun h16 => ?_)
    refine sm_gd (fun h17 => ?_)
    refine sm_case (V g mX6_byName d 88 [(1, vr u1), (2, vr u2), (3, vi u3), (4, vi w4)] [] σ τ Q) (V g mX6_byName d 61 [(1, vr u1), (2, vr u2), (3, vi u3), (4, vi w4)] [] σ τ Q) ?_ ?_ (fun f43 p44 n45 => ?_)
    · refine sm_b (l' := [(1, vr u1), (2, vr u2), (3, vi u3), (4, vi w4)]) (st' := [vr none]) (pc' := 89) [(.aconst_null, vi 0, 89)] (by decide +kernel) rfl rfl ?_
      exact sm_aret rfl rfl (by decide +kernel) (fun h => hRET _ h)
    · refine sm_b (l' := [(1, vr u1), (2, vr u2), (3, vi u3), (4, vi w4)]) (st' := [vi w4, vr u2]) (pc' := 64) [(.aload_n 2, vi 0, 62), (.iload 4, vi 0, 64)] (by decide +kernel) rfl rfl ?_
      refine sm_de (fun p24 h25 => ?_)
      refine sm_st [vi w4, vr (some p24)] (by rw [h25] <;> rfl) ?_
      refine sm_gd (fun h26 => ?_)
      refine sm_gd (fun h27 => ?_)
      refine sm_fl h26 h27 (by decide +kernel) ?_
      refine sm_nmr (fun x28 => ?_)
      refine sm_b (l' := [(1, vr u1), (2, vr u2), (3, vi u3), (4, vi w4), (5, vr x28)]) (st' := [vr x28]) (pc' := 69) [(.astore 5, vi 0, 67), (.aload 5, vi 0, 69)] (by decide +kernel) rfl rfl ?_
      refine sm_de (fun p29 h30 => ?_)
      refine sm_st [vr (some p29)] (by rw [h30] <;> rfl) ?_
      refine sm_gd (fun h31 => ?_)
      refine sm_gN (k := 1) (x := vr (sR σ 129 p29)) cd8 rfl h31 rfl q718 rfl (by decide +kernel) ?_
      refine sm_b (l' := [(1, vr u1), (2, vr u2), (3, vi u3), (4, vi w4), (5, vr x28)]) (st' := [vr u1, vr (sR σ 129 p29)]) (pc' := 73) [(.aload_n 1, vi 0, 73)] (by decide +kernel) rfl rfl ?_
      refine sm_de (fun p32 h33 => ?_)
      refine sm_st [vr u1, vr (some p32)] (by rw [h33] <;> rfl) ?_
      refine sm_gd (fun h34 => ?_)
      refine sm_cv (N := mX3_same) (d' := d - 1) (fun r => (some (vi r))) (fun _ => σ) (fun _ => τ) [vr u1] [] rfl (by decide +kernel) q1282 q838 q839 (Or.inl ⟨rfl, q840⟩) (show okN yX3_same 1 = true by decide +kernel) (fun H hR => hR.rvR G.1 h34) rfl rfl (by omega) rfl (fun Q' => r_same_ok G (d - 1) (by omega) p32 u1 σ Q') (fun y35 => ?_)
      refine sm_gd (fun h36 => ?_)
      refine sm_case (V g mX6_byName d 82 [(1, vr u1), (2, vr u2), (3, vi u3), (4, vi w4), (5, vr x28)] [] σ τ Q) (V g mX6_byName d 79 [(1, vr u1), (2, vr u2), (3, vi u3), (4, vi w4), (5, vr x28)] [] σ τ Q) ?_ ?_ (fun f39 p40 n41 => ?_)
      · refine sm_b (l' := [(1, vr u1), (2, vr u2), (3, vi u3), (4, vi (w4 + 1)), (5, vr x28)]) (st' := []) (pc' := 55) [(.iinc 4 1, vi 1, 85), (.goto (-30), vi 0, 55)] (by decide +kernel) rfl rfl ?_
        refine sm_pick [0, 1, 2, 3] (l' := [(1, vr u1), (2, vr u2), (3, vi u3), (4, vi (w4 + 1))]) rfl ?_
        exact ih (w4 + 1)
      · refine sm_b (l' := [(1, vr u1), (2, vr u2), (3, vi u3), (4, vi w4), (5, vr x28)]) (st' := [vr x28]) (pc' := 81) [(.aload 5, vi 0, 81)] (by decide +kernel) rfl rfl ?_
        exact sm_aret rfl rfl (by decide +kernel) (fun h => hRET _ h)
      refine sm_if_eq (off := 6) (tgt := 82) h36 (by decide +kernel) (fun c42 => ?_) (fun c42 => ?_)
      · exact p40 c42
      · exact n41 c42
    refine sm_icmp_ge (off := 30) (tgt := 88) h16 h17 (by decide +kernel) (fun c46 => ?_) (fun c46 => ?_)
    · exact p44 c46
    · exact n45 c46
set_option maxHeartbeats 4000000 in
theorem mt_byName_L11_ok {g : GE} (G : GG g) {τ : TT} {Q : VQ} (d : Nat) (hd1 : 3 ≤ d) (u0 : Nat) (u1 : Option Nat) (u2 : Option Nat) (u3 : Int) (σ : ST)  {K : (Option Nat) ⊕ (Unit) → Prop} (hRET : ∀ r : Option Nat, K (Sum.inl r) → Q.1 (some (vr r)) σ τ) (hE44 : ∀ v47 : Unit, K (Sum.inr v47) → V g mX6_byName d 44 [(0, vr (some u0)), (1, vr u1)] [] σ τ Q) : ∀ (n : Nat) (w4 : Int), Sm (V g mX6_byName d 11 [(0, vr (some u0)), (1, vr u1), (2, vr u2), (3, vi u3), (4, vi w4)] [] σ τ Q) (mt_byName_L11 u0 u1 u2 u3 σ n w4) K := by
  intro n
  induction n with
  | zero => intro w4; exact sm_none
  | succ n ih =>
    intro w4
    rw [mt_byName_L11.eq_2]
    refine sm_b (l' := [(0, vr (some u0)), (1, vr u1), (2, vr u2), (3, vi u3), (4, vi w4)]) (st' := [vi u3, vi w4]) (pc' := 14) [(.iload 4, vi 0, 13), (.iload_n 3, vi 0, 14)] (by decide +kernel) rfl rfl ?_
    refine sm_gd (fun h48 => ?_)
    refine sm_gd (fun h49 => ?_)
    refine sm_case (V g mX6_byName d 44 [(0, vr (some u0)), (1, vr u1), (2, vr u2), (3, vi u3), (4, vi w4)] [] σ τ Q) (V g mX6_byName d 17 [(0, vr (some u0)), (1, vr u1), (2, vr u2), (3, vi u3), (4, vi w4)] [] σ τ Q) ?_ ?_ (fun f74 p75 n76 => ?_)
    · refine sm_pick [0, 1] (l' := [(0, vr (some u0)), (1, vr u1)]) rfl ?_
      exact sm_leaf (fun h => hE44 _ h)
    · refine sm_b (l' := [(0, vr (some u0)), (1, vr u1), (2, vr u2), (3, vi u3), (4, vi w4)]) (st' := [vi w4, vr u2]) (pc' := 20) [(.aload_n 2, vi 0, 18), (.iload 4, vi 0, 20)] (by decide +kernel) rfl rfl ?_
      refine sm_de (fun p55 h56 => ?_)
      refine sm_st [vi w4, vr (some p55)] (by rw [h56] <;> rfl) ?_
      refine sm_gd (fun h57 => ?_)
      refine sm_gd (fun h58 => ?_)
      refine sm_fl h57 h58 (by decide +kernel) ?_
      refine sm_nmr (fun x59 => ?_)
      refine sm_b (l' := [(0, vr (some u0)), (1, vr u1), (2, vr u2), (3, vi u3), (4, vi w4), (5, vr x59)]) (st' := [vr x59]) (pc' := 25) [(.astore 5, vi 0, 23), (.aload 5, vi 0, 25)] (by decide +kernel) rfl rfl ?_
      refine sm_de (fun p60 h61 => ?_)
      refine sm_st [vr (some p60)] (by rw [h61] <;> rfl) ?_
      refine sm_gd (fun h62 => ?_)
      refine sm_gN (k := 2) (x := vr (sR σ 130 p60)) cd8 rfl h62 rfl q721 rfl (by decide +kernel) ?_
      refine sm_b (l' := [(0, vr (some u0)), (1, vr u1), (2, vr u2), (3, vi u3), (4, vi w4), (5, vr x59)]) (st' := [vr u1, vr (sR σ 130 p60)]) (pc' := 29) [(.aload_n 1, vi 0, 29)] (by decide +kernel) rfl rfl ?_
      refine sm_de (fun p63 h64 => ?_)
      refine sm_st [vr u1, vr (some p63)] (by rw [h64] <;> rfl) ?_
      refine sm_gd (fun h65 => ?_)
      refine sm_cv (N := mX3_same) (d' := d - 1) (fun r => (some (vi r))) (fun _ => σ) (fun _ => τ) [vr u1] [] rfl (by decide +kernel) q1282 q838 q839 (Or.inl ⟨rfl, q840⟩) (show okN yX3_same 1 = true by decide +kernel) (fun H hR => hR.rvR G.1 h65) rfl rfl (by omega) rfl (fun Q' => r_same_ok G (d - 1) (by omega) p63 u1 σ Q') (fun y66 => ?_)
      refine sm_gd (fun h67 => ?_)
      refine sm_case (V g mX6_byName d 38 [(0, vr (some u0)), (1, vr u1), (2, vr u2), (3, vi u3), (4, vi w4), (5, vr x59)] [] σ τ Q) (V g mX6_byName d 35 [(0, vr (some u0)), (1, vr u1), (2, vr u2), (3, vi u3), (4, vi w4), (5, vr x59)] [] σ τ Q) ?_ ?_ (fun f70 p71 n72 => ?_)
      · refine sm_b (l' := [(0, vr (some u0)), (1, vr u1), (2, vr u2), (3, vi u3), (4, vi (w4 + 1)), (5, vr x59)]) (st' := []) (pc' := 11) [(.iinc 4 1, vi 1, 41), (.goto (-30), vi 0, 11)] (by decide +kernel) rfl rfl ?_
        refine sm_pick [0, 1, 2, 3, 4] (l' := [(0, vr (some u0)), (1, vr u1), (2, vr u2), (3, vi u3), (4, vi (w4 + 1))]) rfl ?_
        exact ih (w4 + 1)
      · refine sm_b (l' := [(0, vr (some u0)), (1, vr u1), (2, vr u2), (3, vi u3), (4, vi w4), (5, vr x59)]) (st' := [vr x59]) (pc' := 37) [(.aload 5, vi 0, 37)] (by decide +kernel) rfl rfl ?_
        exact sm_aret rfl rfl (by decide +kernel) (fun h => hRET _ h)
      refine sm_if_eq (off := 6) (tgt := 38) h67 (by decide +kernel) (fun c73 => ?_) (fun c73 => ?_)
      · exact p71 c73
      · exact n72 c73
    refine sm_icmp_ge (off := 30) (tgt := 44) h48 h49 (by decide +kernel) (fun c77 => ?_) (fun c77 => ?_)
    · exact p75 c77
    · exact n76 c77
set_option maxHeartbeats 4000000 in
theorem mt_byName_ok {g : GE} (G : GG g) {τ : TT} (d : Nat) (hd1 : 3 ≤ d) (a0 : Nat) (a1 : Option Nat)  (σ : ST) (Q : VQ) : Sm (V g mX6_byName d 0 [(0, vr (some a0)), (1, vr a1)] [] σ τ Q) (mt_byName a0 a1 σ) (fun r => Q.1 (some (vr r)) σ τ) := by
  unfold mt_byName
  refine sm_top (fun K hRET => ?_)
  refine sm_b (l' := [(0, vr (some a0)), (1, vr a1)]) (st' := [vr (some a0)]) (pc' := 1) [(.aload_n 0, vi 0, 1)] (by decide +kernel) rfl rfl ?_
  refine sm_gd (fun h1 => ?_)
  refine sm_g (k := 7) (x := vr (sR σ 103 a0)) cd6 rfl h1 rfl q571 rfl (by decide +kernel) ?_
  refine sm_nmr (fun x2 => ?_)
  refine sm_b (l' := [(0, vr (some a0)), (1, vr a1), (2, vr x2)]) (st' := [vr x2]) (pc' := 6) [(.astore_n 2, vi 0, 5), (.aload_n 2, vi 0, 6)] (by decide +kernel) rfl rfl ?_
  refine sm_de (fun p3 h4 => ?_)
  refine sm_st [vr (some p3)] (by rw [h4] <;> rfl) ?_
  refine sm_gd (fun h5 => ?_)
  refine sm_alF h5 (by decide +kernel) ?_
  refine sm_nmi (fun x6 => ?_)
  refine sm_b (l' := [(0, vr (some a0)), (1, vr a1), (2, vr x2), (3, vi x6), (4, vi 0)]) (st' := []) (pc' := 11) [(.istore_n 3, vi 0, 8), (.iconst 0, vi 0, 9), (.istore 4, vi 0, 11)] (by decide +kernel) rfl rfl ?_
  refine sm_bindS (fun (v7 : Unit) => V g mX6_byName d 44 [(0, vr (some a0)), (1, vr a1)] [] σ τ Q) (fun v7 => ?_) (fun K8 o10 j9 => ?_)
  · refine sm_b (l' := [(0, vr (some a0)), (1, vr a1)]) (st' := [vr (some a0)]) (pc' := 45) [(.aload_n 0, vi 0, 45)] (by decide +kernel) rfl rfl ?_
    refine sm_g (k := 7) (x := vr (sR σ 103 a0)) cd6 rfl h1 rfl q571 rfl (by decide +kernel) ?_
    refine sm_nmr (fun x11 => ?_)
    refine sm_b (l' := [(0, vr (some a0)), (1, vr a1), (2, vr x11)]) (st' := [vr x11]) (pc' := 50) [(.astore_n 2, vi 0, 49), (.aload_n 2, vi 0, 50)] (by decide +kernel) rfl rfl ?_
    refine sm_de (fun p12 h13 => ?_)
    refine sm_st [vr (some p12)] (by rw [h13] <;> rfl) ?_
    refine sm_gd (fun h14 => ?_)
    refine sm_alF h14 (by decide +kernel) ?_
    refine sm_nmi (fun x15 => ?_)
    refine sm_b (l' := [(0, vr (some a0)), (1, vr a1), (2, vr x11), (3, vi x15), (4, vi 0)]) (st' := []) (pc' := 55) [(.istore_n 3, vi 0, 52), (.iconst 0, vi 0, 53), (.istore 4, vi 0, 55)] (by decide +kernel) rfl rfl ?_
    refine sm_pick [1, 2, 3, 4] (l' := [(1, vr a1), (2, vr x11), (3, vi x15), (4, vi 0)]) rfl ?_
    exact mt_byName_L55_ok G d hd1 a1 x11 x15 σ  (fun r h => hRET _ h) FU 0
  · exact mt_byName_L11_ok G d hd1 a0 a1 x2 x6 σ  (fun r h => hRET _ (o10 _ h)) (fun _ h => j9 _ h) FU 0
def jr_passesWord_L6 (bb : Nat × Nat) (u0 : Nat) (u1 : Nat) (σ : ST) : Nat → Int → Option ((Int × ST) ⊕ (Unit))
  | 0, _ => none
  | n + 1, w2 => gd (rg w2) (if (((slen u1 : Nat) : Int)) ≤ w2 then (some (Sum.inr (()))) else (gd (sc σ u0 = 14) (gd (rg ((sI σ 210 u0) + w2)) (gd (rg (sI σ 209 u0)) (gd (¬ ((sI σ 209 u0) ≤ ((sI σ 210 u0) + w2)) → ¬ (sR σ 208 u0) = none) (gd (¬ ((sI σ 209 u0) ≤ ((sI σ 210 u0) + w2)) → sc σ (ad (sR σ 208 u0)) = 101) (gd (¬ ((sI σ 209 u0) ≤ ((sI σ 210 u0) + w2)) → ib ((sI σ 210 u0) + w2) (sN σ (ad (sR σ 208 u0)))) (gd (¬ ((sI σ 209 u0) ≤ ((sI σ 210 u0) + w2)) → ib w2 (slen u1)) (if ((sI σ 209 u0) ≤ ((sI σ 210 u0) + w2)) ∨ (¬ ((sbI (sB σ (ad (sR σ 208 u0)) ((sI σ 210 u0) + w2).toNat)) = (((sch u1 w2.toNat : Nat) : Int)))) then (some (Sum.inl ((0, σ)))) else (jr_passesWord_L6 bb u0 u1 σ n (w2 + 1)))))))))))
def jr_passesWord (bb : Nat × Nat) (a0 : Nat) (a1 : Nat) (σ : ST) : Option (Int × ST) := gd (sc σ a0 = 14) (Option.bind (jr_blanks bb a0 σ) fun y2 => Option.bind (jr_passesWord_L6 bb a0 a1 y2 FU 0) (Sum.elim some fun (v3 : Unit) => gd (sc y2 a0 = 14) (nm (pI y2 210 a0 ((sI y2 210 a0) + (((slen a1 : Nat) : Int)))) fun σ8 => some ((1, σ8)))))
set_option maxHeartbeats 4000000 in
theorem jr_passesWord_L6_ok {g : GE} (G : GG g) {τ : TT} {Q : VQ} (d : Nat) (hd1 : 6 ≤ d) (u0 : Nat) (u1 : Nat) (σ : ST)  {K : (Int × ST) ⊕ (Unit) → Prop} (hRET : ∀ r : Int × ST, K (Sum.inl r) → Q.1 (some (vi r.1)) r.2 τ) (hE54 : ∀ v9 : Unit, K (Sum.inr v9) → V g mX14_passesWord d 54 [(0, vr (some u0)), (1, vr (some (gK g u1)))] [] σ τ Q) : ∀ (n : Nat) (w2 : Int), Sm (V g mX14_passesWord d 6 [(0, vr (some u0)), (1, vr (some (gK g u1))), (2, vi w2)] [] σ τ Q) (jr_passesWord_L6 (gRm g) u0 u1 σ n w2) K := by
  intro n
  induction n with
  | zero => intro w2; exact sm_none
  | succ n ih =>
    intro w2
    rw [jr_passesWord_L6.eq_2]
    refine sm_b (l' := [(0, vr (some u0)), (1, vr (some (gK g u1))), (2, vi w2)]) (st' := [vr (some (gK g u1)), vi w2]) (pc' := 8) [(.iload_n 2, vi 0, 7), (.aload_n 1, vi 0, 8)] (by decide +kernel) rfl rfl ?_
    refine sm_slen (k := u1) G [vi w2] rfl (by decide +kernel) q1288 (by omega) rfl ?_
    refine sm_gd (fun h10 => ?_)
    refine sm_case (V g mX14_passesWord d 54 [(0, vr (some u0)), (1, vr (some (gK g u1))), (2, vi w2)] [] σ τ Q) (V g mX14_passesWord d 14 [(0, vr (some u0)), (1, vr (some (gK g u1))), (2, vi w2)] [] σ τ Q) ?_ ?_ (fun f31 p32 n33 => ?_)
    · refine sm_pick [0, 1] (l' := [(0, vr (some u0)), (1, vr (some (gK g u1)))]) rfl ?_
      exact sm_leaf (fun h => hE54 _ h)
    · refine sm_b (l' := [(0, vr (some u0)), (1, vr (some (gK g u1))), (2, vi w2)]) (st' := [vr (some u0)]) (pc' := 15) [(.aload_n 0, vi 0, 15)] (by decide +kernel) rfl rfl ?_
      refine sm_gd (fun h15 => ?_)
      refine sm_g (k := 2) (x := vi (sI σ 210 u0)) cd13 rfl h15 rfl q1202 rfl (by decide +kernel) ?_
      refine sm_b (l' := [(0, vr (some u0)), (1, vr (some (gK g u1))), (2, vi w2)]) (st' := [vr (some u0), vi ((sI σ 210 u0) + w2)]) (pc' := 21) [(.iload_n 2, vi 0, 19), (.iadd, vi 0, 20), (.aload_n 0, vi 0, 21)] (by decide +kernel) rfl rfl ?_
      refine sm_g (k := 1) (x := vi (sI σ 209 u0)) cd13 rfl h15 rfl q1201 rfl (by decide +kernel) ?_
      refine sm_gd (fun h16 => ?_)
      refine sm_gd (fun h17 => ?_)
      refine sm_gd (fun h19 => ?_)
      refine sm_gd (fun h21 => ?_)
      refine sm_gd (fun h22 => ?_)
      refine sm_gd (fun h23 => ?_)
      refine sm_case (V g mX14_passesWord d 46 [(0, vr (some u0)), (1, vr (some (gK g u1))), (2, vi w2)] [] σ τ Q) (V g mX14_passesWord d 48 [(0, vr (some u0)), (1, vr (some (gK g u1))), (2, vi w2)] [] σ τ Q) ?_ ?_ (fun f26 p27 n28 => ?_)
      · refine sm_b (l' := [(0, vr (some u0)), (1, vr (some (gK g u1))), (2, vi w2)]) (st' := [vi 0]) (pc' := 47) [(.iconst 0, vi 0, 47)] (by decide +kernel) rfl rfl ?_
        exact sm_zret rfl (by decide +kernel) (by decide) (fun h => hRET _ h)
      · refine sm_b (l' := [(0, vr (some u0)), (1, vr (some (gK g u1))), (2, vi (w2 + 1))]) (st' := []) (pc' := 6) [(.iinc 2 1, vi 1, 51), (.goto (-45), vi 0, 6)] (by decide +kernel) rfl rfl ?_
        exact ih (w2 + 1)
      refine sm_icmp_ge (off := 22) (tgt := 46) h16 h17 (by decide +kernel) (fun c29 => ?_) (fun c29 => ?_)
      · exact p27 (Or.inl c29)
      · have w18 : ¬ ((sI σ 209 u0) ≤ ((sI σ 210 u0) + w2)) := c29
        refine sm_b (l' := [(0, vr (some u0)), (1, vr (some (gK g u1))), (2, vi w2)]) (st' := [vr (some u0)]) (pc' := 28) [(.aload_n 0, vi 0, 28)] (by decide +kernel) rfl rfl ?_
        refine sm_g (k := 0) (x := vr (sR σ 208 u0)) cd13 rfl h15 rfl q1200 rfl (by decide +kernel) ?_
        refine sm_b (l' := [(0, vr (some u0)), (1, vr (some (gK g u1))), (2, vi w2)]) (st' := [vr (some u0), vr (sR σ 208 u0)]) (pc' := 32) [(.aload_n 0, vi 0, 32)] (by decide +kernel) rfl rfl ?_
        refine sm_g (k := 2) (x := vi (sI σ 210 u0)) cd13 rfl h15 rfl q1202 rfl (by decide +kernel) ?_
        refine sm_b (l' := [(0, vr (some u0)), (1, vr (some (gK g u1))), (2, vi w2)]) (st' := [vi ((sI σ 210 u0) + w2), vr (sR σ 208 u0)]) (pc' := 37) [(.iload_n 2, vi 0, 36), (.iadd, vi 0, 37)] (by decide +kernel) rfl rfl ?_
        have q20 := (ad_some (h19 w18))
        refine sm_st [vi ((sI σ 210 u0) + w2), vr (some (ad (sR σ 208 u0)))] (congrArg (fun z => [vi ((sI σ 210 u0) + w2), vr z]) q20) ?_
        refine sm_bl (h21 w18) (h22 w18) (by decide +kernel) ?_
        refine sm_b (l' := [(0, vr (some u0)), (1, vr (some (gK g u1))), (2, vi w2)]) (st' := [vi w2, vr (some (gK g u1)), vi (sbI (sB σ (ad (sR σ 208 u0)) ((sI σ 210 u0) + w2).toNat))]) (pc' := 40) [(.aload_n 1, vi 0, 39), (.iload_n 2, vi 0, 40)] (by decide +kernel) rfl rfl ?_
        refine sm_scha (k := u1) G [vi (sbI (sB σ (ad (sR σ 208 u0)) ((sI σ 210 u0) + w2).toNat))] rfl (by decide +kernel) q1289 (h23 w18) (by omega) rfl ?_
        refine sm_icmp_eq (off := 5) (tgt := 48) (sbI_rg _) (sch_rg _ _) (by decide +kernel) (fun c30 => ?_) (fun c30 => ?_)
        · exact n28 (fun q => q.elim c29 (fun q => q c30))
        · exact p27 (Or.inr c30)
    refine sm_icmp_ge (off := 43) (tgt := 54) h10 (slen_rg _) (by decide +kernel) (fun c34 => ?_) (fun c34 => ?_)
    · exact p32 c34
    · exact n33 c34
set_option maxHeartbeats 4000000 in
theorem jr_passesWord_ok {g : GE} (G : GG g) {τ : TT} (d : Nat) (hd1 : 6 ≤ d) (a0 : Nat) (a1 : Nat)  (σ : ST) (Q : VQ) : Sm (V g mX14_passesWord d 0 [(0, vr (some a0)), (1, vr (some (gK g a1)))] [] σ τ Q) (jr_passesWord (gRm g) a0 a1 σ) (fun r => Q.1 (some (vi r.1)) r.2 τ) := by
  unfold jr_passesWord
  refine sm_top (fun K hRET => ?_)
  refine sm_b (l' := [(0, vr (some a0)), (1, vr (some (gK g a1)))]) (st' := [vr (some a0)]) (pc' := 1) [(.aload_n 0, vi 0, 1)] (by decide +kernel) rfl rfl ?_
  refine sm_gd (fun h1 => ?_)
  refine sm_cv (N := mX14_blanks) (d' := d - 1) (fun r => none) (fun r => r) (fun _ => τ) [] [] rfl (by decide +kernel) q1229 q1231 qs34 (Or.inl ⟨rfl, q1232⟩) (show okN yX14_blanks 0 = true by decide +kernel) (fun H hR => hR.rv G.1 cd13 rfl h1) rfl rfl (by omega) rfl (fun Q' => jr_blanks_ok G (d - 1) (by omega) a0 σ Q') (fun y2 => ?_)
  refine sm_b (l' := [(0, vr (some a0)), (1, vr (some (gK g a1))), (2, vi 0)]) (st' := []) (pc' := 6) [(.iconst 0, vi 0, 5), (.istore_n 2, vi 0, 6)] (by decide +kernel) rfl rfl ?_
  refine sm_bindS (fun (v3 : Unit) => V g mX14_passesWord d 54 [(0, vr (some a0)), (1, vr (some (gK g a1)))] [] y2 τ Q) (fun v3 => ?_) (fun K4 o6 j5 => ?_)
  · refine sm_b (l' := [(0, vr (some a0)), (1, vr (some (gK g a1)))]) (st' := [vr (some a0), vr (some a0)]) (pc' := 56) [(.aload_n 0, vi 0, 55), (.dup, vi 0, 56)] (by decide +kernel) rfl rfl ?_
    refine sm_gd (fun h7 => ?_)
    refine sm_g (k := 2) (x := vi (sI y2 210 a0)) cd13 rfl h7 rfl q1202 rfl (by decide +kernel) ?_
    refine sm_b (l' := [(0, vr (some a0)), (1, vr (some (gK g a1)))]) (st' := [vr (some (gK g a1)), vi (sI y2 210 a0), vr (some a0)]) (pc' := 60) [(.aload_n 1, vi 0, 60)] (by decide +kernel) rfl rfl ?_
    refine sm_slen (k := a1) G [vi (sI y2 210 a0), vr (some a0)] rfl (by decide +kernel) q1288 (by omega) rfl ?_
    refine sm_b (l' := [(0, vr (some a0)), (1, vr (some (gK g a1)))]) (st' := [vi ((sI y2 210 a0) + (((slen a1 : Nat) : Int))), vr (some a0)]) (pc' := 64) [(.iadd, vi 0, 64)] (by decide +kernel) rfl rfl ?_
    refine sm_p (k := 2) (x := vi ((sI y2 210 a0) + (((slen a1 : Nat) : Int)))) cd13 rfl h7 rfl q1202 rfl (nar_i _) (fit_i _) rfl (at_pI y2 210 a0 ((sI y2 210 a0) + (((slen a1 : Nat) : Int)))) (fp_210 y2 a0 ((sI y2 210 a0) + (((slen a1 : Nat) : Int)))) (by decide +kernel) ?_
    refine sm_nms (fun σ8 => ?_)
    refine sm_b (l' := [(0, vr (some a0)), (1, vr (some (gK g a1)))]) (st' := [vi 1]) (pc' := 68) [(.iconst 1, vi 1, 68)] (by decide +kernel) rfl rfl ?_
    exact sm_zret rfl (by decide +kernel) (by decide) (fun h => hRET _ h)
  · exact jr_passesWord_L6_ok G d hd1 a0 a1 y2  (fun r h => hRET _ (o6 _ h)) (fun _ h => j5 _ h) FU 0
def vlu_hasOther_L7 (u1 : Option Nat) (σ : ST) : Nat → Int → Option Nat → Option (Int)
  | 0, _, _ => none
  | n + 1, w2, w3 => if w3 = none then (gd (zb w2) (some w2)) else (Option.bind (gd (rg w2) (if w2 = 0 then (Option.bind u1 fun p21 => gd (sc σ p21 = 9) (gd (rg (sI σ 133 p21)) (gd (¬ ((sI σ 133 p21) < 0) → ¬ w3 = none) (gd (¬ ((sI σ 133 p21) < 0) → sc σ (ad w3) = 13) (gd (¬ (((sI σ 133 p21) < 0) ∨ ((sR σ 192 (ad w3)) = u1)) → ¬ w3 = none) (gd (¬ (((sI σ 133 p21) < 0) ∨ ((sR σ 192 (ad w3)) = u1)) → sc σ (ad w3) = 13) (gd (¬ (((sI σ 133 p21) < 0) ∨ ((sR σ 192 (ad w3)) = u1)) → ¬ (sR σ 192 (ad w3)) = none) (gd (¬ (((sI σ 133 p21) < 0) ∨ ((sR σ 192 (ad w3)) = u1)) → sc σ (ad (sR σ 192 (ad w3))) = 9) (gd (¬ (((sI σ 133 p21) < 0) ∨ ((sR σ 192 (ad w3)) = u1)) → rg (sI σ 133 (ad (sR σ 192 (ad w3))))) (if (((sI σ 133 p21) < 0) ∨ ((sR σ 192 (ad w3)) = u1)) ∨ (¬ ((sI σ 133 (ad (sR σ 192 (ad w3)))) = (sI σ 133 p21))) then (some 0) else (some 1))))))))))) else (some 1))) fun (v13 : Int) => Option.bind w3 fun p17 => gd (sc σ p17 = 13) (nm (sR σ 196 p17) fun x20 => vlu_hasOther_L7 u1 σ n v13 x20))
def vlu_hasOther (a0 : Nat) (a1 : Option Nat) (σ : ST) : Option (Int) := gd (sc σ a0 = 11) (nm (sR σ 161 a0) fun x2 => vlu_hasOther_L7 a1 σ FU 0 x2)
set_option maxHeartbeats 4000000 in
theorem vlu_hasOther_L7_ok {g : GE} (G : GG g) {τ : TT} {Q : VQ} (d : Nat) (hd1 : 0 ≤ d) (u1 : Option Nat) (σ : ST)  {K : Int → Prop} (hRET : ∀ r : Int, K (r) → Q.1 (some (vi r)) σ τ) : ∀ (n : Nat) (w2 : Int) (w3 : Option Nat), Sm (V g mX10_hasOther d 7 [(1, vr u1), (2, vi w2), (3, vr w3)] [] σ τ Q) (vlu_hasOther_L7 u1 σ n w2 w3) K := by
  intro n
  induction n with
  | zero => intro w2 w3; exact sm_none
  | succ n ih =>
    intro w2 w3
    rw [vlu_hasOther_L7.eq_2]
    refine sm_b (l' := [(1, vr u1), (2, vi w2), (3, vr w3)]) (st' := [vr w3]) (pc' := 8) [(.aload_n 3, vi 0, 8)] (by decide +kernel) rfl rfl ?_
    refine sm_case (V g mX10_hasOther d 58 [(1, vr u1), (2, vi w2), (3, vr w3)] [] σ τ Q) (V g mX10_hasOther d 11 [(1, vr u1), (2, vi w2), (3, vr w3)] [] σ τ Q) ?_ ?_ (fun f48 p49 n50 => ?_)
    · refine sm_b (l' := [(1, vr u1), (2, vi w2), (3, vr w3)]) (st' := [vi w2]) (pc' := 59) [(.iload_n 2, vi 0, 59)] (by decide +kernel) rfl rfl ?_
      refine sm_gd (fun h6 => ?_)
      exact sm_zret rfl (by decide +kernel) h6 (fun h => hRET _ h)
    · refine sm_b (l' := [(1, vr u1), (2, vi w2), (3, vr w3)]) (st' := [vi w2]) (pc' := 12) [(.iload_n 2, vi 0, 12)] (by decide +kernel) rfl rfl ?_
      refine sm_bind1 (fun (v13 : Int) => V g mX10_hasOther d 49 [(1, vr u1), (3, vr w3)] [vi v13] σ τ Q) (fun v13 => ?_) (fun K14 j15 => ?_)
      · refine sm_b (l' := [(1, vr u1), (3, vr w3), (2, vi v13)]) (st' := [vr w3]) (pc' := 51) [(.istore_n 2, vi 0, 50), (.aload_n 3, vi 0, 51)] (by decide +kernel) rfl rfl ?_
        refine sm_de (fun p17 h18 => ?_)
        refine sm_st [vr (some p17)] (by rw [h18] <;> rfl) ?_
        refine sm_gd (fun h19 => ?_)
        refine sm_gN (k := 4) (x := vr (sR σ 196 p17)) cd12 rfl h19 rfl q1036 rfl (by decide +kernel) ?_
        refine sm_nmr (fun x20 => ?_)
        refine sm_b (l' := [(1, vr u1), (3, vr x20), (2, vi v13)]) (st' := []) (pc' := 7) [(.astore_n 3, vi 0, 55), (.goto (-48), vi 0, 7)] (by decide +kernel) rfl rfl ?_
        refine sm_pick [0, 2, 1] (l' := [(1, vr u1), (2, vi v13), (3, vr x20)]) rfl ?_
        exact ih v13 x20
      · refine sm_gd (fun h7 => ?_)
        refine sm_case (V g mX10_hasOther d 15 [(1, vr u1), (2, vi w2), (3, vr w3)] [] σ τ Q) (V g mX10_hasOther d 44 [(1, vr u1), (2, vi w2), (3, vr w3)] [] σ τ Q) ?_ ?_ (fun f44 p45 n46 => ?_)
        · refine sm_b (l' := [(1, vr u1), (2, vi w2), (3, vr w3)]) (st' := [vr u1]) (pc' := 16) [(.aload_n 1, vi 0, 16)] (by decide +kernel) rfl rfl ?_
          refine sm_de (fun p21 h22 => ?_)
          refine sm_st [vr (some p21)] (by rw [h22] <;> rfl) ?_
          refine sm_gd (fun h23 => ?_)
          refine sm_gN (k := 5) (x := vi (sI σ 133 p21)) cd8 rfl h23 rfl q738 rfl (by decide +kernel) ?_
          refine sm_gd (fun h24 => ?_)
          refine sm_gd (fun h26 => ?_)
          refine sm_gd (fun h28 => ?_)
          refine sm_gd (fun h30 => ?_)
          refine sm_gd (fun h32 => ?_)
          refine sm_gd (fun h33 => ?_)
          refine sm_gd (fun h35 => ?_)
          refine sm_gd (fun h36 => ?_)
          refine sm_case (V g mX10_hasOther d 48 [(1, vr u1), (2, vi w2), (3, vr w3)] [] σ τ Q) (V g mX10_hasOther d 44 [(1, vr u1), (2, vi w2), (3, vr w3)] [] σ τ Q) ?_ ?_ (fun f38 p39 n40 => ?_)
          · refine sm_b (l' := [(1, vr u1), (2, vi w2), (3, vr w3)]) (st' := [vi 0]) (pc' := 49) [(.iconst 0, vi 0, 49)] (by decide +kernel) rfl rfl ?_
            refine sm_pick [0, 2] (l' := [(1, vr u1), (3, vr w3)]) rfl ?_
            exact sm_leaf (fun h => j15 _ h)
          · refine sm_b (l' := [(1, vr u1), (2, vi w2), (3, vr w3)]) (st' := [vi 1]) (pc' := 49) [(.iconst 1, vi 1, 45), (.goto 4, vi 0, 49)] (by decide +kernel) rfl rfl ?_
            refine sm_pick [0, 2] (l' := [(1, vr u1), (3, vr w3)]) rfl ?_
            exact sm_leaf (fun h => j15 _ h)
          refine sm_if_lt (off := 29) (tgt := 48) h24 (by decide +kernel) (fun c41 => ?_) (fun c41 => ?_)
          · exact p39 (Or.inl (Or.inl c41))
          · have w25 : ¬ ((sI σ 133 p21) < 0) := c41
            refine sm_b (l' := [(1, vr u1), (2, vi w2), (3, vr w3)]) (st' := [vr w3]) (pc' := 23) [(.aload_n 3, vi 0, 23)] (by decide +kernel) rfl rfl ?_
            have q27 := (ad_some (h26 w25))
            refine sm_st [vr (some (ad w3))] (congrArg (fun z => [vr z]) q27) ?_
            refine sm_gN (k := 0) (x := vr (sR σ 192 (ad w3))) cd12 rfl (h28 w25) rfl q1018 rfl (by decide +kernel) ?_
            refine sm_b (l' := [(1, vr u1), (2, vi w2), (3, vr w3)]) (st' := [vr u1, vr (sR σ 192 (ad w3))]) (pc' := 27) [(.aload_n 1, vi 0, 27)] (by decide +kernel) rfl rfl ?_
            refine sm_acmp_eq (off := 21) (tgt := 48) (by decide +kernel) (fun c42 => ?_) (fun c42 => ?_)
            · exact p39 (Or.inl (Or.inr c42))
            · have w29 : ¬ (((sI σ 133 p21) < 0) ∨ ((sR σ 192 (ad w3)) = u1)) := (fun q => q.elim c41 c42)
              refine sm_b (l' := [(1, vr u1), (2, vi w2), (3, vr w3)]) (st' := [vr w3]) (pc' := 31) [(.aload_n 3, vi 0, 31)] (by decide +kernel) rfl rfl ?_
              have q31 := (ad_some (h30 w29))
              refine sm_st [vr (some (ad w3))] (congrArg (fun z => [vr z]) q31) ?_
              refine sm_gN (k := 0) (x := vr (sR σ 192 (ad w3))) cd12 rfl (h32 w29) rfl q1018 rfl (by decide +kernel) ?_
              have q34 := (ad_some (h33 w29))
              refine sm_st [vr (some (ad (sR σ 192 (ad w3))))] (congrArg (fun z => [vr z]) q34) ?_
              refine sm_gN (k := 5) (x := vi (sI σ 133 (ad (sR σ 192 (ad w3))))) cd8 rfl (h35 w29) rfl q738 rfl (by decide +kernel) ?_
              refine sm_b (l' := [(1, vr u1), (2, vi w2), (3, vr w3)]) (st' := [vr u1, vi (sI σ 133 (ad (sR σ 192 (ad w3))))]) (pc' := 38) [(.aload_n 1, vi 0, 38)] (by decide +kernel) rfl rfl ?_
              refine sm_st [vr (some p21), vi (sI σ 133 (ad (sR σ 192 (ad w3))))] (by rw [h22] <;> rfl) ?_
              refine sm_gN (k := 5) (x := vi (sI σ 133 p21)) cd8 rfl h23 rfl q738 rfl (by decide +kernel) ?_
              refine sm_icmp_ne (off := 7) (tgt := 48) (h36 w29) h24 (by decide +kernel) (fun c43 => ?_) (fun c43 => ?_)
              · exact p39 (Or.inr c43)
              · exact n40 (fun q => q.elim (fun q => q.elim c41 c42) (fun q => q c43))
        · refine sm_b (l' := [(1, vr u1), (2, vi w2), (3, vr w3)]) (st' := [vi 1]) (pc' := 49) [(.iconst 1, vi 1, 45), (.goto 4, vi 0, 49)] (by decide +kernel) rfl rfl ?_
          refine sm_pick [0, 2] (l' := [(1, vr u1), (3, vr w3)]) rfl ?_
          exact sm_leaf (fun h => j15 _ h)
        refine sm_if_ne (off := 32) (tgt := 44) h7 (by decide +kernel) (fun c47 => ?_) (fun c47 => ?_)
        · exact n46 c47
        · exact p45 c47
    refine sm_ifnull (off := 50) (tgt := 58) (by decide +kernel) (fun c51 => ?_) (fun c51 => ?_)
    · exact p49 c51
    · exact n50 c51
set_option maxHeartbeats 4000000 in
theorem vlu_hasOther_ok {g : GE} (G : GG g) {τ : TT} (d : Nat) (hd1 : 0 ≤ d) (a0 : Nat) (a1 : Option Nat)  (σ : ST) (Q : VQ) : Sm (V g mX10_hasOther d 0 [(0, vr (some a0)), (1, vr a1)] [] σ τ Q) (vlu_hasOther a0 a1 σ) (fun r => Q.1 (some (vi r)) σ τ) := by
  unfold vlu_hasOther
  refine sm_top (fun K hRET => ?_)
  refine sm_b (l' := [(0, vr (some a0)), (1, vr a1), (2, vi 0)]) (st' := [vr (some a0)]) (pc' := 3) [(.iconst 0, vi 0, 1), (.istore_n 2, vi 0, 2), (.aload_n 0, vi 0, 3)] (by decide +kernel) rfl rfl ?_
  refine sm_gd (fun h1 => ?_)
  refine sm_g (k := 1) (x := vr (sR σ 161 a0)) cd10 rfl h1 rfl q950 rfl (by decide +kernel) ?_
  refine sm_nmr (fun x2 => ?_)
  refine sm_b (l' := [(0, vr (some a0)), (1, vr a1), (2, vi 0), (3, vr x2)]) (st' := []) (pc' := 7) [(.astore_n 3, vi 0, 7)] (by decide +kernel) rfl rfl ?_
  refine sm_pick [1, 2, 3] (l' := [(1, vr a1), (2, vi 0), (3, vr x2)]) rfl ?_
  exact vlu_hasOther_L7_ok G d hd1 a1 σ  (fun r h => hRET _ h) FU 0 x2
def row_copy (bb : Nat × Nat) (a0 : Nat) (σ : ST) : Option (Option Nat × ST) := gd (rm bb σ 2) (nm (nW σ) fun σ2 => gd (sc σ2 a0 = 4) (gd (sc σ2 (sZ σ) = 4) (Option.bind (r_addP bb (sZ σ) a0 σ2) fun y7 => some ((some (sZ σ), y7)))))
set_option maxHeartbeats 4000000 in
theorem row_copy_ok {g : GE} (G : GG g) {τ : TT} (d : Nat) (hd1 : 5 ≤ d) (a0 : Nat)  (σ : ST) (Q : VQ) : Sm (V g mX3_copy d 0 [(0, vr (some a0))] [] σ τ Q) (row_copy (gRm g) a0 σ) (fun r => Q.1 (some (vr r.1)) r.2 τ) := by
  unfold row_copy
  refine sm_top (fun K hRET => ?_)
  refine sm_gd (fun h1 => ?_)
  refine sm_newRow (i := 10) (i2 := 52) q1310 rfl q1311 h1 (by omega) rfl (by decide +kernel) (by decide +kernel) (by decide +kernel) ?_
  refine sm_nms (fun σ2 => ?_)
  refine sm_b (l' := [(0, vr (some a0)), (1, vr (some (sZ σ)))]) (st' := [vr (some a0), vr (some (sZ σ))]) (pc' := 10) [(.astore_n 1, vi 0, 8), (.aload_n 1, vi 0, 9), (.aload_n 0, vi 0, 10)] (by decide +kernel) rfl rfl ?_
  refine sm_gd (fun h3 => ?_)
  refine sm_rcl h3 q274 (by decide +kernel) ?_
  refine sm_b (l' := [(0, vr (some a0)), (1, vr (some (sZ σ)))]) (st' := [vr (some a0), vi 0, vr (some (sH σ2 a0)), vr (some (sZ σ))]) (pc' := 15) [(.iconst 0, vi 0, 14), (.aload_n 0, vi 0, 15)] (by decide +kernel) rfl rfl ?_
  refine sm_rsz h3 q278 (by decide +kernel) ?_
  refine sm_rowf h3 (fun b4 b5 => ?_)
  refine sm_gd (fun h6 => ?_)
  refine sm_cv (N := mX3_addAll) (d' := d - 1) (fun r => none) (fun r => r) (fun _ => τ) [vr (some (sH σ2 a0)), vi 0, vi ((((sW σ2 a0).length : Nat) : Int))] [] rfl (by decide +kernel) q1312 q531 q532 (Or.inl ⟨rfl, q533⟩) (show okN yX3_addAll 3 = true by decide +kernel) (fun H hR => hR.rvR G.1 h6) rfl rfl (by omega) rfl (fun Q' => r_addP_ok G (d - 1) (by omega) (sZ σ) a0 σ2 Q') (fun y7 => ?_)
  refine sm_b (l' := [(0, vr (some a0)), (1, vr (some (sZ σ)))]) (st' := [vr (some (sZ σ))]) (pc' := 22) [(.aload_n 1, vi 0, 22)] (by decide +kernel) rfl rfl ?_
  exact sm_aret rfl rfl (by decide +kernel) (fun h => hRET _ h)
def b64_value (a1 : Int) : Option (Int) := gd (rg a1) (if (a1 < 65) ∨ (90 < a1) then (if (a1 < 97) ∨ (122 < a1) then (if (a1 < 48) ∨ (57 < a1) then (if (a1 = 43) ∨ (a1 = 45) then (some 62) else (if (a1 = 47) ∨ (a1 = 95) then (some 63) else (some (((-1)))))) else (some (((a1 - 48) + 52)))) else (some (((a1 - 97) + 26)))) else (some ((a1 - 65))))
set_option maxHeartbeats 4000000 in
theorem b64_value_ok {g : GE} (G : GG g) {τ : TT} (d : Nat) (hd1 : 0 ≤ d) (a1 : Int)  (σ : ST) (Q : VQ) : Sm (V g mX16_value d 0 [(0, vi a1)] [] σ τ Q) (b64_value a1) (fun r => Q.1 (some (vi r)) σ τ) := by
  unfold b64_value
  refine sm_top (fun K hRET => ?_)
  refine sm_b (l' := [(0, vi a1)]) (st' := [vi 65, vi a1]) (pc' := 3) [(.iload_n 0, vi 0, 1), (.bipush 65, vi 65, 3)] (by decide +kernel) rfl rfl ?_
  refine sm_gd (fun h1 => ?_)
  refine sm_case (V g mX16_value d 17 [(0, vi a1)] [] σ τ Q) (V g mX16_value d 12 [(0, vi a1)] [] σ τ Q) ?_ ?_ (fun f37 p38 n39 => ?_)
  · refine sm_b (l' := [(0, vi a1)]) (st' := [vi 97, vi a1]) (pc' := 20) [(.iload_n 0, vi 0, 18), (.bipush 97, vi 97, 20)] (by decide +kernel) rfl rfl ?_
    refine sm_case (V g mX16_value d 37 [(0, vi a1)] [] σ τ Q) (V g mX16_value d 29 [(0, vi a1)] [] σ τ Q) ?_ ?_ (fun f32 p33 n34 => ?_)
    · refine sm_b (l' := [(0, vi a1)]) (st' := [vi 48, vi a1]) (pc' := 40) [(.iload_n 0, vi 0, 38), (.bipush 48, vi 48, 40)] (by decide +kernel) rfl rfl ?_
      refine sm_case (V g mX16_value d 57 [(0, vi a1)] [] σ τ Q) (V g mX16_value d 49 [(0, vi a1)] [] σ τ Q) ?_ ?_ (fun f27 p28 n29 => ?_)
      · refine sm_b (l' := [(0, vi a1)]) (st' := [vi 43, vi a1]) (pc' := 60) [(.iload_n 0, vi 0, 58), (.bipush 43, vi 43, 60)] (by decide +kernel) rfl rfl ?_
        refine sm_case (V g mX16_value d 69 [(0, vi a1)] [] σ τ Q) (V g mX16_value d 74 [(0, vi a1)] [] σ τ Q) ?_ ?_ (fun f22 p23 n24 => ?_)
        · refine sm_b (l' := [(0, vi a1)]) (st' := [vi 62]) (pc' := 92) [(.bipush 62, vi 62, 71), (.goto 21, vi 0, 92)] (by decide +kernel) rfl rfl ?_
          exact sm_iret rfl (by decide +kernel) (fun h => hRET _ h)
        · refine sm_b (l' := [(0, vi a1)]) (st' := [vi 47, vi a1]) (pc' := 77) [(.iload_n 0, vi 0, 75), (.bipush 47, vi 47, 77)] (by decide +kernel) rfl rfl ?_
          refine sm_case (V g mX16_value d 86 [(0, vi a1)] [] σ τ Q) (V g mX16_value d 91 [(0, vi a1)] [] σ τ Q) ?_ ?_ (fun f17 p18 n19 => ?_)
          · refine sm_b (l' := [(0, vi a1)]) (st' := [vi 63]) (pc' := 92) [(.bipush 63, vi 63, 88), (.goto 4, vi 0, 92)] (by decide +kernel) rfl rfl ?_
            exact sm_iret rfl (by decide +kernel) (fun h => hRET _ h)
          · refine sm_b (l' := [(0, vi a1)]) (st' := [vi ((-1))]) (pc' := 92) [(.iconst (-1), vi (-1), 92)] (by decide +kernel) rfl rfl ?_
            exact sm_iret rfl (by decide +kernel) (fun h => hRET _ h)
          refine sm_icmp_eq (off := 9) (tgt := 86) h1 (by decide) (by decide +kernel) (fun c20 => ?_) (fun c20 => ?_)
          · exact p18 (Or.inl c20)
          · refine sm_b (l' := [(0, vi a1)]) (st' := [vi 95, vi a1]) (pc' := 83) [(.iload_n 0, vi 0, 81), (.bipush 95, vi 95, 83)] (by decide +kernel) rfl rfl ?_
            refine sm_icmp_ne (off := 8) (tgt := 91) h1 (by decide) (by decide +kernel) (fun c21 => ?_) (fun c21 => ?_)
            · exact n19 (fun q => q.elim c20 c21)
            · exact p18 (Or.inr c21)
        refine sm_icmp_eq (off := 9) (tgt := 69) h1 (by decide) (by decide +kernel) (fun c25 => ?_) (fun c25 => ?_)
        · exact p23 (Or.inl c25)
        · refine sm_b (l' := [(0, vi a1)]) (st' := [vi 45, vi a1]) (pc' := 66) [(.iload_n 0, vi 0, 64), (.bipush 45, vi 45, 66)] (by decide +kernel) rfl rfl ?_
          refine sm_icmp_ne (off := 8) (tgt := 74) h1 (by decide) (by decide +kernel) (fun c26 => ?_) (fun c26 => ?_)
          · exact n24 (fun q => q.elim c25 c26)
          · exact p23 (Or.inr c26)
      · refine sm_b (l' := [(0, vi a1)]) (st' := [vi ((a1 - 48) + 52)]) (pc' := 56) [(.iload_n 0, vi 0, 50), (.bipush 48, vi 48, 52), (.isub, vi 0, 53), (.bipush 52, vi 52, 55), (.iadd, vi 0, 56)] (by decide +kernel) rfl rfl ?_
        exact sm_iret rfl (by decide +kernel) (fun h => hRET _ h)
      refine sm_icmp_lt (off := 17) (tgt := 57) h1 (by decide) (by decide +kernel) (fun c30 => ?_) (fun c30 => ?_)
      · exact p28 (Or.inl c30)
      · refine sm_b (l' := [(0, vi a1)]) (st' := [vi 57, vi a1]) (pc' := 46) [(.iload_n 0, vi 0, 44), (.bipush 57, vi 57, 46)] (by decide +kernel) rfl rfl ?_
        refine sm_icmp_gt (off := 11) (tgt := 57) h1 (by decide) (by decide +kernel) (fun c31 => ?_) (fun c31 => ?_)
        · exact p28 (Or.inr c31)
        · exact n29 (fun q => q.elim c30 c31)
    · refine sm_b (l' := [(0, vi a1)]) (st' := [vi ((a1 - 97) + 26)]) (pc' := 36) [(.iload_n 0, vi 0, 30), (.bipush 97, vi 97, 32), (.isub, vi 0, 33), (.bipush 26, vi 26, 35), (.iadd, vi 0, 36)] (by decide +kernel) rfl rfl ?_
      exact sm_iret rfl (by decide +kernel) (fun h => hRET _ h)
    refine sm_icmp_lt (off := 17) (tgt := 37) h1 (by decide) (by decide +kernel) (fun c35 => ?_) (fun c35 => ?_)
    · exact p33 (Or.inl c35)
    · refine sm_b (l' := [(0, vi a1)]) (st' := [vi 122, vi a1]) (pc' := 26) [(.iload_n 0, vi 0, 24), (.bipush 122, vi 122, 26)] (by decide +kernel) rfl rfl ?_
      refine sm_icmp_gt (off := 11) (tgt := 37) h1 (by decide) (by decide +kernel) (fun c36 => ?_) (fun c36 => ?_)
      · exact p33 (Or.inr c36)
      · exact n34 (fun q => q.elim c35 c36)
  · refine sm_b (l' := [(0, vi a1)]) (st' := [vi (a1 - 65)]) (pc' := 16) [(.iload_n 0, vi 0, 13), (.bipush 65, vi 65, 15), (.isub, vi 0, 16)] (by decide +kernel) rfl rfl ?_
    exact sm_iret rfl (by decide +kernel) (fun h => hRET _ h)
  refine sm_icmp_lt (off := 14) (tgt := 17) h1 (by decide) (by decide +kernel) (fun c40 => ?_) (fun c40 => ?_)
  · exact p38 (Or.inl c40)
  · refine sm_b (l' := [(0, vi a1)]) (st' := [vi 90, vi a1]) (pc' := 9) [(.iload_n 0, vi 0, 7), (.bipush 90, vi 90, 9)] (by decide +kernel) rfl rfl ?_
    refine sm_icmp_gt (off := 8) (tgt := 17) h1 (by decide) (by decide +kernel) (fun c41 => ?_) (fun c41 => ?_)
    · exact p38 (Or.inr c41)
    · exact n39 (fun q => q.elim c40 c41)
def b64_read_L78 (bb : Nat × Nat) (u0 : Option Nat) (u1 : Int) (u3 : Nat) : Nat → Int → Int → Int → ST → Option ((Option Nat × ST) ⊕ (Int × ST))
  | 0, _, _, _, _ => none
  | n + 1, w4, w5, w6, σ => gd (rg w6) (gd (rg u1) (if u1 ≤ w6 then (some (Sum.inr ((w5, σ)))) else (Option.bind u0 fun p44 => gd (sc σ p44 = 4) (Option.bind (row_at p44 w6 σ) fun y47 => Option.bind (b64_value y47) fun y48 => gd (rg y48) (if 0 ≤ y48 then (nm (iOr (iShl w5 6) y48) fun x52 => Option.bind (gd (rg (w4 + 6)) (if 8 ≤ (w4 + 6) then (gd (sc σ u3 = 4) (Option.bind (r_add bb u3 (iShr x52 ((w4 + 6) + (-8))) σ) fun y61 => nm (iAnd x52 ((iShl 1 ((w4 + 6) + (-8))) - 1)) fun x62 => some (((w4 + 6) + (-8), x62, y61)))) else (some ((w4 + 6, x52, σ))))) fun (v56 : Int × Int × ST) => b64_read_L78 bb u0 u1 u3 n v56.1 v56.2.1 (w6 + 1) v56.2.2) else (some (Sum.inl ((none, σ)))))))))
def b64_read_L5 (bb : Nat × Nat) (u0 : Option Nat) (σ : ST) : Nat → Int → Option (Int)
  | 0, _ => none
  | n + 1, w1 => gd (rg w1) (gd (¬ (w1 ≤ 0) → ¬ u0 = none) (gd (¬ (w1 ≤ 0) → sc σ (ad u0) = 4) (gd (¬ (w1 ≤ 0) → ok (row_at (ad u0) (w1 - 1) σ)) (gd (¬ (w1 ≤ 0) → rg (vv (row_at (ad u0) (w1 - 1) σ))) (if (w1 ≤ 0) ∨ (¬ ((vv (row_at (ad u0) (w1 - 1) σ)) = 61)) then (some w1) else (b64_read_L5 bb u0 σ n (w1 + (-1))))))))
def b64_read (bb : Nat × Nat) (a1 : Option Nat) (σ : ST) : Option (Option Nat × ST) := Option.bind a1 fun p1 => gd (sc σ p1 = 4) (nm ((((sW σ p1).length : Nat) : Int)) fun x6 => Option.bind (b64_read_L5 bb a1 σ FU x6) fun (v7 : Int) => nm (((((sW σ p1).length : Nat) : Int)) - v7) fun x13 => if (iRem v7 4) = 1 then (some ((none, σ))) else (Option.bind (gd (rg x13) (if x13 ≤ 0 then (some (Sum.inr (()))) else (if (2 < x13) ∨ (¬ ((iRem ((((sW σ p1).length : Nat) : Int)) 4) = 0)) then (some (Sum.inl ((none, σ)))) else (some (Sum.inr (())))))) (Sum.elim some fun (v18 : Unit) => gd (rm bb σ 2) (nm (nW σ) fun σ23 => Option.bind (b64_read_L78 bb a1 v7 (sZ σ) FU 0 0 0 σ23) (Sum.elim some fun (v24 : Int × ST) => gd (rg v24.1) (if v24.1 = 0 then (some ((some (sZ σ), v24.2))) else (some ((none, v24.2)))))))))
set_option maxHeartbeats 4000000 in
theorem b64_read_L78_ok {g : GE} (G : GG g) {τ : TT} {Q : VQ} (d : Nat) (hd1 : 3 ≤ d) (u0 : Option Nat) (u1 : Int) (u3 : Nat)  {K : (Option Nat × ST) ⊕ (Int × ST) → Prop} (hRET : ∀ r : Option Nat × ST, K (Sum.inl r) → Q.1 (some (vr r.1)) r.2 τ) (hE154 : ∀ v35 : Int × ST, K (Sum.inr v35) → V g mX16_read d 154 [(3, vr (some u3)), (5, vi v35.1)] [] v35.2 τ Q) : ∀ (n : Nat) (w4 : Int) (w5 : Int) (w6 : Int) (σ : ST), Sm (V g mX16_read d 78 [(0, vr u0), (1, vi u1), (3, vr (some u3)), (4, vi w4), (5, vi w5), (6, vi w6)] [] σ τ Q) (b64_read_L78 (gRm g) u0 u1 u3 n w4 w5 w6 σ) K := by
  intro n
  induction n with
  | zero => intro w4 w5 w6 σ; exact sm_none
  | succ n ih =>
    intro w4 w5 w6 σ
    rw [b64_read_L78.eq_2]
    refine sm_b (l' := [(0, vr u0), (1, vi u1), (3, vr (some u3)), (4, vi w4), (5, vi w5), (6, vi w6)]) (st' := [vi u1, vi w6]) (pc' := 81) [(.iload 6, vi 0, 80), (.iload_n 1, vi 0, 81)] (by decide +kernel) rfl rfl ?_
    refine sm_gd (fun h36 => ?_)
    refine sm_gd (fun h37 => ?_)
    refine sm_case (V g mX16_read d 154 [(0, vr u0), (1, vi u1), (3, vr (some u3)), (4, vi w4), (5, vi w5), (6, vi w6)] [] σ τ Q) (V g mX16_read d 84 [(0, vr u0), (1, vi u1), (3, vr (some u3)), (4, vi w4), (5, vi w5), (6, vi w6)] [] σ τ Q) ?_ ?_ (fun f71 p72 n73 => ?_)
    · refine sm_pick [2, 4] (l' := [(3, vr (some u3)), (5, vi w5)]) rfl ?_
      exact sm_leaf (fun h => hE154 _ h)
    · refine sm_b (l' := [(0, vr u0), (1, vi u1), (3, vr (some u3)), (4, vi w4), (5, vi w5), (6, vi w6)]) (st' := [vi w6, vr u0]) (pc' := 87) [(.aload_n 0, vi 0, 85), (.iload 6, vi 0, 87)] (by decide +kernel) rfl rfl ?_
      refine sm_de (fun p44 h45 => ?_)
      refine sm_st [vi w6, vr (some p44)] (by rw [h45] <;> rfl) ?_
      refine sm_gd (fun h46 => ?_)
      refine sm_cv (N := mX3_at) (d' := d - 1) (fun r => (some (vi r))) (fun _ => σ) (fun _ => τ) [vi w6] [] rfl (by decide +kernel) q1316 q710 q711 (Or.inl ⟨rfl, q712⟩) (show okN yX3_at 1 = true by decide +kernel) (fun H hR => hR.rvR G.1 h46) rfl rfl (by omega) rfl (fun Q' => row_at_ok G (d - 1) (by omega) p44 w6 σ Q') (fun y47 => ?_)
      refine sm_cs (N := mX16_value) (d' := d - 1) (fun r => (some (vi r))) (fun _ => σ) (fun _ => τ) [vi y47] [] rfl (by decide +kernel) q1319 q1320 q164 (Or.inl ⟨rfl, q1321⟩) (show okN yX16_value 1 = true by decide +kernel) rfl rfl (by omega) rfl (fun Q' => b64_value_ok G (d - 1) (by omega) y47 σ Q') (fun y48 => ?_)
      refine sm_b (l' := [(0, vr u0), (1, vi u1), (3, vr (some u3)), (4, vi w4), (5, vi w5), (6, vi w6), (7, vi y48)]) (st' := [vi y48]) (pc' := 97) [(.istore 7, vi 0, 95), (.iload 7, vi 0, 97)] (by decide +kernel) rfl rfl ?_
      refine sm_gd (fun h49 => ?_)
      refine sm_case (V g mX16_read d 102 [(0, vr u0), (1, vi u1), (3, vr (some u3)), (4, vi w4), (5, vi w5), (6, vi w6), (7, vi y48)] [] σ τ Q) (V g mX16_read d 100 [(0, vr u0), (1, vi u1), (3, vr (some u3)), (4, vi w4), (5, vi w5), (6, vi w6), (7, vi y48)] [] σ τ Q) ?_ ?_ (fun f67 p68 n69 => ?_)
      · refine sm_b (l' := [(0, vr u0), (1, vi u1), (3, vr (some u3)), (4, vi w4), (5, vi w5), (6, vi w6), (7, vi y48)]) (st' := [vi (iOr (iShl w5 6) y48)]) (pc' := 110) [(.iload 5, vi 0, 104), (.bipush 6, vi 6, 106), (.ishl, vi 0, 107), (.iload 7, vi 0, 109), (.ior, vi 0, 110)] (by decide +kernel) rfl rfl ?_
        refine sm_nmi (fun x52 => ?_)
        refine sm_b (l' := [(0, vr u0), (1, vi u1), (3, vr (some u3)), (4, vi (w4 + 6)), (5, vi x52), (6, vi w6), (7, vi y48)]) (st' := [vi 8, vi (w4 + 6)]) (pc' := 119) [(.istore 5, vi 0, 112), (.iinc 4 6, vi 6, 115), (.iload 4, vi 0, 117), (.bipush 8, vi 8, 119)] (by decide +kernel) rfl rfl ?_
        refine sm_bind1 (fun (v56 : Int × Int × ST) => V g mX16_read d 148 [(0, vr u0), (1, vi u1), (3, vr (some u3)), (4, vi v56.1), (5, vi v56.2.1), (6, vi w6)] [] v56.2.2 τ Q) (fun v56 => ?_) (fun K57 j58 => ?_)
        · refine sm_b (l' := [(0, vr u0), (1, vi u1), (3, vr (some u3)), (4, vi v56.1), (5, vi v56.2.1), (6, vi (w6 + 1))]) (st' := []) (pc' := 78) [(.iinc 6 1, vi 1, 151), (.goto (-73), vi 0, 78)] (by decide +kernel) rfl rfl ?_
          exact ih v56.1 v56.2.1 (w6 + 1) v56.2.2
        · refine sm_gd (fun h53 => ?_)
          refine sm_case (V g mX16_read d 125 [(0, vr u0), (1, vi u1), (3, vr (some u3)), (4, vi (w4 + 6)), (5, vi x52), (6, vi w6), (7, vi y48)] [] σ τ Q) (V g mX16_read d 122 [(0, vr u0), (1, vi u1), (3, vr (some u3)), (4, vi (w4 + 6)), (5, vi x52), (6, vi w6), (7, vi y48)] [] σ τ Q) ?_ ?_ (fun f63 p64 n65 => ?_)
          · refine sm_b (l' := [(0, vr u0), (1, vi u1), (3, vr (some u3)), (4, vi ((w4 + 6) + (-8))), (5, vi x52), (6, vi w6), (7, vi y48)]) (st' := [vi (iShr x52 ((w4 + 6) + (-8))), vr (some u3)]) (pc' := 134) [(.iinc 4 (-8), vi (-8), 128), (.aload_n 3, vi 0, 129), (.iload 5, vi 0, 131), (.iload 4, vi 0, 133), (.ishr, vi 0, 134)] (by decide +kernel) rfl rfl ?_
            refine sm_gd (fun h60 => ?_)
            refine sm_cv (N := mX3_add) (d' := d - 1) (fun r => none) (fun r => r) (fun _ => τ) [vi (iShr x52 ((w4 + 6) + (-8)))] [] rfl (by decide +kernel) q1322 q535 q536 (Or.inl ⟨rfl, q537⟩) (show okN yX3_add 1 = true by decide +kernel) (fun H hR => hR.rvR G.1 h60) rfl rfl (by omega) rfl (fun Q' => r_add_ok G (d - 1) (by omega) u3 (iShr x52 ((w4 + 6) + (-8))) σ Q') (fun y61 => ?_)
            refine sm_b (l' := [(0, vr u0), (1, vi u1), (3, vr (some u3)), (4, vi ((w4 + 6) + (-8))), (5, vi x52), (6, vi w6), (7, vi y48)]) (st' := [vi (iAnd x52 ((iShl 1 ((w4 + 6) + (-8))) - 1))]) (pc' := 146) [(.iload 5, vi 0, 139), (.iconst 1, vi 1, 140), (.iload 4, vi 0, 142), (.ishl, vi 0, 143), (.iconst 1, vi 1, 144), (.isub, vi 0, 145), (.iand, vi 0, 146)] (by decide +kernel) rfl rfl ?_
            refine sm_nmi (fun x62 => ?_)
            refine sm_b (l' := [(0, vr u0), (1, vi u1), (3, vr (some u3)), (4, vi ((w4 + 6) + (-8))), (5, vi x62), (6, vi w6), (7, vi y48)]) (st' := []) (pc' := 148) [(.istore 5, vi 0, 148)] (by decide +kernel) rfl rfl ?_
            refine sm_pick [0, 1, 2, 3, 4, 5] (l' := [(0, vr u0), (1, vi u1), (3, vr (some u3)), (4, vi ((w4 + 6) + (-8))), (5, vi x62), (6, vi w6)]) rfl ?_
            exact sm_leaf (fun h => j58 _ h)
          · refine sm_b (l' := [(0, vr u0), (1, vi u1), (3, vr (some u3)), (4, vi (w4 + 6)), (5, vi x52), (6, vi w6), (7, vi y48)]) (st' := []) (pc' := 148) [(.goto 26, vi 0, 148)] (by decide +kernel) rfl rfl ?_
            refine sm_pick [0, 1, 2, 3, 4, 5] (l' := [(0, vr u0), (1, vi u1), (3, vr (some u3)), (4, vi (w4 + 6)), (5, vi x52), (6, vi w6)]) rfl ?_
            exact sm_leaf (fun h => j58 _ h)
          refine sm_icmp_ge (off := 6) (tgt := 125) h53 (by decide) (by decide +kernel) (fun c66 => ?_) (fun c66 => ?_)
          · exact p64 c66
          · exact n65 c66
      · refine sm_b (l' := [(0, vr u0), (1, vi u1), (3, vr (some u3)), (4, vi w4), (5, vi w5), (6, vi w6), (7, vi y48)]) (st' := [vr none]) (pc' := 101) [(.aconst_null, vi 0, 101)] (by decide +kernel) rfl rfl ?_
        exact sm_aret rfl rfl (by decide +kernel) (fun h => hRET _ h)
      refine sm_if_ge (off := 5) (tgt := 102) h49 (by decide +kernel) (fun c70 => ?_) (fun c70 => ?_)
      · exact p68 c70
      · exact n69 c70
    refine sm_icmp_ge (off := 73) (tgt := 154) h36 h37 (by decide +kernel) (fun c74 => ?_) (fun c74 => ?_)
    · exact p72 c74
    · exact n73 c74
set_option maxHeartbeats 4000000 in
theorem b64_read_L5_ok {g : GE} (G : GG g) {τ : TT} {Q : VQ} (d : Nat) (hd1 : 3 ≤ d) (u0 : Option Nat) (σ : ST)  {K : Int → Prop} (hE27 : ∀ v91 : Int, K (v91) → V g mX16_read d 27 [(0, vr u0), (1, vi v91)] [] σ τ Q) : ∀ (n : Nat) (w1 : Int), Sm (V g mX16_read d 5 [(0, vr u0), (1, vi w1)] [] σ τ Q) (b64_read_L5 (gRm g) u0 σ n w1) K := by
  intro n
  induction n with
  | zero => intro w1; exact sm_none
  | succ n ih =>
    intro w1
    rw [b64_read_L5.eq_2]
    refine sm_b (l' := [(0, vr u0), (1, vi w1)]) (st' := [vi w1]) (pc' := 6) [(.iload_n 1, vi 0, 6)] (by decide +kernel) rfl rfl ?_
    refine sm_gd (fun h92 => ?_)
    refine sm_gd (fun h94 => ?_)
    refine sm_gd (fun h96 => ?_)
    refine sm_gd (fun h97 => ?_)
    refine sm_gd (fun h98 => ?_)
    refine sm_case (V g mX16_read d 27 [(0, vr u0), (1, vi w1)] [] σ τ Q) (V g mX16_read d 21 [(0, vr u0), (1, vi w1)] [] σ τ Q) ?_ ?_ (fun f100 p101 n102 => ?_)
    · exact sm_leaf (fun h => hE27 _ h)
    · refine sm_b (l' := [(0, vr u0), (1, vi (w1 + (-1)))]) (st' := []) (pc' := 5) [(.iinc 1 (-1), vi (-1), 24), (.goto (-19), vi 0, 5)] (by decide +kernel) rfl rfl ?_
      exact ih (w1 + (-1))
    refine sm_if_le (off := 21) (tgt := 27) h92 (by decide +kernel) (fun c103 => ?_) (fun c103 => ?_)
    · exact p101 (Or.inl c103)
    · have w93 : ¬ (w1 ≤ 0) := c103
      refine sm_b (l' := [(0, vr u0), (1, vi w1)]) (st' := [vi (w1 - 1), vr u0]) (pc' := 13) [(.aload_n 0, vi 0, 10), (.iload_n 1, vi 0, 11), (.iconst 1, vi 1, 12), (.isub, vi 0, 13)] (by decide +kernel) rfl rfl ?_
      have q95 := (ad_some (h94 w93))
      refine sm_st [vi (w1 - 1), vr (some (ad u0))] (congrArg (fun z => [vi (w1 - 1), vr z]) q95) ?_
      refine sm_cvp (N := mX3_at) (d' := d - 1) (fun r => (some (vi r))) (some (vi (vv (row_at (ad u0) (w1 - 1) σ)))) (h97 w93) (fun y h => by rw [vv_some h]) [vi (w1 - 1)] [] rfl (by decide +kernel) q1316 q710 q711 (Or.inl ⟨rfl, q712⟩) (show okN yX3_at 1 = true by decide +kernel) (fun H hR => hR.rvR G.1 (h96 w93)) rfl rfl (by omega) rfl (fun Q' => row_at_ok G (d - 1) (by omega) (ad u0) (w1 - 1) σ Q') ?_
      refine sm_b (l' := [(0, vr u0), (1, vi w1)]) (st' := [vi 61, vi (vv (row_at (ad u0) (w1 - 1) σ))]) (pc' := 18) [(.bipush 61, vi 61, 18)] (by decide +kernel) rfl rfl ?_
      refine sm_icmp_ne (off := 9) (tgt := 27) (h98 w93) (by decide) (by decide +kernel) (fun c104 => ?_) (fun c104 => ?_)
      · exact p101 (Or.inr c104)
      · exact n102 (fun q => q.elim c103 (fun q => q c104))
set_option maxHeartbeats 4000000 in
theorem b64_read_ok {g : GE} (G : GG g) {τ : TT} (d : Nat) (hd1 : 3 ≤ d) (a1 : Option Nat)  (σ : ST) (Q : VQ) : Sm (V g mX16_read d 0 [(0, vr a1)] [] σ τ Q) (b64_read (gRm g) a1 σ) (fun r => Q.1 (some (vr r.1)) r.2 τ) := by
  unfold b64_read
  refine sm_top (fun K hRET => ?_)
  refine sm_b (l' := [(0, vr a1)]) (st' := [vr a1]) (pc' := 1) [(.aload_n 0, vi 0, 1)] (by decide +kernel) rfl rfl ?_
  refine sm_de (fun p1 h2 => ?_)
  refine sm_st [vr (some p1)] (by rw [h2] <;> rfl) ?_
  refine sm_gd (fun h3 => ?_)
  refine sm_rszN h3 q281 (by decide +kernel) ?_
  refine sm_rowf h3 (fun b4 b5 => ?_)
  refine sm_nmi (fun x6 => ?_)
  refine sm_b (l' := [(0, vr a1), (1, vi x6)]) (st' := []) (pc' := 5) [(.istore_n 1, vi 0, 5)] (by decide +kernel) rfl rfl ?_
  refine sm_bind1 (fun (v7 : Int) => V g mX16_read d 27 [(0, vr a1), (1, vi v7)] [] σ τ Q) (fun v7 => ?_) (fun K8 j9 => ?_)
  · refine sm_b (l' := [(0, vr a1), (1, vi v7)]) (st' := [vr a1]) (pc' := 28) [(.aload_n 0, vi 0, 28)] (by decide +kernel) rfl rfl ?_
    refine sm_st [vr (some p1)] (by rw [h2] <;> rfl) ?_
    refine sm_rszN h3 q281 (by decide +kernel) ?_
    refine sm_rowf h3 (fun b11 b12 => ?_)
    refine sm_b (l' := [(0, vr a1), (1, vi v7)]) (st' := [vi (((((sW σ p1).length : Nat) : Int)) - v7)]) (pc' := 33) [(.iload_n 1, vi 0, 32), (.isub, vi 0, 33)] (by decide +kernel) rfl rfl ?_
    refine sm_nmi (fun x13 => ?_)
    refine sm_b (l' := [(0, vr a1), (1, vi v7), (2, vi x13)]) (st' := [vi 4, vi v7]) (pc' := 36) [(.istore_n 2, vi 0, 34), (.iload_n 1, vi 0, 35), (.iconst 4, vi 4, 36)] (by decide +kernel) rfl rfl ?_
    refine sm_irem (by decide +kernel) (by decide) ?_
    refine sm_b (l' := [(0, vr a1), (1, vi v7), (2, vi x13)]) (st' := [vi 1, vi (iRem v7 4)]) (pc' := 38) [(.iconst 1, vi 1, 38)] (by decide +kernel) rfl rfl ?_
    refine sm_case (V g mX16_read d 59 [(0, vr a1), (1, vi v7), (2, vi x13)] [] σ τ Q) (V g mX16_read d 41 [(0, vr a1), (1, vi v7), (2, vi x13)] [] σ τ Q) ?_ ?_ (fun f87 p88 n89 => ?_)
    · refine sm_b (l' := [(0, vr a1), (1, vi v7), (2, vi x13)]) (st' := [vr none]) (pc' := 60) [(.aconst_null, vi 0, 60)] (by decide +kernel) rfl rfl ?_
      exact sm_aret rfl rfl (by decide +kernel) (fun h => hRET _ h)
    · refine sm_b (l' := [(0, vr a1), (1, vi v7), (2, vi x13)]) (st' := [vi x13]) (pc' := 42) [(.iload_n 2, vi 0, 42)] (by decide +kernel) rfl rfl ?_
      refine sm_bindS (fun (v18 : Unit) => V g mX16_read d 61 [(0, vr a1), (1, vi v7)] [] σ τ Q) (fun v18 => ?_) (fun K19 o21 j20 => ?_)
      · refine sm_gd (fun h22 => ?_)
        refine sm_newRowN (i := 10) (i2 := 19) q1317 rfl q1318 h22 (by omega) rfl (by decide +kernel) (by decide +kernel) (by decide +kernel) ?_
        refine sm_nms (fun σ23 => ?_)
        refine sm_b (l' := [(0, vr a1), (1, vi v7), (3, vr (some (sZ σ))), (4, vi 0), (5, vi 0), (6, vi 0)]) (st' := []) (pc' := 78) [(.astore_n 3, vi 0, 69), (.iconst 0, vi 0, 70), (.istore 4, vi 0, 72), (.iconst 0, vi 0, 73), (.istore 5, vi 0, 75), (.iconst 0, vi 0, 76), (.istore 6, vi 0, 78)] (by decide +kernel) rfl rfl ?_
        refine sm_bindS (fun (v24 : Int × ST) => V g mX16_read d 154 [(3, vr (some (sZ σ))), (5, vi v24.1)] [] v24.2 τ Q) (fun v24 => ?_) (fun K25 o27 j26 => ?_)
        · refine sm_b (l' := [(3, vr (some (sZ σ))), (5, vi v24.1)]) (st' := [vi v24.1]) (pc' := 156) [(.iload 5, vi 0, 156)] (by decide +kernel) rfl rfl ?_
          refine sm_gd (fun h28 => ?_)
          refine sm_case (V g mX16_read d 159 [(3, vr (some (sZ σ))), (5, vi v24.1)] [] v24.2 τ Q) (V g mX16_read d 163 [(3, vr (some (sZ σ))), (5, vi v24.1)] [] v24.2 τ Q) ?_ ?_ (fun f31 p32 n33 => ?_)
          · refine sm_b (l' := [(3, vr (some (sZ σ))), (5, vi v24.1)]) (st' := [vr (some (sZ σ))]) (pc' := 164) [(.aload_n 3, vi 0, 160), (.goto 4, vi 0, 164)] (by decide +kernel) rfl rfl ?_
            exact sm_aret rfl rfl (by decide +kernel) (fun h => hRET _ h)
          · refine sm_b (l' := [(3, vr (some (sZ σ))), (5, vi v24.1)]) (st' := [vr none]) (pc' := 164) [(.aconst_null, vi 0, 164)] (by decide +kernel) rfl rfl ?_
            exact sm_aret rfl rfl (by decide +kernel) (fun h => hRET _ h)
          refine sm_if_ne (off := 7) (tgt := 163) h28 (by decide +kernel) (fun c34 => ?_) (fun c34 => ?_)
          · exact n33 c34
          · exact p32 c34
        · exact b64_read_L78_ok G d hd1 a1 v7 (sZ σ)  (fun r h => hRET _ (o27 _ h)) (fun _ h => j26 _ h) FU 0 0 0 σ23
      · refine sm_gd (fun h16 => ?_)
        refine sm_case (V g mX16_read d 61 [(0, vr a1), (1, vi v7), (2, vi x13)] [] σ τ Q) (V g mX16_read d 45 [(0, vr a1), (1, vi v7), (2, vi x13)] [] σ τ Q) ?_ ?_ (fun f83 p84 n85 => ?_)
        · refine sm_pick [0, 1] (l' := [(0, vr a1), (1, vi v7)]) rfl ?_
          exact sm_leaf (fun h => j20 _ h)
        · refine sm_b (l' := [(0, vr a1), (1, vi v7), (2, vi x13)]) (st' := [vi 2, vi x13]) (pc' := 47) [(.iload_n 2, vi 0, 46), (.iconst 2, vi 2, 47)] (by decide +kernel) rfl rfl ?_
          refine sm_case (V g mX16_read d 59 [(0, vr a1), (1, vi v7), (2, vi x13)] [] σ τ Q) (V g mX16_read d 61 [(0, vr a1), (1, vi v7), (2, vi x13)] [] σ τ Q) ?_ ?_ (fun f78 p79 n80 => ?_)
          · refine sm_b (l' := [(0, vr a1), (1, vi v7), (2, vi x13)]) (st' := [vr none]) (pc' := 60) [(.aconst_null, vi 0, 60)] (by decide +kernel) rfl rfl ?_
            exact sm_aret rfl rfl (by decide +kernel) (fun h => hRET _ (o21 _ h))
          · refine sm_pick [0, 1] (l' := [(0, vr a1), (1, vi v7)]) rfl ?_
            exact sm_leaf (fun h => j20 _ h)
          refine sm_icmp_gt (off := 12) (tgt := 59) h16 (by decide) (by decide +kernel) (fun c81 => ?_) (fun c81 => ?_)
          · exact p79 (Or.inl c81)
          · refine sm_b (l' := [(0, vr a1), (1, vi v7), (2, vi x13)]) (st' := [vr a1]) (pc' := 51) [(.aload_n 0, vi 0, 51)] (by decide +kernel) rfl rfl ?_
            refine sm_st [vr (some p1)] (by rw [h2] <;> rfl) ?_
            refine sm_rszN h3 q281 (by decide +kernel) ?_
            refine sm_rowf h3 (fun b76 b77 => ?_)
            refine sm_b (l' := [(0, vr a1), (1, vi v7), (2, vi x13)]) (st' := [vi 4, vi ((((sW σ p1).length : Nat) : Int))]) (pc' := 55) [(.iconst 4, vi 4, 55)] (by decide +kernel) rfl rfl ?_
            refine sm_irem (by decide +kernel) (by decide) ?_
            refine sm_if_eq (off := 5) (tgt := 61) (rg_in _) (by decide +kernel) (fun c82 => ?_) (fun c82 => ?_)
            · exact n80 (fun q => q.elim c81 (fun q => q c82))
            · exact p79 (Or.inr c82)
        refine sm_if_le (off := 19) (tgt := 61) h16 (by decide +kernel) (fun c86 => ?_) (fun c86 => ?_)
        · exact p84 c86
        · exact n85 c86
    refine sm_icmp_eq (off := 21) (tgt := 59) (rg_in _) (by decide) (by decide +kernel) (fun c90 => ?_) (fun c90 => ?_)
    · exact p88 c90
    · exact n89 c90
  · exact b64_read_L5_ok G d hd1 a1 σ  (fun _ h => j9 _ h) FU x6
def et_valueOf_L2 (u0 : Nat) (u1 : Option Nat) (σ : ST) : Nat → Int → Option (Int)
  | 0, _ => none
  | n + 1, w2 => gd (sc σ u0 = 8) (Option.bind (sR σ 114 u0) fun p2 => gd (sc σ p2 = 16) (Option.bind (l_size p2 σ) fun y5 => gd (rg w2) (gd (rg y5) (if y5 ≤ w2 then (some (((-1)))) else (Option.bind (l_get p2 w2 σ) fun y16 => Option.bind y16 fun p17 => gd (sc σ p17 = 4) (Option.bind (r_same p17 u1 σ) fun y20 => gd (rg y20) (if y20 = 0 then (et_valueOf_L2 u0 u1 σ n (w2 + 1)) else (some w2))))))))
def et_valueOf (a0 : Nat) (a1 : Option Nat) (σ : ST) : Option (Int) := et_valueOf_L2 a0 a1 σ FU 0
set_option maxHeartbeats 4000000 in
theorem et_valueOf_L2_ok {g : GE} (G : GG g) {τ : TT} {Q : VQ} (d : Nat) (hd1 : 4 ≤ d) (u0 : Nat) (u1 : Option Nat) (σ : ST)  {K : Int → Prop} (hRET : ∀ r : Int, K (r) → Q.1 (some (vi r)) σ τ) : ∀ (n : Nat) (w2 : Int), Sm (V g mX7_valueOf d 2 [(0, vr (some u0)), (1, vr u1), (2, vi w2)] [] σ τ Q) (et_valueOf_L2 u0 u1 σ n w2) K := by
  intro n
  induction n with
  | zero => intro w2; exact sm_none
  | succ n ih =>
    intro w2
    rw [et_valueOf_L2.eq_2]
    refine sm_b (l' := [(0, vr (some u0)), (1, vr u1), (2, vi w2)]) (st' := [vr (some u0), vi w2]) (pc' := 4) [(.iload_n 2, vi 0, 3), (.aload_n 0, vi 0, 4)] (by decide +kernel) rfl rfl ?_
    refine sm_gd (fun h1 => ?_)
    refine sm_g (k := 2) (x := vr (sR σ 114 u0)) cd7 rfl h1 rfl q670 rfl (by decide +kernel) ?_
    refine sm_de (fun p2 h3 => ?_)
    refine sm_st [vr (some p2), vi w2] (by rw [h3] <;> rfl) ?_
    refine sm_gd (fun h4 => ?_)
    refine sm_cv (N := mJ2_size) (d' := d - 1) (fun r => (some (vi r))) (fun _ => σ) (fun _ => τ) [] [vi w2] rfl (by decide +kernel) q895 q519 q520 (Or.inl ⟨rfl, q521⟩) (show okN yJ2_size 0 = true by decide +kernel) (fun H hR => hR.rvL G.1 h4) rfl rfl (by omega) rfl (fun Q' => l_size_ok G (d - 1) (by omega) p2 σ Q') (fun y5 => ?_)
    refine sm_gd (fun h6 => ?_)
    refine sm_gd (fun h7 => ?_)
    refine sm_case (V g mX7_valueOf d 39 [(0, vr (some u0)), (1, vr u1), (2, vi w2)] [] σ τ Q) (V g mX7_valueOf d 13 [(0, vr (some u0)), (1, vr u1), (2, vi w2)] [] σ τ Q) ?_ ?_ (fun f28 p29 n30 => ?_)
    · refine sm_b (l' := [(0, vr (some u0)), (1, vr u1), (2, vi w2)]) (st' := [vi ((-1))]) (pc' := 40) [(.iconst (-1), vi (-1), 40)] (by decide +kernel) rfl rfl ?_
      exact sm_iret rfl (by decide +kernel) (fun h => hRET _ h)
    · refine sm_b (l' := [(0, vr (some u0)), (1, vr u1), (2, vi w2)]) (st' := [vr (some u0)]) (pc' := 14) [(.aload_n 0, vi 0, 14)] (by decide +kernel) rfl rfl ?_
      refine sm_g (k := 2) (x := vr (sR σ 114 u0)) cd7 rfl h1 rfl q670 rfl (by decide +kernel) ?_
      refine sm_b (l' := [(0, vr (some u0)), (1, vr u1), (2, vi w2)]) (st' := [vi w2, vr (sR σ 114 u0)]) (pc' := 18) [(.iload_n 2, vi 0, 18)] (by decide +kernel) rfl rfl ?_
      refine sm_st [vi w2, vr (some p2)] (by rw [h3] <;> rfl) ?_
      refine sm_cv (N := mJ2_get) (d' := d - 1) (fun r => (some (vr r))) (fun _ => σ) (fun _ => τ) [vi w2] [] rfl (by decide +kernel) q1134 q791 q792 (Or.inl ⟨rfl, q793⟩) (show okN yJ2_get 1 = true by decide +kernel) (fun H hR => hR.rvL G.1 h4) rfl rfl (by omega) rfl (fun Q' => l_get_ok G (d - 1) (by omega) p2 w2 σ Q') (fun y16 => ?_)
      refine sm_de (fun p17 h18 => ?_)
      refine sm_st [vr (some p17)] (by rw [h18] <;> rfl) ?_
      refine sm_gd (fun h19 => ?_)
      refine sm_cast cd3 q1135 (fun H hR => hR.rvR G.1 h19) (by decide +kernel) ?_
      refine sm_b (l' := [(0, vr (some u0)), (1, vr u1), (2, vi w2)]) (st' := [vr u1, vr (some p17)]) (pc' := 25) [(.aload_n 1, vi 0, 25)] (by decide +kernel) rfl rfl ?_
      refine sm_cv (N := mX3_same) (d' := d - 1) (fun r => (some (vi r))) (fun _ => σ) (fun _ => τ) [vr u1] [] rfl (by decide +kernel) q1327 q838 q839 (Or.inl ⟨rfl, q840⟩) (show okN yX3_same 1 = true by decide +kernel) (fun H hR => hR.rvR G.1 h19) rfl rfl (by omega) rfl (fun Q' => r_same_ok G (d - 1) (by omega) p17 u1 σ Q') (fun y20 => ?_)
      refine sm_gd (fun h21 => ?_)
      refine sm_case (V g mX7_valueOf d 33 [(0, vr (some u0)), (1, vr u1), (2, vi w2)] [] σ τ Q) (V g mX7_valueOf d 31 [(0, vr (some u0)), (1, vr u1), (2, vi w2)] [] σ τ Q) ?_ ?_ (fun f24 p25 n26 => ?_)
      · refine sm_b (l' := [(0, vr (some u0)), (1, vr u1), (2, vi (w2 + 1))]) (st' := []) (pc' := 2) [(.iinc 2 1, vi 1, 36), (.goto (-34), vi 0, 2)] (by decide +kernel) rfl rfl ?_
        exact ih (w2 + 1)
      · refine sm_b (l' := [(0, vr (some u0)), (1, vr u1), (2, vi w2)]) (st' := [vi w2]) (pc' := 32) [(.iload_n 2, vi 0, 32)] (by decide +kernel) rfl rfl ?_
        exact sm_iret rfl (by decide +kernel) (fun h => hRET _ h)
      refine sm_if_eq (off := 5) (tgt := 33) h21 (by decide +kernel) (fun c27 => ?_) (fun c27 => ?_)
      · exact p25 c27
      · exact n26 c27
    refine sm_icmp_ge (off := 29) (tgt := 39) h6 h7 (by decide +kernel) (fun c31 => ?_) (fun c31 => ?_)
    · exact p29 c31
    · exact n30 c31
set_option maxHeartbeats 4000000 in
theorem et_valueOf_ok {g : GE} (G : GG g) {τ : TT} (d : Nat) (hd1 : 4 ≤ d) (a0 : Nat) (a1 : Option Nat)  (σ : ST) (Q : VQ) : Sm (V g mX7_valueOf d 0 [(0, vr (some a0)), (1, vr a1)] [] σ τ Q) (et_valueOf a0 a1 σ) (fun r => Q.1 (some (vi r)) σ τ) := by
  unfold et_valueOf
  refine sm_top (fun K hRET => ?_)
  refine sm_b (l' := [(0, vr (some a0)), (1, vr a1), (2, vi 0)]) (st' := []) (pc' := 2) [(.iconst 0, vi 0, 1), (.istore_n 2, vi 0, 2)] (by decide +kernel) rfl rfl ?_
  exact et_valueOf_L2_ok G d hd1 a0 a1 σ  (fun r h => hRET _ h) FU 0
def jr_isNumberSign (a1 : Int) : Option (Int) := Option.bind (gd (rg a1) (if ((((((a1 < 48) ∨ (¬ (a1 ≤ 57))) ∧ (¬ (a1 = 45))) ∧ (¬ (a1 = 43))) ∧ (¬ (a1 = 46))) ∧ (¬ (a1 = 101))) ∧ (¬ (a1 = 69)) then (some (Sum.inl 0)) else (some (Sum.inl 1)))) (Sum.elim some fun (v10 : Unit) => gd (rg a1) (if ((((a1 = 45) ∨ (a1 = 43)) ∨ (a1 = 46)) ∨ (a1 = 101)) ∨ (a1 = 69) then (some 1) else (some 0)))
set_option maxHeartbeats 4000000 in
theorem jr_isNumberSign_ok {g : GE} (G : GG g) {τ : TT} (d : Nat) (hd1 : 0 ≤ d) (a1 : Int)  (σ : ST) (Q : VQ) : Sm (V g mX14_isNumberSign d 0 [(0, vi a1)] [] σ τ Q) (jr_isNumberSign a1) (fun r => Q.1 (some (vi r)) σ τ) := by
  unfold jr_isNumberSign
  refine sm_top (fun K hRET => ?_)
  refine sm_b (l' := [(0, vi a1)]) (st' := [vi 48, vi a1]) (pc' := 3) [(.iload_n 0, vi 0, 1), (.bipush 48, vi 48, 3)] (by decide +kernel) rfl rfl ?_
  refine sm_bindS (fun (v10 : Unit) => V g mX14_isNumberSign d 12 [(0, vi a1)] [] σ τ Q) (fun v10 => ?_) (fun K11 o13 j12 => ?_)
  · refine sm_b (l' := [(0, vi a1)]) (st' := [vi 45, vi a1]) (pc' := 15) [(.iload_n 0, vi 0, 13), (.bipush 45, vi 45, 15)] (by decide +kernel) rfl rfl ?_
    refine sm_gd (fun h14 => ?_)
    refine sm_case (V g mX14_isNumberSign d 42 [(0, vi a1)] [] σ τ Q) (V g mX14_isNumberSign d 46 [(0, vi a1)] [] σ τ Q) ?_ ?_ (fun f20 p21 n22 => ?_)
    · refine sm_b (l' := [(0, vi a1)]) (st' := [vi 1]) (pc' := 47) [(.iconst 1, vi 1, 43), (.goto 4, vi 0, 47)] (by decide +kernel) rfl rfl ?_
      exact sm_zret rfl (by decide +kernel) (by decide) (fun h => hRET _ h)
    · refine sm_b (l' := [(0, vi a1)]) (st' := [vi 0]) (pc' := 47) [(.iconst 0, vi 0, 47)] (by decide +kernel) rfl rfl ?_
      exact sm_zret rfl (by decide +kernel) (by decide) (fun h => hRET _ h)
    refine sm_icmp_eq (off := 27) (tgt := 42) h14 (by decide) (by decide +kernel) (fun c23 => ?_) (fun c23 => ?_)
    · exact p21 (Or.inl (Or.inl (Or.inl (Or.inl c23))))
    · refine sm_b (l' := [(0, vi a1)]) (st' := [vi 43, vi a1]) (pc' := 21) [(.iload_n 0, vi 0, 19), (.bipush 43, vi 43, 21)] (by decide +kernel) rfl rfl ?_
      refine sm_icmp_eq (off := 21) (tgt := 42) h14 (by decide) (by decide +kernel) (fun c24 => ?_) (fun c24 => ?_)
      · exact p21 (Or.inl (Or.inl (Or.inl (Or.inr c24))))
      · refine sm_b (l' := [(0, vi a1)]) (st' := [vi 46, vi a1]) (pc' := 27) [(.iload_n 0, vi 0, 25), (.bipush 46, vi 46, 27)] (by decide +kernel) rfl rfl ?_
        refine sm_icmp_eq (off := 15) (tgt := 42) h14 (by decide) (by decide +kernel) (fun c25 => ?_) (fun c25 => ?_)
        · exact p21 (Or.inl (Or.inl (Or.inr c25)))
        · refine sm_b (l' := [(0, vi a1)]) (st' := [vi 101, vi a1]) (pc' := 33) [(.iload_n 0, vi 0, 31), (.bipush 101, vi 101, 33)] (by decide +kernel) rfl rfl ?_
          refine sm_icmp_eq (off := 9) (tgt := 42) h14 (by decide) (by decide +kernel) (fun c26 => ?_) (fun c26 => ?_)
          · exact p21 (Or.inl (Or.inr c26))
          · refine sm_b (l' := [(0, vi a1)]) (st' := [vi 69, vi a1]) (pc' := 39) [(.iload_n 0, vi 0, 37), (.bipush 69, vi 69, 39)] (by decide +kernel) rfl rfl ?_
            refine sm_icmp_ne (off := 7) (tgt := 46) h14 (by decide) (by decide +kernel) (fun c27 => ?_) (fun c27 => ?_)
            · exact n22 (fun q => q.elim (fun q => q.elim (fun q => q.elim (fun q => q.elim c23 c24) c25) c26) c27)
            · exact p21 (Or.inr c27)
  · refine sm_gd (fun h1 => ?_)
    refine sm_case (V g mX14_isNumberSign d 46 [(0, vi a1)] [] σ τ Q) (V g mX14_isNumberSign d 42 [(0, vi a1)] [] σ τ Q) ?_ ?_ (fun f28 p29 n30 => ?_)
    · refine sm_b (l' := [(0, vi a1)]) (st' := [vi 0]) (pc' := 47) [(.iconst 0, vi 0, 47)] (by decide +kernel) rfl rfl ?_
      exact sm_zret rfl (by decide +kernel) (by decide) (fun h => hRET _ (o13 _ h))
    · refine sm_b (l' := [(0, vi a1)]) (st' := [vi 1]) (pc' := 47) [(.iconst 1, vi 1, 43), (.goto 4, vi 0, 47)] (by decide +kernel) rfl rfl ?_
      exact sm_zret rfl (by decide +kernel) (by decide) (fun h => hRET _ (o13 _ h))
    refine sm_icmp_lt (off := 9) (tgt := 12) h1 (by decide) (by decide +kernel) (fun c31 => ?_) (fun c31 => ?_)
    · refine sm_b (l' := [(0, vi a1)]) (st' := [vi 45, vi a1]) (pc' := 15) [(.iload_n 0, vi 0, 13), (.bipush 45, vi 45, 15)] (by decide +kernel) rfl rfl ?_
      refine sm_icmp_eq (off := 27) (tgt := 42) h1 (by decide) (by decide +kernel) (fun c32 => ?_) (fun c32 => ?_)
      · exact n30 (fun q => (fun q => (fun q => (fun q => (fun q => (fun q => q c32) q.2) q.1) q.1) q.1) q.1)
      · refine sm_b (l' := [(0, vi a1)]) (st' := [vi 43, vi a1]) (pc' := 21) [(.iload_n 0, vi 0, 19), (.bipush 43, vi 43, 21)] (by decide +kernel) rfl rfl ?_
        refine sm_icmp_eq (off := 21) (tgt := 42) h1 (by decide) (by decide +kernel) (fun c33 => ?_) (fun c33 => ?_)
        · exact n30 (fun q => (fun q => (fun q => (fun q => (fun q => q c33) q.2) q.1) q.1) q.1)
        · refine sm_b (l' := [(0, vi a1)]) (st' := [vi 46, vi a1]) (pc' := 27) [(.iload_n 0, vi 0, 25), (.bipush 46, vi 46, 27)] (by decide +kernel) rfl rfl ?_
          refine sm_icmp_eq (off := 15) (tgt := 42) h1 (by decide) (by decide +kernel) (fun c34 => ?_) (fun c34 => ?_)
          · exact n30 (fun q => (fun q => (fun q => (fun q => q c34) q.2) q.1) q.1)
          · refine sm_b (l' := [(0, vi a1)]) (st' := [vi 101, vi a1]) (pc' := 33) [(.iload_n 0, vi 0, 31), (.bipush 101, vi 101, 33)] (by decide +kernel) rfl rfl ?_
            refine sm_icmp_eq (off := 9) (tgt := 42) h1 (by decide) (by decide +kernel) (fun c35 => ?_) (fun c35 => ?_)
            · exact n30 (fun q => (fun q => (fun q => q c35) q.2) q.1)
            · refine sm_b (l' := [(0, vi a1)]) (st' := [vi 69, vi a1]) (pc' := 39) [(.iload_n 0, vi 0, 37), (.bipush 69, vi 69, 39)] (by decide +kernel) rfl rfl ?_
              refine sm_icmp_ne (off := 7) (tgt := 46) h1 (by decide) (by decide +kernel) (fun c36 => ?_) (fun c36 => ?_)
              · exact p29 ⟨⟨⟨⟨⟨(Or.inl c31), c32⟩, c33⟩, c34⟩, c35⟩, c36⟩
              · exact n30 (fun q => (fun q => q c36) q.2)
    · refine sm_b (l' := [(0, vi a1)]) (st' := [vi 57, vi a1]) (pc' := 9) [(.iload_n 0, vi 0, 7), (.bipush 57, vi 57, 9)] (by decide +kernel) rfl rfl ?_
      refine sm_icmp_le (off := 33) (tgt := 42) h1 (by decide) (by decide +kernel) (fun c37 => ?_) (fun c37 => ?_)
      · exact n30 (fun q => (fun q => (fun q => (fun q => (fun q => (fun q => q.elim c31 (fun q => q c37)) q.1) q.1) q.1) q.1) q.1)
      · refine sm_b (l' := [(0, vi a1)]) (st' := [vi 45, vi a1]) (pc' := 15) [(.iload_n 0, vi 0, 13), (.bipush 45, vi 45, 15)] (by decide +kernel) rfl rfl ?_
        refine sm_icmp_eq (off := 27) (tgt := 42) h1 (by decide) (by decide +kernel) (fun c38 => ?_) (fun c38 => ?_)
        · exact n30 (fun q => (fun q => (fun q => (fun q => (fun q => (fun q => q c38) q.2) q.1) q.1) q.1) q.1)
        · refine sm_b (l' := [(0, vi a1)]) (st' := [vi 43, vi a1]) (pc' := 21) [(.iload_n 0, vi 0, 19), (.bipush 43, vi 43, 21)] (by decide +kernel) rfl rfl ?_
          refine sm_icmp_eq (off := 21) (tgt := 42) h1 (by decide) (by decide +kernel) (fun c39 => ?_) (fun c39 => ?_)
          · exact n30 (fun q => (fun q => (fun q => (fun q => (fun q => q c39) q.2) q.1) q.1) q.1)
          · refine sm_b (l' := [(0, vi a1)]) (st' := [vi 46, vi a1]) (pc' := 27) [(.iload_n 0, vi 0, 25), (.bipush 46, vi 46, 27)] (by decide +kernel) rfl rfl ?_
            refine sm_icmp_eq (off := 15) (tgt := 42) h1 (by decide) (by decide +kernel) (fun c40 => ?_) (fun c40 => ?_)
            · exact n30 (fun q => (fun q => (fun q => (fun q => q c40) q.2) q.1) q.1)
            · refine sm_b (l' := [(0, vi a1)]) (st' := [vi 101, vi a1]) (pc' := 33) [(.iload_n 0, vi 0, 31), (.bipush 101, vi 101, 33)] (by decide +kernel) rfl rfl ?_
              refine sm_icmp_eq (off := 9) (tgt := 42) h1 (by decide) (by decide +kernel) (fun c41 => ?_) (fun c41 => ?_)
              · exact n30 (fun q => (fun q => (fun q => q c41) q.2) q.1)
              · refine sm_b (l' := [(0, vi a1)]) (st' := [vi 69, vi a1]) (pc' := 39) [(.iload_n 0, vi 0, 37), (.bipush 69, vi 69, 39)] (by decide +kernel) rfl rfl ?_
                refine sm_icmp_ne (off := 7) (tgt := 46) h1 (by decide) (by decide +kernel) (fun c42 => ?_) (fun c42 => ?_)
                · exact p29 ⟨⟨⟨⟨⟨(Or.inr c37), c38⟩, c39⟩, c40⟩, c41⟩, c42⟩
                · exact n30 (fun q => (fun q => q c42) q.2)
