set_option maxRecDepth 100000
/-! the system: X5_isWord, X5_must, X5_word, X5_isSign, X5_sign, X5_name, X6_init, X7_init, X5_number, X5_enumeration, X3_at -/
def sr_isWord_L28 (u0 : Nat) (u1 : Nat) (σ : ST) : Nat → Int → Option (Int)
  | 0, _ => none
  | n + 1, w2 => gd (rg w2) (if (((slen u1 : Nat) : Int)) ≤ w2 then (some 1) else (gd (sc σ u0 = 6) (Option.bind (sR σ 80 u0) fun p17 => gd (sc σ p17 = 101) (gd (ib ((sI σ 84 u0) + w2) (sN σ p17)) (gd (ib w2 (slen u1)) (if (sbI (sB σ p17 ((sI σ 84 u0) + w2).toNat)) = (((sch u1 w2.toNat : Nat) : Int)) then (sr_isWord_L28 u0 u1 σ n (w2 + 1)) else (some 0)))))))
def sr_isWord (a0 : Nat) (a1 : Nat) (σ : ST) : Option (Int) := gd (sc σ a0 = 6) (gd (rg (sI σ 83 a0)) (gd ((sI σ 83 a0) = 1 → rg ((sI σ 82 a0) - (sI σ 84 a0))) (if ((sI σ 83 a0) = 1) ∧ (((sI σ 82 a0) - (sI σ 84 a0)) = (((slen a1 : Nat) : Int))) then (sr_isWord_L28 a0 a1 σ FU 0) else (some 0))))
set_option maxHeartbeats 4000000 in
theorem sr_isWord_L28_ok {g : GE} (G : GG g) {τ : TT} {Q : VQ} (d : Nat) (hd1 : 6 ≤ d) (u0 : Nat) (u1 : Nat) (σ : ST)  {K : Int → Prop} (hRET : ∀ r : Int, K (r) → Q.1 (some (vi r)) σ τ) : ∀ (n : Nat) (w2 : Int), Sm (V g mX5_isWord d 28 [(0, vr (some u0)), (1, vr (some (gK g u1))), (2, vi w2)] [] σ τ Q) (sr_isWord_L28 u0 u1 σ n w2) K := by
  intro n
  induction n with
  | zero => intro w2; exact sm_none
  | succ n ih =>
    intro w2
    rw [sr_isWord_L28.eq_2]
    refine sm_b (l' := [(0, vr (some u0)), (1, vr (some (gK g u1))), (2, vi w2)]) (st' := [vr (some (gK g u1)), vi w2]) (pc' := 30) [(.iload_n 2, vi 0, 29), (.aload_n 1, vi 0, 30)] (by decide +kernel) rfl rfl ?_
    refine sm_slen (k := u1) G [vi w2] rfl (by decide +kernel) q389 (by omega) rfl ?_
    refine sm_gd (fun h7 => ?_)
    refine sm_case (V g mX5_isWord d 63 [(0, vr (some u0)), (1, vr (some (gK g u1))), (2, vi w2)] [] σ τ Q) (V g mX5_isWord d 36 [(0, vr (some u0)), (1, vr (some (gK g u1))), (2, vi w2)] [] σ τ Q) ?_ ?_ (fun f28 p29 n30 => ?_)
    · refine sm_b (l' := [(0, vr (some u0)), (1, vr (some (gK g u1))), (2, vi w2)]) (st' := [vi 1]) (pc' := 64) [(.iconst 1, vi 1, 64)] (by decide +kernel) rfl rfl ?_
      exact sm_zret rfl (by decide +kernel) (by decide) (fun h => hRET _ h)
    · refine sm_b (l' := [(0, vr (some u0)), (1, vr (some (gK g u1))), (2, vi w2)]) (st' := [vr (some u0)]) (pc' := 37) [(.aload_n 0, vi 0, 37)] (by decide +kernel) rfl rfl ?_
      refine sm_gd (fun h16 => ?_)
      refine sm_g (k := 0) (x := vr (sR σ 80 u0)) cd5 rfl h16 rfl q340 rfl (by decide +kernel) ?_
      refine sm_b (l' := [(0, vr (some u0)), (1, vr (some (gK g u1))), (2, vi w2)]) (st' := [vr (some u0), vr (sR σ 80 u0)]) (pc' := 41) [(.aload_n 0, vi 0, 41)] (by decide +kernel) rfl rfl ?_
      refine sm_g (k := 4) (x := vi (sI σ 84 u0)) cd5 rfl h16 rfl q344 rfl (by decide +kernel) ?_
      refine sm_b (l' := [(0, vr (some u0)), (1, vr (some (gK g u1))), (2, vi w2)]) (st' := [vi ((sI σ 84 u0) + w2), vr (sR σ 80 u0)]) (pc' := 46) [(.iload_n 2, vi 0, 45), (.iadd, vi 0, 46)] (by decide +kernel) rfl rfl ?_
      refine sm_de (fun p17 h18 => ?_)
      refine sm_st [vi ((sI σ 84 u0) + w2), vr (some p17)] (by rw [h18] <;> rfl) ?_
      refine sm_gd (fun h19 => ?_)
      refine sm_gd (fun h20 => ?_)
      refine sm_bl h19 h20 (by decide +kernel) ?_
      refine sm_b (l' := [(0, vr (some u0)), (1, vr (some (gK g u1))), (2, vi w2)]) (st' := [vi w2, vr (some (gK g u1)), vi (sbI (sB σ p17 ((sI σ 84 u0) + w2).toNat))]) (pc' := 49) [(.aload_n 1, vi 0, 48), (.iload_n 2, vi 0, 49)] (by decide +kernel) rfl rfl ?_
      refine sm_gd (fun h21 => ?_)
      refine sm_scha (k := u1) G [vi (sbI (sB σ p17 ((sI σ 84 u0) + w2).toNat))] rfl (by decide +kernel) q399 h21 (by omega) rfl ?_
      refine sm_case (V g mX5_isWord d 57 [(0, vr (some u0)), (1, vr (some (gK g u1))), (2, vi w2)] [] σ τ Q) (V g mX5_isWord d 55 [(0, vr (some u0)), (1, vr (some (gK g u1))), (2, vi w2)] [] σ τ Q) ?_ ?_ (fun f24 p25 n26 => ?_)
      · refine sm_b (l' := [(0, vr (some u0)), (1, vr (some (gK g u1))), (2, vi (w2 + 1))]) (st' := []) (pc' := 28) [(.iinc 2 1, vi 1, 60), (.goto (-32), vi 0, 28)] (by decide +kernel) rfl rfl ?_
        exact ih (w2 + 1)
      · refine sm_b (l' := [(0, vr (some u0)), (1, vr (some (gK g u1))), (2, vi w2)]) (st' := [vi 0]) (pc' := 56) [(.iconst 0, vi 0, 56)] (by decide +kernel) rfl rfl ?_
        exact sm_zret rfl (by decide +kernel) (by decide) (fun h => hRET _ h)
      refine sm_icmp_eq (off := 5) (tgt := 57) (sbI_rg _) (sch_rg _ _) (by decide +kernel) (fun c27 => ?_) (fun c27 => ?_)
      · exact p25 c27
      · exact n26 c27
    refine sm_icmp_ge (off := 30) (tgt := 63) h7 (slen_rg _) (by decide +kernel) (fun c31 => ?_) (fun c31 => ?_)
    · exact p29 c31
    · exact n30 c31
set_option maxHeartbeats 4000000 in
theorem sr_isWord_ok {g : GE} (G : GG g) {τ : TT} (d : Nat) (hd1 : 6 ≤ d) (a0 : Nat) (a1 : Nat)  (σ : ST) (Q : VQ) : Sm (V g mX5_isWord d 0 [(0, vr (some a0)), (1, vr (some (gK g a1)))] [] σ τ Q) (sr_isWord a0 a1 σ) (fun r => Q.1 (some (vi r)) σ τ) := by
  unfold sr_isWord
  refine sm_top (fun K hRET => ?_)
  refine sm_b (l' := [(0, vr (some a0)), (1, vr (some (gK g a1)))]) (st' := [vr (some a0)]) (pc' := 1) [(.aload_n 0, vi 0, 1)] (by decide +kernel) rfl rfl ?_
  refine sm_gd (fun h1 => ?_)
  refine sm_g (k := 3) (x := vi (sI σ 83 a0)) cd5 rfl h1 rfl q343 rfl (by decide +kernel) ?_
  refine sm_b (l' := [(0, vr (some a0)), (1, vr (some (gK g a1)))]) (st' := [vi 1, vi (sI σ 83 a0)]) (pc' := 5) [(.iconst 1, vi 1, 5)] (by decide +kernel) rfl rfl ?_
  refine sm_gd (fun h2 => ?_)
  refine sm_gd (fun h4 => ?_)
  refine sm_case (V g mX5_isWord d 26 [(0, vr (some a0)), (1, vr (some (gK g a1)))] [] σ τ Q) (V g mX5_isWord d 24 [(0, vr (some a0)), (1, vr (some (gK g a1)))] [] σ τ Q) ?_ ?_ (fun f32 p33 n34 => ?_)
  · refine sm_b (l' := [(0, vr (some a0)), (1, vr (some (gK g a1))), (2, vi 0)]) (st' := []) (pc' := 28) [(.iconst 0, vi 0, 27), (.istore_n 2, vi 0, 28)] (by decide +kernel) rfl rfl ?_
    exact sr_isWord_L28_ok G d hd1 a0 a1 σ  (fun r h => hRET _ h) FU 0
  · refine sm_b (l' := [(0, vr (some a0)), (1, vr (some (gK g a1)))]) (st' := [vi 0]) (pc' := 25) [(.iconst 0, vi 0, 25)] (by decide +kernel) rfl rfl ?_
    exact sm_zret rfl (by decide +kernel) (by decide) (fun h => hRET _ h)
  refine sm_icmp_ne (off := 19) (tgt := 24) h2 (by decide) (by decide +kernel) (fun c35 => ?_) (fun c35 => ?_)
  · exact n34 (fun q => c35 q.1)
  · have w3 : (sI σ 83 a0) = 1 := c35
    refine sm_b (l' := [(0, vr (some a0)), (1, vr (some (gK g a1)))]) (st' := [vr (some a0)]) (pc' := 9) [(.aload_n 0, vi 0, 9)] (by decide +kernel) rfl rfl ?_
    refine sm_g (k := 2) (x := vi (sI σ 82 a0)) cd5 rfl h1 rfl q342 rfl (by decide +kernel) ?_
    refine sm_b (l' := [(0, vr (some a0)), (1, vr (some (gK g a1)))]) (st' := [vr (some a0), vi (sI σ 82 a0)]) (pc' := 13) [(.aload_n 0, vi 0, 13)] (by decide +kernel) rfl rfl ?_
    refine sm_g (k := 4) (x := vi (sI σ 84 a0)) cd5 rfl h1 rfl q344 rfl (by decide +kernel) ?_
    refine sm_b (l' := [(0, vr (some a0)), (1, vr (some (gK g a1)))]) (st' := [vr (some (gK g a1)), vi ((sI σ 82 a0) - (sI σ 84 a0))]) (pc' := 18) [(.isub, vi 0, 17), (.aload_n 1, vi 0, 18)] (by decide +kernel) rfl rfl ?_
    refine sm_slen (k := a1) G [vi ((sI σ 82 a0) - (sI σ 84 a0))] rfl (by decide +kernel) q389 (by omega) rfl ?_
    refine sm_icmp_eq (off := 5) (tgt := 26) (h4 w3) (slen_rg _) (by decide +kernel) (fun c36 => ?_) (fun c36 => ?_)
    · exact p33 ⟨c35, c36⟩
    · exact n34 (fun q => c36 q.2)
def sr_must (bb : Nat × Nat) (a0 : Nat) (a1 : Int) (σ : ST) : Option (Option Unit × ST) := gd (rg a1) (if a1 = 0 then (Option.bind (s_fail bb σ) (tB (fun z => (none, z)) fun y4 σ5 => some ((some (), σ5)))) else (some ((some (), σ))))
set_option maxHeartbeats 4000000 in
theorem sr_must_ok {g : GE} (G : GG g) {τ : TT} (d : Nat) (hd1 : 7 ≤ d) (a0 : Nat) (a1 : Int)  (σ : ST) (Q : VQ) : Sm (V g mX5_must d 0 [(0, vr (some a0)), (1, vi a1)] [] σ τ Q) (sr_must (gRm g) a0 a1 σ) (fun r => tQ Q τ (fun _ : Unit => none) r) := by
  unfold sr_must
  refine sm_top (fun K hRET => ?_)
  refine sm_b (l' := [(0, vr (some a0)), (1, vi a1)]) (st' := [vi a1]) (pc' := 1) [(.iload_n 1, vi 0, 1)] (by decide +kernel) rfl rfl ?_
  refine sm_gd (fun h1 => ?_)
  refine sm_case (V g mX5_must d 4 [(0, vr (some a0)), (1, vi a1)] [] σ τ Q) (V g mX5_must d 7 [(0, vr (some a0)), (1, vi a1)] [] σ τ Q) ?_ ?_ (fun f6 p7 n8 => ?_)
  · refine sm_csTE (N := mX5_fail) (d' := d - 1) (fun _ : Unit => none) (fun z => (none, z)) [] [] rfl (by decide +kernel) q441 q442 q140 (Or.inl ⟨rfl, q443⟩) (show okN yX5_fail 0 = true by decide +kernel) rfl rfl (by omega) rfl (fun Q' => s_fail_ok G (d - 1) (by omega) σ Q') (fun z h => hRET _ h) (fun y4 σ5 => ?_)
    exact sm_vret rfl (by decide +kernel) (fun h => hRET _ h)
  · exact sm_vret rfl (by decide +kernel) (fun h => hRET _ h)
  refine sm_if_ne (off := 6) (tgt := 7) h1 (by decide +kernel) (fun c9 => ?_) (fun c9 => ?_)
  · exact n8 c9
  · exact p7 c9
def sr_word (bb : Nat × Nat) (a0 : Nat) (a1 : Nat) (σ : ST) : Option (Option Unit × ST) := gd (sc σ a0 = 6) (Option.bind (sr_isWord a0 a1 σ) fun y2 => Option.bind (sr_must bb a0 y2 σ) (tB (fun z => (none, z)) fun y4 σ5 => gd (sc σ5 a0 = 6) (Option.bind (sr_next bb a0 σ5) fun y7 => some ((some (), y7)))))
set_option maxHeartbeats 4000000 in
theorem sr_word_ok {g : GE} (G : GG g) {τ : TT} (d : Nat) (hd1 : 8 ≤ d) (a0 : Nat) (a1 : Nat)  (σ : ST) (Q : VQ) : Sm (V g mX5_word d 0 [(0, vr (some a0)), (1, vr (some (gK g a1)))] [] σ τ Q) (sr_word (gRm g) a0 a1 σ) (fun r => tQ Q τ (fun _ : Unit => none) r) := by
  unfold sr_word
  refine sm_top (fun K hRET => ?_)
  refine sm_b (l' := [(0, vr (some a0)), (1, vr (some (gK g a1)))]) (st' := [vr (some (gK g a1)), vr (some a0), vr (some a0)]) (pc' := 3) [(.aload_n 0, vi 0, 1), (.aload_n 0, vi 0, 2), (.aload_n 1, vi 0, 3)] (by decide +kernel) rfl rfl ?_
  refine sm_gd (fun h1 => ?_)
  refine sm_cv (N := mX5_isWord) (d' := d - 1) (fun r => (some (vi r))) (fun _ => σ) (fun _ => τ) [vr (some (gK g a1))] [vr (some a0)] rfl (by decide +kernel) q385 q387 qs4 (Or.inl ⟨rfl, q388⟩) (show okN yX5_isWord 1 = true by decide +kernel) (fun H hR => hR.rv G.1 cd5 rfl h1) rfl rfl (by omega) rfl (fun Q' => sr_isWord_ok G (d - 1) (by omega) a0 a1 σ Q') (fun y2 => ?_)
  refine sm_cvT (N := mX5_must) (d' := d - 1) (fun _ : Unit => none) (fun z => (none, z)) [vi y2] [] rfl (by decide +kernel) q437 q439 qs5 (Or.inl ⟨rfl, q440⟩) (show okN yX5_must 1 = true by decide +kernel) (fun H hR => hR.rv G.1 cd5 rfl h1) rfl rfl (by omega) rfl (fun Q' => sr_must_ok G (d - 1) (by omega) a0 y2 σ Q') (fun z h => hRET _ h) (fun y4 σ5 => ?_)
  refine sm_b (l' := [(0, vr (some a0)), (1, vr (some (gK g a1)))]) (st' := [vr (some a0)]) (pc' := 10) [(.aload_n 0, vi 0, 10)] (by decide +kernel) rfl rfl ?_
  refine sm_gd (fun h6 => ?_)
  refine sm_cv (N := mX5_next) (d' := d - 1) (fun r => none) (fun r => r) (fun _ => τ) [] [] rfl (by decide +kernel) q366 q368 qs1 (Or.inl ⟨rfl, q369⟩) (show okN yX5_next 0 = true by decide +kernel) (fun H hR => hR.rv G.1 cd5 rfl h6) rfl rfl (by omega) rfl (fun Q' => sr_next_ok G (d - 1) (by omega) a0 σ5 Q') (fun y7 => ?_)
  exact sm_vret rfl (by decide +kernel) (fun h => hRET _ h)
def sr_isSign (a0 : Nat) (a1 : Int) (σ : ST) : Option (Int) := gd (sc σ a0 = 6) (gd (rg (sI σ 83 a0)) (gd ((sI σ 83 a0) = 3 → rg (sI σ 85 a0)) (gd ((sI σ 83 a0) = 3 → rg a1) (if ((sI σ 83 a0) = 3) ∧ ((sI σ 85 a0) = a1) then (some 1) else (some 0)))))
set_option maxHeartbeats 4000000 in
theorem sr_isSign_ok {g : GE} (G : GG g) {τ : TT} (d : Nat) (hd1 : 0 ≤ d) (a0 : Nat) (a1 : Int)  (σ : ST) (Q : VQ) : Sm (V g mX5_isSign d 0 [(0, vr (some a0)), (1, vi a1)] [] σ τ Q) (sr_isSign a0 a1 σ) (fun r => Q.1 (some (vi r)) σ τ) := by
  unfold sr_isSign
  refine sm_top (fun K hRET => ?_)
  refine sm_b (l' := [(0, vr (some a0)), (1, vi a1)]) (st' := [vr (some a0)]) (pc' := 1) [(.aload_n 0, vi 0, 1)] (by decide +kernel) rfl rfl ?_
  refine sm_gd (fun h1 => ?_)
  refine sm_g (k := 3) (x := vi (sI σ 83 a0)) cd5 rfl h1 rfl q343 rfl (by decide +kernel) ?_
  refine sm_b (l' := [(0, vr (some a0)), (1, vi a1)]) (st' := [vi 3, vi (sI σ 83 a0)]) (pc' := 5) [(.iconst 3, vi 3, 5)] (by decide +kernel) rfl rfl ?_
  refine sm_gd (fun h2 => ?_)
  refine sm_gd (fun h4 => ?_)
  refine sm_gd (fun h5 => ?_)
  refine sm_case (V g mX5_isSign d 16 [(0, vr (some a0)), (1, vi a1)] [] σ τ Q) (V g mX5_isSign d 20 [(0, vr (some a0)), (1, vi a1)] [] σ τ Q) ?_ ?_ (fun f8 p9 n10 => ?_)
  · refine sm_b (l' := [(0, vr (some a0)), (1, vi a1)]) (st' := [vi 1]) (pc' := 21) [(.iconst 1, vi 1, 17), (.goto 4, vi 0, 21)] (by decide +kernel) rfl rfl ?_
    exact sm_zret rfl (by decide +kernel) (by decide) (fun h => hRET _ h)
  · refine sm_b (l' := [(0, vr (some a0)), (1, vi a1)]) (st' := [vi 0]) (pc' := 21) [(.iconst 0, vi 0, 21)] (by decide +kernel) rfl rfl ?_
    exact sm_zret rfl (by decide +kernel) (by decide) (fun h => hRET _ h)
  refine sm_icmp_ne (off := 15) (tgt := 20) h2 (by decide) (by decide +kernel) (fun c11 => ?_) (fun c11 => ?_)
  · exact n10 (fun q => c11 q.1)
  · have w3 : (sI σ 83 a0) = 3 := c11
    refine sm_b (l' := [(0, vr (some a0)), (1, vi a1)]) (st' := [vr (some a0)]) (pc' := 9) [(.aload_n 0, vi 0, 9)] (by decide +kernel) rfl rfl ?_
    refine sm_g (k := 5) (x := vi (sI σ 85 a0)) cd5 rfl h1 rfl q345 rfl (by decide +kernel) ?_
    refine sm_b (l' := [(0, vr (some a0)), (1, vi a1)]) (st' := [vi a1, vi (sI σ 85 a0)]) (pc' := 13) [(.iload_n 1, vi 0, 13)] (by decide +kernel) rfl rfl ?_
    refine sm_icmp_ne (off := 7) (tgt := 20) (h4 w3) (h5 w3) (by decide +kernel) (fun c12 => ?_) (fun c12 => ?_)
    · exact n10 (fun q => c12 q.2)
    · exact p9 ⟨c11, c12⟩
def sr_sign (bb : Nat × Nat) (a0 : Nat) (a1 : Int) (σ : ST) : Option (Option Unit × ST) := gd (sc σ a0 = 6) (Option.bind (sr_isSign a0 a1 σ) fun y2 => Option.bind (sr_must bb a0 y2 σ) (tB (fun z => (none, z)) fun y4 σ5 => gd (sc σ5 a0 = 6) (Option.bind (sr_next bb a0 σ5) fun y7 => some ((some (), y7)))))
set_option maxHeartbeats 4000000 in
theorem sr_sign_ok {g : GE} (G : GG g) {τ : TT} (d : Nat) (hd1 : 8 ≤ d) (a0 : Nat) (a1 : Int)  (σ : ST) (Q : VQ) : Sm (V g mX5_sign d 0 [(0, vr (some a0)), (1, vi a1)] [] σ τ Q) (sr_sign (gRm g) a0 a1 σ) (fun r => tQ Q τ (fun _ : Unit => none) r) := by
  unfold sr_sign
  refine sm_top (fun K hRET => ?_)
  refine sm_b (l' := [(0, vr (some a0)), (1, vi a1)]) (st' := [vi a1, vr (some a0), vr (some a0)]) (pc' := 3) [(.aload_n 0, vi 0, 1), (.aload_n 0, vi 0, 2), (.iload_n 1, vi 0, 3)] (by decide +kernel) rfl rfl ?_
  refine sm_gd (fun h1 => ?_)
  refine sm_cv (N := mX5_isSign) (d' := d - 1) (fun r => (some (vi r))) (fun _ => σ) (fun _ => τ) [vi a1] [vr (some a0)] rfl (by decide +kernel) q509 q511 qs8 (Or.inl ⟨rfl, q512⟩) (show okN yX5_isSign 1 = true by decide +kernel) (fun H hR => hR.rv G.1 cd5 rfl h1) rfl rfl (by omega) rfl (fun Q' => sr_isSign_ok G (d - 1) (by omega) a0 a1 σ Q') (fun y2 => ?_)
  refine sm_cvT (N := mX5_must) (d' := d - 1) (fun _ : Unit => none) (fun z => (none, z)) [vi y2] [] rfl (by decide +kernel) q437 q439 qs5 (Or.inl ⟨rfl, q440⟩) (show okN yX5_must 1 = true by decide +kernel) (fun H hR => hR.rv G.1 cd5 rfl h1) rfl rfl (by omega) rfl (fun Q' => sr_must_ok G (d - 1) (by omega) a0 y2 σ Q') (fun z h => hRET _ h) (fun y4 σ5 => ?_)
  refine sm_b (l' := [(0, vr (some a0)), (1, vi a1)]) (st' := [vr (some a0)]) (pc' := 10) [(.aload_n 0, vi 0, 10)] (by decide +kernel) rfl rfl ?_
  refine sm_gd (fun h6 => ?_)
  refine sm_cv (N := mX5_next) (d' := d - 1) (fun r => none) (fun r => r) (fun _ => τ) [] [] rfl (by decide +kernel) q366 q368 qs1 (Or.inl ⟨rfl, q369⟩) (show okN yX5_next 0 = true by decide +kernel) (fun H hR => hR.rv G.1 cd5 rfl h6) rfl rfl (by omega) rfl (fun Q' => sr_next_ok G (d - 1) (by omega) a0 σ5 Q') (fun y7 => ?_)
  exact sm_vret rfl (by decide +kernel) (fun h => hRET _ h)
def sr_name (bb : Nat × Nat) (a0 : Nat) (σ : ST) : Option (Option (Option Nat) × ST) := gd (sc σ a0 = 6) (Option.bind (gd (rg (sI σ 83 a0)) (if (sI σ 83 a0) = 1 then (some 1) else (some 0))) fun (v5 : Int) => Option.bind (sr_must bb a0 v5 σ) (tB (fun z => (none, z)) fun y10 σ11 => gd (rm bb σ11 2) (nm (nW σ11) fun σ13 => gd (sc σ13 a0 = 6) (gd (sc σ13 (sZ σ11) = 4) (Option.bind (sR σ13 80 a0) fun p16 => Option.bind (r_addA bb (sZ σ11) p16 (sI σ13 84 a0) (sI σ13 82 a0) σ13) fun y18 => gd (sc y18 a0 = 6) (Option.bind (sr_next bb a0 y18) fun y20 => some ((some (some (sZ σ11)), y20))))))))
set_option maxHeartbeats 4000000 in
theorem sr_name_ok {g : GE} (G : GG g) {τ : TT} (d : Nat) (hd1 : 8 ≤ d) (a0 : Nat)  (σ : ST) (Q : VQ) : Sm (V g mX5_name d 0 [(0, vr (some a0))] [] σ τ Q) (sr_name (gRm g) a0 σ) (fun r => tQ Q τ (fun r : Option Nat => some (vr r)) r) := by
  unfold sr_name
  refine sm_top (fun K hRET => ?_)
  refine sm_b (l' := [(0, vr (some a0))]) (st' := [vr (some a0), vr (some a0)]) (pc' := 2) [(.aload_n 0, vi 0, 1), (.aload_n 0, vi 0, 2)] (by decide +kernel) rfl rfl ?_
  refine sm_gd (fun h1 => ?_)
  refine sm_g (k := 3) (x := vi (sI σ 83 a0)) cd5 rfl h1 rfl q343 rfl (by decide +kernel) ?_
  refine sm_b (l' := [(0, vr (some a0))]) (st' := [vi 1, vi (sI σ 83 a0), vr (some a0)]) (pc' := 6) [(.iconst 1, vi 1, 6)] (by decide +kernel) rfl rfl ?_
  refine sm_bind1 (fun (v5 : Int) => V g mX5_name d 14 [(0, vr (some a0))] [vi v5, vr (some a0)] σ τ Q) (fun v5 => ?_) (fun K6 j7 => ?_)
  · refine sm_cvT (N := mX5_must) (d' := d - 1) (fun _ : Unit => none) (fun z => (none, z)) [vi v5] [] rfl (by decide +kernel) q437 q439 qs5 (Or.inl ⟨rfl, q440⟩) (show okN yX5_must 1 = true by decide +kernel) (fun H hR => hR.rv G.1 cd5 rfl h1) rfl rfl (by omega) rfl (fun Q' => sr_must_ok G (d - 1) (by omega) a0 v5 σ Q') (fun z h => hRET _ h) (fun y10 σ11 => ?_)
    refine sm_gd (fun h12 => ?_)
    refine sm_newRowN (i := 79) (i2 := 81) q528 rfl q529 h12 (by omega) rfl (by decide +kernel) (by decide +kernel) (by decide +kernel) ?_
    refine sm_nms (fun σ13 => ?_)
    refine sm_b (l' := [(0, vr (some a0)), (1, vr (some (sZ σ11)))]) (st' := [vr (some a0), vr (some (sZ σ11))]) (pc' := 27) [(.astore_n 1, vi 0, 25), (.aload_n 1, vi 0, 26), (.aload_n 0, vi 0, 27)] (by decide +kernel) rfl rfl ?_
    refine sm_gd (fun h14 => ?_)
    refine sm_g (k := 0) (x := vr (sR σ13 80 a0)) cd5 rfl h14 rfl q340 rfl (by decide +kernel) ?_
    refine sm_b (l' := [(0, vr (some a0)), (1, vr (some (sZ σ11)))]) (st' := [vr (some a0), vr (sR σ13 80 a0), vr (some (sZ σ11))]) (pc' := 31) [(.aload_n 0, vi 0, 31)] (by decide +kernel) rfl rfl ?_
    refine sm_g (k := 4) (x := vi (sI σ13 84 a0)) cd5 rfl h14 rfl q344 rfl (by decide +kernel) ?_
    refine sm_b (l' := [(0, vr (some a0)), (1, vr (some (sZ σ11)))]) (st' := [vr (some a0), vi (sI σ13 84 a0), vr (sR σ13 80 a0), vr (some (sZ σ11))]) (pc' := 35) [(.aload_n 0, vi 0, 35)] (by decide +kernel) rfl rfl ?_
    refine sm_g (k := 2) (x := vi (sI σ13 82 a0)) cd5 rfl h14 rfl q342 rfl (by decide +kernel) ?_
    refine sm_gd (fun h15 => ?_)
    refine sm_de (fun p16 h17 => ?_)
    refine sm_st [vi (sI σ13 82 a0), vi (sI σ13 84 a0), vr (some p16), vr (some (sZ σ11))] (by rw [h17] <;> rfl) ?_
    refine sm_cv (N := mX3_addAll) (d' := d - 1) (fun r => none) (fun r => r) (fun _ => τ) [vr (some p16), vi (sI σ13 84 a0), vi (sI σ13 82 a0)] [] rfl (by decide +kernel) q530 q531 q532 (Or.inl ⟨rfl, q533⟩) (show okN yX3_addAll 3 = true by decide +kernel) (fun H hR => hR.rvR G.1 h15) rfl rfl (by omega) rfl (fun Q' => r_addA_ok G (d - 1) (by omega) (sZ σ11) p16 (sI σ13 84 a0) (sI σ13 82 a0) σ13 Q') (fun y18 => ?_)
    refine sm_b (l' := [(0, vr (some a0)), (1, vr (some (sZ σ11)))]) (st' := [vr (some a0)]) (pc' := 42) [(.aload_n 0, vi 0, 42)] (by decide +kernel) rfl rfl ?_
    refine sm_gd (fun h19 => ?_)
    refine sm_cv (N := mX5_next) (d' := d - 1) (fun r => none) (fun r => r) (fun _ => τ) [] [] rfl (by decide +kernel) q366 q368 qs1 (Or.inl ⟨rfl, q369⟩) (show okN yX5_next 0 = true by decide +kernel) (fun H hR => hR.rv G.1 cd5 rfl h19) rfl rfl (by omega) rfl (fun Q' => sr_next_ok G (d - 1) (by omega) a0 y18 Q') (fun y20 => ?_)
    refine sm_b (l' := [(0, vr (some a0)), (1, vr (some (sZ σ11)))]) (st' := [vr (some (sZ σ11))]) (pc' := 46) [(.aload_n 1, vi 0, 46)] (by decide +kernel) rfl rfl ?_
    exact sm_aret rfl rfl (by decide +kernel) (fun h => hRET _ h)
  · refine sm_gd (fun h2 => ?_)
    refine sm_case (V g mX5_name d 9 [(0, vr (some a0))] [vr (some a0)] σ τ Q) (V g mX5_name d 13 [(0, vr (some a0))] [vr (some a0)] σ τ Q) ?_ ?_ (fun f21 p22 n23 => ?_)
    · refine sm_b (l' := [(0, vr (some a0))]) (st' := [vi 1, vr (some a0)]) (pc' := 14) [(.iconst 1, vi 1, 10), (.goto 4, vi 0, 14)] (by decide +kernel) rfl rfl ?_
      exact sm_leaf (fun h => j7 _ h)
    · refine sm_b (l' := [(0, vr (some a0))]) (st' := [vi 0, vr (some a0)]) (pc' := 14) [(.iconst 0, vi 0, 14)] (by decide +kernel) rfl rfl ?_
      exact sm_leaf (fun h => j7 _ h)
    refine sm_icmp_ne (off := 7) (tgt := 13) h2 (by decide) (by decide +kernel) (fun c24 => ?_) (fun c24 => ?_)
    · exact n23 c24
    · exact p22 c24
def mt_init (bb : Nat × Nat) (a0 : Nat) (a1 : Int) (a2 : Option Nat) (a3 : Option Nat) (σ : ST) : Option (ST) := gd (rm bb σ 3) (nm (nL σ) fun σ2 => gd (sc σ2 a0 = 7) (nm (pR σ2 99 a0 (some (sZ σ))) fun σ4 => gd (rm bb σ4 3) (nm (nL σ4) fun σ6 => gd (sc σ6 a0 = 7) (nm (pR σ6 100 a0 (some (sZ σ4))) fun σ8 => gd (0 ≤ (30 : Int) ∧ (30 : Int) < 16777216 ∧ rm bb σ8 (30 : Int).toNat) (nm (nE σ8 (30 : Int).toNat) fun σ10 => gd (sc σ10 a0 = 7) (nm (pR σ10 101 a0 (some (sZ σ8))) fun σ12 => gd (0 ≤ (0 : Int) ∧ (0 : Int) < 16777216 ∧ rm bb σ12 (0 : Int).toNat) (nm (nF σ12 (0 : Int).toNat) fun σ14 => gd (sc σ14 a0 = 7) (nm (pR σ14 103 a0 (some (sZ σ12))) fun σ16 => gd (sc σ16 a0 = 7) (nm (pI σ16 96 a0 a1) fun σ18 => gd (sc σ18 a0 = 7) (nm (pR σ18 97 a0 a2) fun σ20 => gd (rm bb σ20 4) (nm (nO σ20 3 4) fun σ22 => Option.bind (scp_init bb (sZ σ20) a3 σ22) fun y23 => gd (sc y23 a0 = 7) (nm (pR y23 98 a0 (some (sZ σ20))) fun σ25 => some σ25))))))))))))
set_option maxHeartbeats 4000000 in
theorem mt_init_ok {g : GE} (G : GG g) {τ : TT} (d : Nat) (hd1 : 5 ≤ d) (a0 : Nat) (a1 : Int) (a2 : Option Nat) (a3 : Option Nat)  (σ : ST) (Q : VQ) : Sm (V g mX6_init d 0 [(0, vr (some a0)), (1, vi a1), (2, vr a2), (3, vr a3)] [] σ τ Q) (mt_init (gRm g) a0 a1 a2 a3 σ) (fun r => Q.1 none r τ) := by
  unfold mt_init
  refine sm_top (fun K hRET => ?_)
  refine sm_b (l' := [(0, vr (some a0)), (1, vi a1), (2, vr a2), (3, vr a3)]) (st' := [vr (some a0)]) (pc' := 1) [(.aload_n 0, vi 0, 1)] (by decide +kernel) rfl rfl ?_
  refine sm_obj q545 (by omega) rfl (by decide +kernel) ?_
  refine sm_b (l' := [(0, vr (some a0)), (1, vi a1), (2, vr a2), (3, vr a3)]) (st' := [vr (some a0)]) (pc' := 5) [(.aload_n 0, vi 0, 5)] (by decide +kernel) rfl rfl ?_
  refine sm_gd (fun h1 => ?_)
  refine sm_newList (i := 9) (i2 := 11) q546 rfl q547 h1 (by omega) rfl (by decide +kernel) (by decide +kernel) (by decide +kernel) ?_
  refine sm_nms (fun σ2 => ?_)
  refine sm_gd (fun h3 => ?_)
  refine sm_pF (k := 3) (x := vr (some (sZ σ))) cd6 rfl h3 rfl q560 rfl rfl rfl (nar_r _ rfl) (fit_r _ rfl) rfl (at_pR σ2 99 a0 (some (sZ σ))) (fp_99 σ2 a0 (some (sZ σ))) (by decide +kernel) ?_
  refine sm_nms (fun σ4 => ?_)
  refine sm_b (l' := [(0, vr (some a0)), (1, vi a1), (2, vr a2), (3, vr a3)]) (st' := [vr (some a0)]) (pc' := 16) [(.aload_n 0, vi 0, 16)] (by decide +kernel) rfl rfl ?_
  refine sm_gd (fun h5 => ?_)
  refine sm_newList (i := 9) (i2 := 11) q546 rfl q547 h5 (by omega) rfl (by decide +kernel) (by decide +kernel) (by decide +kernel) ?_
  refine sm_nms (fun σ6 => ?_)
  refine sm_gd (fun h7 => ?_)
  refine sm_pF (k := 4) (x := vr (some (sZ σ4))) cd6 rfl h7 rfl q563 rfl rfl rfl (nar_r _ rfl) (fit_r _ rfl) rfl (at_pR σ6 100 a0 (some (sZ σ4))) (fp_100 σ6 a0 (some (sZ σ4))) (by decide +kernel) ?_
  refine sm_nms (fun σ8 => ?_)
  refine sm_b (l' := [(0, vr (some a0)), (1, vi a1), (2, vr a2), (3, vr a3)]) (st' := [vi 30, vr (some a0)]) (pc' := 29) [(.aload_n 0, vi 0, 27), (.bipush 30, vi 30, 29)] (by decide +kernel) rfl rfl ?_
  refine sm_gd (fun h9 => ?_)
  refine sm_newE q591 h9 (by decide +kernel) ?_
  refine sm_nms (fun σ10 => ?_)
  refine sm_gd (fun h11 => ?_)
  refine sm_pF (k := 5) (x := vr (some (sZ σ8))) cd6 rfl h11 rfl q566 rfl rfl rfl (nar_r _ rfl) (fit_r _ rfl) rfl (at_pR σ10 101 a0 (some (sZ σ8))) (fp_101 σ10 a0 (some (sZ σ8))) (by decide +kernel) ?_
  refine sm_nms (fun σ12 => ?_)
  refine sm_b (l' := [(0, vr (some a0)), (1, vi a1), (2, vr a2), (3, vr a3)]) (st' := [vi 0, vr (some a0)]) (pc' := 36) [(.aload_n 0, vi 0, 35), (.iconst 0, vi 0, 36)] (by decide +kernel) rfl rfl ?_
  refine sm_gd (fun h13 => ?_)
  refine sm_newF q548 q549 h13 (by decide +kernel) ?_
  refine sm_nms (fun σ14 => ?_)
  refine sm_gd (fun h15 => ?_)
  refine sm_p (k := 7) (x := vr (some (sZ σ12))) cd6 rfl h15 rfl q571 rfl (nar_r _ rfl) (fit_r _ rfl) rfl (at_pR σ14 103 a0 (some (sZ σ12))) (fp_103 σ14 a0 (some (sZ σ12))) (by decide +kernel) ?_
  refine sm_nms (fun σ16 => ?_)
  refine sm_b (l' := [(0, vr (some a0)), (1, vi a1), (2, vr a2), (3, vr a3)]) (st' := [vi a1, vr (some a0)]) (pc' := 44) [(.aload_n 0, vi 0, 43), (.iload_n 1, vi 0, 44)] (by decide +kernel) rfl rfl ?_
  refine sm_gd (fun h17 => ?_)
  refine sm_pF (k := 0) (x := vi a1) cd6 rfl h17 rfl q552 rfl rfl rfl (nar_i _) (fit_i _) rfl (at_pI σ16 96 a0 a1) (fp_96 σ16 a0 a1) (by decide +kernel) ?_
  refine sm_nms (fun σ18 => ?_)
  refine sm_b (l' := [(0, vr (some a0)), (1, vi a1), (2, vr a2), (3, vr a3)]) (st' := [vr a2, vr (some a0)]) (pc' := 49) [(.aload_n 0, vi 0, 48), (.aload_n 2, vi 0, 49)] (by decide +kernel) rfl rfl ?_
  refine sm_gd (fun h19 => ?_)
  refine sm_pF (k := 1) (x := vr a2) cd6 rfl h19 rfl q554 rfl rfl rfl (nar_r _ rfl) (fit_r _ rfl) rfl (at_pR σ18 97 a0 a2) (fp_97 σ18 a0 a2) (by decide +kernel) ?_
  refine sm_nms (fun σ20 => ?_)
  refine sm_b (l' := [(0, vr (some a0)), (1, vi a1), (2, vr a2), (3, vr a3)]) (st' := [vr (some a0)]) (pc' := 53) [(.aload_n 0, vi 0, 53)] (by decide +kernel) rfl rfl ?_
  refine sm_gd (fun h21 => ?_)
  refine sm_new cd2 rfl q550 q181 q133 (new_2 σ20) h21 (by decide +kernel) ?_
  refine sm_nms (fun σ22 => ?_)
  refine sm_b (l' := [(0, vr (some a0)), (1, vi a1), (2, vr a2), (3, vr a3)]) (st' := [vr a3, vr (some (sZ σ20)), vr (some (sZ σ20)), vr (some a0)]) (pc' := 58) [(.dup, vi 0, 57), (.aload_n 3, vi 0, 58)] (by decide +kernel) rfl rfl ?_
  refine sm_ci (N := mX2_init) (d' := d - 1) [vr a3] [vr (some (sZ σ20)), vr (some a0)] rfl (by decide +kernel) q551 q183 rfl q184 rfl rfl (show okN yX2_init 1 = true by decide +kernel) rfl rfl (by omega) rfl (fun Q' => scp_init_ok G (d - 1) (by omega) (sZ σ20) a3 σ22 Q') (fun y23 => ?_)
  refine sm_gd (fun h24 => ?_)
  refine sm_pF (k := 2) (x := vr (some (sZ σ20))) cd6 rfl h24 rfl q557 rfl rfl rfl (nar_r _ rfl) (fit_r _ rfl) rfl (at_pR y23 98 a0 (some (sZ σ20))) (fp_98 y23 a0 (some (sZ σ20))) (by decide +kernel) ?_
  refine sm_nms (fun σ25 => ?_)
  exact sm_vret rfl (by decide +kernel) (fun h => hRET _ h)
def et_init (bb : Nat × Nat) (a0 : Nat) (a1 : Int) (a2 : Option Nat) (σ : ST) : Option (ST) := gd (rm bb σ 3) (nm (nL σ) fun σ2 => gd (sc σ2 a0 = 8) (nm (pR σ2 114 a0 (some (sZ σ))) fun σ4 => gd (0 ≤ (40 : Int) ∧ (40 : Int) < 16777216 ∧ rm bb σ4 (40 : Int).toNat) (nm (nE σ4 (40 : Int).toNat) fun σ6 => gd (sc σ6 a0 = 8) (nm (pR σ6 115 a0 (some (sZ σ4))) fun σ8 => gd (sc σ8 a0 = 8) (nm (pI σ8 112 a0 a1) fun σ10 => gd (sc σ10 a0 = 8) (nm (pR σ10 113 a0 a2) fun σ12 => some σ12))))))
set_option maxHeartbeats 4000000 in
theorem et_init_ok {g : GE} (G : GG g) {τ : TT} (d : Nat) (hd1 : 4 ≤ d) (a0 : Nat) (a1 : Int) (a2 : Option Nat)  (σ : ST) (Q : VQ) : Sm (V g mX7_init d 0 [(0, vr (some a0)), (1, vi a1), (2, vr a2)] [] σ τ Q) (et_init (gRm g) a0 a1 a2 σ) (fun r => Q.1 none r τ) := by
  unfold et_init
  refine sm_top (fun K hRET => ?_)
  refine sm_b (l' := [(0, vr (some a0)), (1, vi a1), (2, vr a2)]) (st' := [vr (some a0)]) (pc' := 1) [(.aload_n 0, vi 0, 1)] (by decide +kernel) rfl rfl ?_
  refine sm_obj q662 (by omega) rfl (by decide +kernel) ?_
  refine sm_b (l' := [(0, vr (some a0)), (1, vi a1), (2, vr a2)]) (st' := [vr (some a0)]) (pc' := 5) [(.aload_n 0, vi 0, 5)] (by decide +kernel) rfl rfl ?_
  refine sm_gd (fun h1 => ?_)
  refine sm_newList (i := 9) (i2 := 11) q663 rfl q664 h1 (by omega) rfl (by decide +kernel) (by decide +kernel) (by decide +kernel) ?_
  refine sm_nms (fun σ2 => ?_)
  refine sm_gd (fun h3 => ?_)
  refine sm_pF (k := 2) (x := vr (some (sZ σ))) cd7 rfl h3 rfl q670 rfl rfl rfl (nar_r _ rfl) (fit_r _ rfl) rfl (at_pR σ2 114 a0 (some (sZ σ))) (fp_114 σ2 a0 (some (sZ σ))) (by decide +kernel) ?_
  refine sm_nms (fun σ4 => ?_)
  refine sm_b (l' := [(0, vr (some a0)), (1, vi a1), (2, vr a2)]) (st' := [vi 40, vr (some a0)]) (pc' := 18) [(.aload_n 0, vi 0, 16), (.bipush 40, vi 40, 18)] (by decide +kernel) rfl rfl ?_
  refine sm_gd (fun h5 => ?_)
  refine sm_newE q591 h5 (by decide +kernel) ?_
  refine sm_nms (fun σ6 => ?_)
  refine sm_gd (fun h7 => ?_)
  refine sm_pF (k := 3) (x := vr (some (sZ σ4))) cd7 rfl h7 rfl q672 rfl rfl rfl (nar_r _ rfl) (fit_r _ rfl) rfl (at_pR σ6 115 a0 (some (sZ σ4))) (fp_115 σ6 a0 (some (sZ σ4))) (by decide +kernel) ?_
  refine sm_nms (fun σ8 => ?_)
  refine sm_b (l' := [(0, vr (some a0)), (1, vi a1), (2, vr a2)]) (st' := [vi a1, vr (some a0)]) (pc' := 25) [(.aload_n 0, vi 0, 24), (.iload_n 1, vi 0, 25)] (by decide +kernel) rfl rfl ?_
  refine sm_gd (fun h9 => ?_)
  refine sm_pF (k := 0) (x := vi a1) cd7 rfl h9 rfl q665 rfl rfl rfl (nar_i _) (fit_i _) rfl (at_pI σ8 112 a0 a1) (fp_112 σ8 a0 a1) (by decide +kernel) ?_
  refine sm_nms (fun σ10 => ?_)
  refine sm_b (l' := [(0, vr (some a0)), (1, vi a1), (2, vr a2)]) (st' := [vr a2, vr (some a0)]) (pc' := 30) [(.aload_n 0, vi 0, 29), (.aload_n 2, vi 0, 30)] (by decide +kernel) rfl rfl ?_
  refine sm_gd (fun h11 => ?_)
  refine sm_pF (k := 1) (x := vr a2) cd7 rfl h11 rfl q667 rfl rfl rfl (nar_r _ rfl) (fit_r _ rfl) rfl (at_pR σ10 113 a0 a2) (fp_113 σ10 a0 a2) (by decide +kernel) ?_
  refine sm_nms (fun σ12 => ?_)
  exact sm_vret rfl (by decide +kernel) (fun h => hRET _ h)
def sr_number (bb : Nat × Nat) (a0 : Nat) (σ : ST) : Option (Option Int × ST) := gd (sc σ a0 = 6) (Option.bind (gd (rg (sI σ 83 a0)) (if (sI σ 83 a0) = 2 then (some 1) else (some 0))) fun (v5 : Int) => Option.bind (sr_must bb a0 v5 σ) (tB (fun z => (none, z)) fun y10 σ11 => gd (sc σ11 a0 = 6) (nm (sI σ11 85 a0) fun x13 => Option.bind (sr_next bb a0 σ11) fun y14 => some ((some x13, y14)))))
set_option maxHeartbeats 4000000 in
theorem sr_number_ok {g : GE} (G : GG g) {τ : TT} (d : Nat) (hd1 : 8 ≤ d) (a0 : Nat)  (σ : ST) (Q : VQ) : Sm (V g mX5_number d 0 [(0, vr (some a0))] [] σ τ Q) (sr_number (gRm g) a0 σ) (fun r => tQ Q τ (fun r : Int => some (vi r)) r) := by
  unfold sr_number
  refine sm_top (fun K hRET => ?_)
  refine sm_b (l' := [(0, vr (some a0))]) (st' := [vr (some a0), vr (some a0)]) (pc' := 2) [(.aload_n 0, vi 0, 1), (.aload_n 0, vi 0, 2)] (by decide +kernel) rfl rfl ?_
  refine sm_gd (fun h1 => ?_)
  refine sm_g (k := 3) (x := vi (sI σ 83 a0)) cd5 rfl h1 rfl q343 rfl (by decide +kernel) ?_
  refine sm_b (l' := [(0, vr (some a0))]) (st' := [vi 2, vi (sI σ 83 a0), vr (some a0)]) (pc' := 6) [(.iconst 2, vi 2, 6)] (by decide +kernel) rfl rfl ?_
  refine sm_bind1 (fun (v5 : Int) => V g mX5_number d 14 [(0, vr (some a0))] [vi v5, vr (some a0)] σ τ Q) (fun v5 => ?_) (fun K6 j7 => ?_)
  · refine sm_cvT (N := mX5_must) (d' := d - 1) (fun _ : Unit => none) (fun z => (none, z)) [vi v5] [] rfl (by decide +kernel) q437 q439 qs5 (Or.inl ⟨rfl, q440⟩) (show okN yX5_must 1 = true by decide +kernel) (fun H hR => hR.rv G.1 cd5 rfl h1) rfl rfl (by omega) rfl (fun Q' => sr_must_ok G (d - 1) (by omega) a0 v5 σ Q') (fun z h => hRET _ h) (fun y10 σ11 => ?_)
    refine sm_b (l' := [(0, vr (some a0))]) (st' := [vr (some a0)]) (pc' := 18) [(.aload_n 0, vi 0, 18)] (by decide +kernel) rfl rfl ?_
    refine sm_gd (fun h12 => ?_)
    refine sm_g (k := 5) (x := vi (sI σ11 85 a0)) cd5 rfl h12 rfl q345 rfl (by decide +kernel) ?_
    refine sm_nmi (fun x13 => ?_)
    refine sm_b (l' := [(0, vr (some a0)), (1, vi x13)]) (st' := [vr (some a0)]) (pc' := 23) [(.istore_n 1, vi 0, 22), (.aload_n 0, vi 0, 23)] (by decide +kernel) rfl rfl ?_
    refine sm_cv (N := mX5_next) (d' := d - 1) (fun r => none) (fun r => r) (fun _ => τ) [] [] rfl (by decide +kernel) q366 q368 qs1 (Or.inl ⟨rfl, q369⟩) (show okN yX5_next 0 = true by decide +kernel) (fun H hR => hR.rv G.1 cd5 rfl h12) rfl rfl (by omega) rfl (fun Q' => sr_next_ok G (d - 1) (by omega) a0 σ11 Q') (fun y14 => ?_)
    refine sm_b (l' := [(0, vr (some a0)), (1, vi x13)]) (st' := [vi x13]) (pc' := 27) [(.iload_n 1, vi 0, 27)] (by decide +kernel) rfl rfl ?_
    exact sm_iret rfl (by decide +kernel) (fun h => hRET _ h)
  · refine sm_gd (fun h2 => ?_)
    refine sm_case (V g mX5_number d 9 [(0, vr (some a0))] [vr (some a0)] σ τ Q) (V g mX5_number d 13 [(0, vr (some a0))] [vr (some a0)] σ τ Q) ?_ ?_ (fun f15 p16 n17 => ?_)
    · refine sm_b (l' := [(0, vr (some a0))]) (st' := [vi 1, vr (some a0)]) (pc' := 14) [(.iconst 1, vi 1, 10), (.goto 4, vi 0, 14)] (by decide +kernel) rfl rfl ?_
      exact sm_leaf (fun h => j7 _ h)
    · refine sm_b (l' := [(0, vr (some a0))]) (st' := [vi 0, vr (some a0)]) (pc' := 14) [(.iconst 0, vi 0, 14)] (by decide +kernel) rfl rfl ?_
      exact sm_leaf (fun h => j7 _ h)
    refine sm_icmp_ne (off := 7) (tgt := 13) h2 (by decide) (by decide +kernel) (fun c18 => ?_) (fun c18 => ?_)
    · exact n17 c18
    · exact p16 c18
def sr_enumeration_L91 (bb : Nat × Nat) (u0 : Nat) (u1 : Option Nat) (u2 : Nat) : Nat → ST → Option ((Option Unit × ST) ⊕ (ST))
  | 0, _ => none
  | n + 1, σ => gd (sc σ u0 = 6) (Option.bind (sR σ 86 u0) fun p70 => gd (sc σ p70 = 2) (Option.bind (gd (rg (sI σ 20 p70)) (if 40 ≤ (sI σ 20 p70) then (some 0) else (some 1))) fun (v76 : Int) => Option.bind (sr_must bb u0 v76 σ) (tB (fun z => Sum.inl ((none, z))) fun y81 σ82 => gd (sc σ82 u0 = 6) (Option.bind (sR σ82 86 u0) fun p84 => gd (sc σ82 p84 = 2) (nm (pI σ82 20 p84 ((sI σ82 20 p84) + 1)) fun σ87 => gd (sc σ87 u0 = 6) (Option.bind (sr_name bb u0 σ87) (tB (fun z => Sum.inl ((none, z))) fun y90 σ91 => gd (sc σ91 u0 = 6) (Option.bind (sr_sign bb u0 61 σ91) (tB (fun z => Sum.inl ((none, z))) fun y94 σ95 => gd (sc σ95 u2 = 8) (Option.bind (sR σ95 114 u2) fun p97 => gd (sc σ95 p97 = 16) (Option.bind (l_size p97 σ95) fun y100 => gd (sc σ95 u0 = 6) (Option.bind (sr_number bb u0 σ95) (tB (fun z => Sum.inl ((none, z))) fun y103 σ104 => Option.bind (sR σ95 115 u2) fun p105 => gd (sc σ104 p105 = 102) (gd (ib y100 (sN σ104 p105)) (nm (pE σ104 p105 y100.toNat y103) fun σ109 => gd (sc σ109 u2 = 8) (Option.bind (sR σ109 114 u2) fun p111 => gd (sc σ109 p111 = 16) (Option.bind (l_add bb p111 y90 σ109) fun y114 => Option.bind u1 fun p115 => gd (sc y114.2 p115 = 3) (Option.bind (sR y114.2 35 p115) fun p118 => gd (sc y114.2 p118 = 16) (Option.bind (l_add bb p118 y90 y114.2) fun y121 => gd (sc y121.2 u0 = 6) (Option.bind (sr_sign bb u0 59 y121.2) (tB (fun z => Sum.inl ((none, z))) fun y124 σ125 => gd (sc σ125 u0 = 6) (Option.bind (sr_isSign u0 125 σ125) fun y127 => gd (rg y127) (if y127 = 0 then (sr_enumeration_L91 bb u0 u1 u2 n σ125) else (some (Sum.inr σ125)))))))))))))))))))))))))
def sr_enumeration (bb : Nat × Nat) (a0 : Nat) (a1 : Option Nat) (σ : ST) : Option (Option Unit × ST) := gd (sc σ a0 = 6) (Option.bind (sr_word bb a0 31 σ) (tB (fun z => (none, z)) fun y3 σ4 => gd (sc σ4 a0 = 6) (Option.bind (sR σ4 86 a0) fun p6 => gd (sc σ4 p6 = 2) (Option.bind (sR σ4 18 p6) fun p9 => gd (sc σ4 p9 = 16) (Option.bind (l_size p9 σ4) fun y12 => Option.bind (gd (rg y12) (if 6 ≤ y12 then (some 0) else (some 1))) fun (v16 : Int) => Option.bind (sr_must bb a0 v16 σ4) (tB (fun z => (none, z)) fun y21 σ22 => gd (rm bb σ22 4) (nm (nO σ22 8 4) fun σ24 => gd (sc σ24 a0 = 6) (Option.bind (sR σ24 86 a0) fun p26 => gd (sc σ24 p26 = 2) (Option.bind (sR σ24 18 p26) fun p29 => gd (sc σ24 p29 = 16) (Option.bind (l_size p29 σ24) fun y32 => Option.bind (sr_name bb a0 σ24) (tB (fun z => (none, z)) fun y34 σ35 => Option.bind (et_init bb (sZ σ22) y32 y34 σ35) fun y36 => gd (sc y36 a0 = 6) (Option.bind (sR y36 86 a0) fun p38 => gd (sc y36 p38 = 2) (Option.bind (sR y36 18 p38) fun p41 => gd (sc y36 p41 = 16) (Option.bind (l_add bb p41 (some (sZ σ22)) y36) fun y44 => Option.bind a1 fun p45 => gd (sc y44.2 p45 = 3) (Option.bind (sR y44.2 34 p45) fun p48 => gd (sc y44.2 p48 = 16) (Option.bind (l_add bb p48 (some (sZ σ22)) y44.2) fun y51 => gd (sc y51.2 p45 = 3) (gd (sc y51.2 (sZ σ22) = 8) (Option.bind (sR y51.2 35 p45) fun p54 => gd (sc y51.2 p54 = 16) (Option.bind (l_add bb p54 (sR y51.2 113 (sZ σ22)) y51.2) fun y57 => gd (sc y57.2 a0 = 6) (Option.bind (sr_sign bb a0 123 y57.2) (tB (fun z => (none, z)) fun y60 σ61 => Option.bind (sr_enumeration_L91 bb a0 a1 (sZ σ22) FU σ61) (Sum.elim some fun (v62 : ST) => gd (sc v62 a0 = 6) (Option.bind (sr_next bb a0 v62) fun y67 => some ((some (), y67)))))))))))))))))))))))))
set_option maxHeartbeats 4000000 in
theorem sr_enumeration_L91_ok {g : GE} (G : GG g) {τ : TT} {Q : VQ} (d : Nat) (hd1 : 9 ≤ d) (u0 : Nat) (u1 : Option Nat) (u2 : Nat)  {K : (Option Unit × ST) ⊕ (ST) → Prop} (hRET : ∀ r : Option Unit × ST, K (Sum.inl r) → tQ Q τ (fun _ : Unit => none) r) (hE185 : ∀ v68 : ST, K (Sum.inr v68) → V g mX5_enumeration d 185 [(0, vr (some u0))] [] v68 τ Q) : ∀ (n : Nat) (σ : ST), Sm (V g mX5_enumeration d 91 [(0, vr (some u0)), (1, vr u1), (2, vr (some u2))] [] σ τ Q) (sr_enumeration_L91 (gRm g) u0 u1 u2 n σ) K := by
  intro n
  induction n with
  | zero => intro σ; exact sm_none
  | succ n ih =>
    intro σ
    rw [sr_enumeration_L91.eq_2]
    refine sm_b (l' := [(0, vr (some u0)), (1, vr u1), (2, vr (some u2))]) (st' := [vr (some u0), vr (some u0)]) (pc' := 93) [(.aload_n 0, vi 0, 92), (.aload_n 0, vi 0, 93)] (by decide +kernel) rfl rfl ?_
    refine sm_gd (fun h69 => ?_)
    refine sm_g (k := 6) (x := vr (sR σ 86 u0)) cd5 rfl h69 rfl q346 rfl (by decide +kernel) ?_
    refine sm_de (fun p70 h71 => ?_)
    refine sm_st [vr (some p70), vr (some u0)] (by rw [h71] <;> rfl) ?_
    refine sm_gd (fun h72 => ?_)
    refine sm_gN (k := 4) (x := vi (sI σ 20 p70)) cd1 rfl h72 rfl q248 rfl (by decide +kernel) ?_
    refine sm_b (l' := [(0, vr (some u0)), (1, vr u1), (2, vr (some u2))]) (st' := [vi 40, vi (sI σ 20 p70), vr (some u0)]) (pc' := 101) [(.bipush 40, vi 40, 101)] (by decide +kernel) rfl rfl ?_
    refine sm_bind1 (fun (v76 : Int) => V g mX5_enumeration d 109 [(0, vr (some u0)), (1, vr u1), (2, vr (some u2))] [vi v76, vr (some u0)] σ τ Q) (fun v76 => ?_) (fun K77 j78 => ?_)
    · refine sm_cvT (N := mX5_must) (d' := d - 1) (fun _ : Unit => none) (fun z => Sum.inl ((none, z))) [vi v76] [] rfl (by decide +kernel) q437 q439 qs5 (Or.inl ⟨rfl, q440⟩) (show okN yX5_must 1 = true by decide +kernel) (fun H hR => hR.rv G.1 cd5 rfl h69) rfl rfl (by omega) rfl (fun Q' => sr_must_ok G (d - 1) (by omega) u0 v76 σ Q') (fun z h => hRET _ h) (fun y81 σ82 => ?_)
      refine sm_b (l' := [(0, vr (some u0)), (1, vr u1), (2, vr (some u2))]) (st' := [vr (some u0)]) (pc' := 113) [(.aload_n 0, vi 0, 113)] (by decide +kernel) rfl rfl ?_
      refine sm_gd (fun h83 => ?_)
      refine sm_g (k := 6) (x := vr (sR σ82 86 u0)) cd5 rfl h83 rfl q346 rfl (by decide +kernel) ?_
      refine sm_b (l' := [(0, vr (some u0)), (1, vr u1), (2, vr (some u2))]) (st' := [vr (sR σ82 86 u0), vr (sR σ82 86 u0)]) (pc' := 117) [(.dup, vi 0, 117)] (by decide +kernel) rfl rfl ?_
      refine sm_de (fun p84 h85 => ?_)
      refine sm_st [vr (some p84), vr (sR σ82 86 u0)] (by rw [h85] <;> rfl) ?_
      refine sm_gd (fun h86 => ?_)
      refine sm_gN (k := 4) (x := vi (sI σ82 20 p84)) cd1 rfl h86 rfl q248 rfl (by decide +kernel) ?_
      refine sm_b (l' := [(0, vr (some u0)), (1, vr u1), (2, vr (some u2))]) (st' := [vi ((sI σ82 20 p84) + 1), vr (sR σ82 86 u0)]) (pc' := 122) [(.iconst 1, vi 1, 121), (.iadd, vi 0, 122)] (by decide +kernel) rfl rfl ?_
      refine sm_st [vi ((sI σ82 20 p84) + 1), vr (some p84)] (by rw [h85] <;> rfl) ?_
      refine sm_pN (k := 4) (x := vi ((sI σ82 20 p84) + 1)) cd1 rfl h86 rfl q248 rfl (nar_i _) (fit_i _) rfl (at_pI σ82 20 p84 ((sI σ82 20 p84) + 1)) (fp_20 σ82 p84 ((sI σ82 20 p84) + 1)) (by decide +kernel) ?_
      refine sm_nms (fun σ87 => ?_)
      refine sm_b (l' := [(0, vr (some u0)), (1, vr u1), (2, vr (some u2))]) (st' := [vr (some u0)]) (pc' := 126) [(.aload_n 0, vi 0, 126)] (by decide +kernel) rfl rfl ?_
      refine sm_gd (fun h88 => ?_)
      refine sm_cvT (N := mX5_name) (d' := d - 1) (fun r : Option Nat => some (vr r)) (fun z => Sum.inl ((none, z))) [] [] rfl (by decide +kernel) q524 q526 qs9 (Or.inl ⟨rfl, q527⟩) (show okN yX5_name 0 = true by decide +kernel) (fun H hR => hR.rv G.1 cd5 rfl h88) rfl rfl (by omega) rfl (fun Q' => sr_name_ok G (d - 1) (by omega) u0 σ87 Q') (fun z h => hRET _ h) (fun y90 σ91 => ?_)
      refine sm_b (l' := [(0, vr (some u0)), (1, vr u1), (2, vr (some u2)), (3, vr y90)]) (st' := [vi 61, vr (some u0)]) (pc' := 133) [(.astore_n 3, vi 0, 130), (.aload_n 0, vi 0, 131), (.bipush 61, vi 61, 133)] (by decide +kernel) rfl rfl ?_
      refine sm_gd (fun h92 => ?_)
      refine sm_cvT (N := mX5_sign) (d' := d - 1) (fun _ : Unit => none) (fun z => Sum.inl ((none, z))) [vi 61] [] rfl (by decide +kernel) q505 q507 qs7 (Or.inl ⟨rfl, q508⟩) (show okN yX5_sign 1 = true by decide +kernel) (fun H hR => hR.rv G.1 cd5 rfl h92) rfl rfl (by omega) rfl (fun Q' => sr_sign_ok G (d - 1) (by omega) u0 61 σ91 Q') (fun z h => hRET _ h) (fun y94 σ95 => ?_)
      refine sm_b (l' := [(0, vr (some u0)), (1, vr u1), (2, vr (some u2)), (3, vr y90)]) (st' := [vr (some u2)]) (pc' := 137) [(.aload_n 2, vi 0, 137)] (by decide +kernel) rfl rfl ?_
      refine sm_gd (fun h96 => ?_)
      refine sm_gN (k := 3) (x := vr (sR σ95 115 u2)) cd7 rfl h96 rfl q674 rfl (by decide +kernel) ?_
      refine sm_b (l' := [(0, vr (some u0)), (1, vr u1), (2, vr (some u2)), (3, vr y90)]) (st' := [vr (some u2), vr (sR σ95 115 u2)]) (pc' := 141) [(.aload_n 2, vi 0, 141)] (by decide +kernel) rfl rfl ?_
      refine sm_gN (k := 2) (x := vr (sR σ95 114 u2)) cd7 rfl h96 rfl q671 rfl (by decide +kernel) ?_
      refine sm_de (fun p97 h98 => ?_)
      refine sm_st [vr (some p97), vr (sR σ95 115 u2)] (by rw [h98] <;> rfl) ?_
      refine sm_gd (fun h99 => ?_)
      refine sm_cv (N := mJ2_size) (d' := d - 1) (fun r => (some (vi r))) (fun _ => σ95) (fun _ => τ) [] [vr (sR σ95 115 u2)] rfl (by decide +kernel) q518 q519 q520 (Or.inl ⟨rfl, q521⟩) (show okN yJ2_size 0 = true by decide +kernel) (fun H hR => hR.rvL G.1 h99) rfl rfl (by omega) rfl (fun Q' => l_size_ok G (d - 1) (by omega) p97 σ95 Q') (fun y100 => ?_)
      refine sm_b (l' := [(0, vr (some u0)), (1, vr u1), (2, vr (some u2)), (3, vr y90)]) (st' := [vr (some u0), vi y100, vr (sR σ95 115 u2)]) (pc' := 148) [(.aload_n 0, vi 0, 148)] (by decide +kernel) rfl rfl ?_
      refine sm_gd (fun h101 => ?_)
      refine sm_cvT (N := mX5_number) (d' := d - 1) (fun r : Int => some (vi r)) (fun z => Sum.inl ((none, z))) [] [vi y100, vr (sR σ95 115 u2)] rfl (by decide +kernel) q684 q686 qs14 (Or.inl ⟨rfl, q687⟩) (show okN yX5_number 0 = true by decide +kernel) (fun H hR => hR.rv G.1 cd5 rfl h101) rfl rfl (by omega) rfl (fun Q' => sr_number_ok G (d - 1) (by omega) u0 σ95 Q') (fun z h => hRET _ h) (fun y103 σ104 => ?_)
      refine sm_de (fun p105 h106 => ?_)
      refine sm_st [vi y103, vi y100, vr (some p105)] (by rw [h106] <;> rfl) ?_
      refine sm_gd (fun h107 => ?_)
      refine sm_gd (fun h108 => ?_)
      refine sm_es h107 h108 (by decide +kernel) ?_
      refine sm_nms (fun σ109 => ?_)
      refine sm_b (l' := [(0, vr (some u0)), (1, vr u1), (2, vr (some u2)), (3, vr y90)]) (st' := [vr (some u2)]) (pc' := 153) [(.aload_n 2, vi 0, 153)] (by decide +kernel) rfl rfl ?_
      refine sm_gd (fun h110 => ?_)
      refine sm_gN (k := 2) (x := vr (sR σ109 114 u2)) cd7 rfl h110 rfl q671 rfl (by decide +kernel) ?_
      refine sm_b (l' := [(0, vr (some u0)), (1, vr u1), (2, vr (some u2)), (3, vr y90)]) (st' := [vr y90, vr (sR σ109 114 u2)]) (pc' := 157) [(.aload_n 3, vi 0, 157)] (by decide +kernel) rfl rfl ?_
      refine sm_de (fun p111 h112 => ?_)
      refine sm_st [vr y90, vr (some p111)] (by rw [h112] <;> rfl) ?_
      refine sm_gd (fun h113 => ?_)
      refine sm_cv (N := mJ2_add) (d' := d - 1) (fun r => (some (vi r.1))) (fun r => r.2) (fun _ => τ) [vr y90] [] rfl (by decide +kernel) q592 q593 q594 (Or.inl ⟨rfl, q595⟩) (show okN yJ2_add 1 = true by decide +kernel) (fun H hR => hR.rvL G.1 h113) rfl rfl (by omega) rfl (fun Q' => l_add_ok G (d - 1) (by omega) p111 y90 σ109 Q') (fun y114 => ?_)
      refine sm_b (l' := [(0, vr (some u0)), (1, vr u1), (2, vr (some u2)), (3, vr y90)]) (st' := [vr u1]) (pc' := 162) [(.pop, vi 0, 161), (.aload_n 1, vi 0, 162)] (by decide +kernel) rfl rfl ?_
      refine sm_de (fun p115 h116 => ?_)
      refine sm_st [vr (some p115)] (by rw [h116] <;> rfl) ?_
      refine sm_gd (fun h117 => ?_)
      refine sm_gN (k := 3) (x := vr (sR y114.2 35 p115)) cd2 rfl h117 rfl q221 rfl (by decide +kernel) ?_
      refine sm_b (l' := [(0, vr (some u0)), (1, vr u1), (2, vr (some u2)), (3, vr y90)]) (st' := [vr y90, vr (sR y114.2 35 p115)]) (pc' := 166) [(.aload_n 3, vi 0, 166)] (by decide +kernel) rfl rfl ?_
      refine sm_de (fun p118 h119 => ?_)
      refine sm_st [vr y90, vr (some p118)] (by rw [h119] <;> rfl) ?_
      refine sm_gd (fun h120 => ?_)
      refine sm_cv (N := mJ2_add) (d' := d - 1) (fun r => (some (vi r.1))) (fun r => r.2) (fun _ => τ) [vr y90] [] rfl (by decide +kernel) q592 q593 q594 (Or.inl ⟨rfl, q595⟩) (show okN yJ2_add 1 = true by decide +kernel) (fun H hR => hR.rvL G.1 h120) rfl rfl (by omega) rfl (fun Q' => l_add_ok G (d - 1) (by omega) p118 y90 y114.2 Q') (fun y121 => ?_)
      refine sm_b (l' := [(0, vr (some u0)), (1, vr u1), (2, vr (some u2)), (3, vr y90)]) (st' := [vi 59, vr (some u0)]) (pc' := 173) [(.pop, vi 0, 170), (.aload_n 0, vi 0, 171), (.bipush 59, vi 59, 173)] (by decide +kernel) rfl rfl ?_
      refine sm_gd (fun h122 => ?_)
      refine sm_cvT (N := mX5_sign) (d' := d - 1) (fun _ : Unit => none) (fun z => Sum.inl ((none, z))) [vi 59] [] rfl (by decide +kernel) q505 q507 qs7 (Or.inl ⟨rfl, q508⟩) (show okN yX5_sign 1 = true by decide +kernel) (fun H hR => hR.rv G.1 cd5 rfl h122) rfl rfl (by omega) rfl (fun Q' => sr_sign_ok G (d - 1) (by omega) u0 59 y121.2 Q') (fun z h => hRET _ h) (fun y124 σ125 => ?_)
      refine sm_b (l' := [(0, vr (some u0)), (1, vr u1), (2, vr (some u2)), (3, vr y90)]) (st' := [vi 125, vr (some u0)]) (pc' := 179) [(.aload_n 0, vi 0, 177), (.bipush 125, vi 125, 179)] (by decide +kernel) rfl rfl ?_
      refine sm_gd (fun h126 => ?_)
      refine sm_cv (N := mX5_isSign) (d' := d - 1) (fun r => (some (vi r))) (fun _ => σ125) (fun _ => τ) [vi 125] [] rfl (by decide +kernel) q509 q511 qs8 (Or.inl ⟨rfl, q512⟩) (show okN yX5_isSign 1 = true by decide +kernel) (fun H hR => hR.rv G.1 cd5 rfl h126) rfl rfl (by omega) rfl (fun Q' => sr_isSign_ok G (d - 1) (by omega) u0 125 σ125 Q') (fun y127 => ?_)
      refine sm_gd (fun h128 => ?_)
      refine sm_case (V g mX5_enumeration d 91 [(0, vr (some u0)), (1, vr u1), (2, vr (some u2)), (3, vr y90)] [] σ125 τ Q) (V g mX5_enumeration d 185 [(0, vr (some u0)), (1, vr u1), (2, vr (some u2)), (3, vr y90)] [] σ125 τ Q) ?_ ?_ (fun f129 p130 n131 => ?_)
      · refine sm_pick [0, 1, 2] (l' := [(0, vr (some u0)), (1, vr u1), (2, vr (some u2))]) rfl ?_
        exact ih σ125
      · refine sm_pick [0] (l' := [(0, vr (some u0))]) rfl ?_
        exact sm_leaf (fun h => hE185 _ h)
      refine sm_if_eq (off := (-91)) (tgt := 91) h128 (by decide +kernel) (fun c132 => ?_) (fun c132 => ?_)
      · exact p130 c132
      · exact n131 c132
    · refine sm_gd (fun h73 => ?_)
      refine sm_case (V g mX5_enumeration d 108 [(0, vr (some u0)), (1, vr u1), (2, vr (some u2))] [vr (some u0)] σ τ Q) (V g mX5_enumeration d 104 [(0, vr (some u0)), (1, vr u1), (2, vr (some u2))] [vr (some u0)] σ τ Q) ?_ ?_ (fun f133 p134 n135 => ?_)
      · refine sm_b (l' := [(0, vr (some u0)), (1, vr u1), (2, vr (some u2))]) (st' := [vi 0, vr (some u0)]) (pc' := 109) [(.iconst 0, vi 0, 109)] (by decide +kernel) rfl rfl ?_
        exact sm_leaf (fun h => j78 _ h)
      · refine sm_b (l' := [(0, vr (some u0)), (1, vr u1), (2, vr (some u2))]) (st' := [vi 1, vr (some u0)]) (pc' := 109) [(.iconst 1, vi 1, 105), (.goto 4, vi 0, 109)] (by decide +kernel) rfl rfl ?_
        exact sm_leaf (fun h => j78 _ h)
      refine sm_icmp_ge (off := 7) (tgt := 108) h73 (by decide) (by decide +kernel) (fun c136 => ?_) (fun c136 => ?_)
      · exact p134 c136
      · exact n135 c136
set_option maxHeartbeats 4000000 in
theorem sr_enumeration_ok {g : GE} (G : GG g) {τ : TT} (d : Nat) (hd1 : 9 ≤ d) (a0 : Nat) (a1 : Option Nat)  (σ : ST) (Q : VQ) : Sm (V g mX5_enumeration d 0 [(0, vr (some a0)), (1, vr a1)] [] σ τ Q) (sr_enumeration (gRm g) a0 a1 σ) (fun r => tQ Q τ (fun _ : Unit => none) r) := by
  unfold sr_enumeration
  refine sm_top (fun K hRET => ?_)
  refine sm_b (l' := [(0, vr (some a0)), (1, vr a1)]) (st' := [vr (some a0)]) (pc' := 1) [(.aload_n 0, vi 0, 1)] (by decide +kernel) rfl rfl ?_
  refine sm_str (k := 31) G rfl (by decide +kernel) ?_
  refine sm_gd (fun h1 => ?_)
  refine sm_cvT (N := mX5_word) (d' := d - 1) (fun _ : Unit => none) (fun z => (none, z)) [vr (some (gK g 31))] [] rfl (by decide +kernel) q381 q383 qs3 (Or.inl ⟨rfl, q384⟩) (show okN yX5_word 1 = true by decide +kernel) (fun H hR => hR.rv G.1 cd5 rfl h1) rfl rfl (by omega) rfl (fun Q' => sr_word_ok G (d - 1) (by omega) a0 31 σ Q') (fun z h => hRET _ h) (fun y3 σ4 => ?_)
  refine sm_b (l' := [(0, vr (some a0)), (1, vr a1)]) (st' := [vr (some a0), vr (some a0)]) (pc' := 8) [(.aload_n 0, vi 0, 7), (.aload_n 0, vi 0, 8)] (by decide +kernel) rfl rfl ?_
  refine sm_gd (fun h5 => ?_)
  refine sm_g (k := 6) (x := vr (sR σ4 86 a0)) cd5 rfl h5 rfl q346 rfl (by decide +kernel) ?_
  refine sm_de (fun p6 h7 => ?_)
  refine sm_st [vr (some p6), vr (some a0)] (by rw [h7] <;> rfl) ?_
  refine sm_gd (fun h8 => ?_)
  refine sm_gN (k := 2) (x := vr (sR σ4 18 p6)) cd1 rfl h8 rfl q243 rfl (by decide +kernel) ?_
  refine sm_de (fun p9 h10 => ?_)
  refine sm_st [vr (some p9), vr (some a0)] (by rw [h10] <;> rfl) ?_
  refine sm_gd (fun h11 => ?_)
  refine sm_cv (N := mJ2_size) (d' := d - 1) (fun r => (some (vi r))) (fun _ => σ4) (fun _ => τ) [] [vr (some a0)] rfl (by decide +kernel) q518 q519 q520 (Or.inl ⟨rfl, q521⟩) (show okN yJ2_size 0 = true by decide +kernel) (fun H hR => hR.rvL G.1 h11) rfl rfl (by omega) rfl (fun Q' => l_size_ok G (d - 1) (by omega) p9 σ4 Q') (fun y12 => ?_)
  refine sm_b (l' := [(0, vr (some a0)), (1, vr a1)]) (st' := [vi 6, vi y12, vr (some a0)]) (pc' := 19) [(.bipush 6, vi 6, 19)] (by decide +kernel) rfl rfl ?_
  refine sm_bind1 (fun (v16 : Int) => V g mX5_enumeration d 27 [(0, vr (some a0)), (1, vr a1)] [vi v16, vr (some a0)] σ4 τ Q) (fun v16 => ?_) (fun K17 j18 => ?_)
  · refine sm_cvT (N := mX5_must) (d' := d - 1) (fun _ : Unit => none) (fun z => (none, z)) [vi v16] [] rfl (by decide +kernel) q437 q439 qs5 (Or.inl ⟨rfl, q440⟩) (show okN yX5_must 1 = true by decide +kernel) (fun H hR => hR.rv G.1 cd5 rfl h5) rfl rfl (by omega) rfl (fun Q' => sr_must_ok G (d - 1) (by omega) a0 v16 σ4 Q') (fun z h => hRET _ h) (fun y21 σ22 => ?_)
    refine sm_gd (fun h23 => ?_)
    refine sm_new cd7 rfl q657 q658 q153 (new_7 σ22) h23 (by decide +kernel) ?_
    refine sm_nms (fun σ24 => ?_)
    refine sm_b (l' := [(0, vr (some a0)), (1, vr a1)]) (st' := [vr (some a0), vr (some (sZ σ22)), vr (some (sZ σ22))]) (pc' := 35) [(.dup, vi 0, 34), (.aload_n 0, vi 0, 35)] (by decide +kernel) rfl rfl ?_
    refine sm_gd (fun h25 => ?_)
    refine sm_g (k := 6) (x := vr (sR σ24 86 a0)) cd5 rfl h25 rfl q346 rfl (by decide +kernel) ?_
    refine sm_de (fun p26 h27 => ?_)
    refine sm_st [vr (some p26), vr (some (sZ σ22)), vr (some (sZ σ22))] (by rw [h27] <;> rfl) ?_
    refine sm_gd (fun h28 => ?_)
    refine sm_gN (k := 2) (x := vr (sR σ24 18 p26)) cd1 rfl h28 rfl q243 rfl (by decide +kernel) ?_
    refine sm_de (fun p29 h30 => ?_)
    refine sm_st [vr (some p29), vr (some (sZ σ22)), vr (some (sZ σ22))] (by rw [h30] <;> rfl) ?_
    refine sm_gd (fun h31 => ?_)
    refine sm_cv (N := mJ2_size) (d' := d - 1) (fun r => (some (vi r))) (fun _ => σ24) (fun _ => τ) [] [vr (some (sZ σ22)), vr (some (sZ σ22))] rfl (by decide +kernel) q518 q519 q520 (Or.inl ⟨rfl, q521⟩) (show okN yJ2_size 0 = true by decide +kernel) (fun H hR => hR.rvL G.1 h31) rfl rfl (by omega) rfl (fun Q' => l_size_ok G (d - 1) (by omega) p29 σ24 Q') (fun y32 => ?_)
    refine sm_b (l' := [(0, vr (some a0)), (1, vr a1)]) (st' := [vr (some a0), vi y32, vr (some (sZ σ22)), vr (some (sZ σ22))]) (pc' := 45) [(.aload_n 0, vi 0, 45)] (by decide +kernel) rfl rfl ?_
    refine sm_cvT (N := mX5_name) (d' := d - 1) (fun r : Option Nat => some (vr r)) (fun z => (none, z)) [] [vi y32, vr (some (sZ σ22)), vr (some (sZ σ22))] rfl (by decide +kernel) q524 q526 qs9 (Or.inl ⟨rfl, q527⟩) (show okN yX5_name 0 = true by decide +kernel) (fun H hR => hR.rv G.1 cd5 rfl h25) rfl rfl (by omega) rfl (fun Q' => sr_name_ok G (d - 1) (by omega) a0 σ24 Q') (fun z h => hRET _ h) (fun y34 σ35 => ?_)
    refine sm_ci (N := mX7_init) (d' := d - 1) [vi y32, vr y34] [vr (some (sZ σ22))] rfl (by decide +kernel) q659 q660 rfl q661 rfl rfl (show okN yX7_init 2 = true by decide +kernel) rfl rfl (by omega) rfl (fun Q' => et_init_ok G (d - 1) (by omega) (sZ σ22) y32 y34 σ35 Q') (fun y36 => ?_)
    refine sm_b (l' := [(0, vr (some a0)), (1, vr a1), (2, vr (some (sZ σ22)))]) (st' := [vr (some a0)]) (pc' := 53) [(.astore_n 2, vi 0, 52), (.aload_n 0, vi 0, 53)] (by decide +kernel) rfl rfl ?_
    refine sm_gd (fun h37 => ?_)
    refine sm_g (k := 6) (x := vr (sR y36 86 a0)) cd5 rfl h37 rfl q346 rfl (by decide +kernel) ?_
    refine sm_de (fun p38 h39 => ?_)
    refine sm_st [vr (some p38)] (by rw [h39] <;> rfl) ?_
    refine sm_gd (fun h40 => ?_)
    refine sm_gN (k := 2) (x := vr (sR y36 18 p38)) cd1 rfl h40 rfl q243 rfl (by decide +kernel) ?_
    refine sm_b (l' := [(0, vr (some a0)), (1, vr a1), (2, vr (some (sZ σ22)))]) (st' := [vr (some (sZ σ22)), vr (sR y36 18 p38)]) (pc' := 60) [(.aload_n 2, vi 0, 60)] (by decide +kernel) rfl rfl ?_
    refine sm_de (fun p41 h42 => ?_)
    refine sm_st [vr (some (sZ σ22)), vr (some p41)] (by rw [h42] <;> rfl) ?_
    refine sm_gd (fun h43 => ?_)
    refine sm_cv (N := mJ2_add) (d' := d - 1) (fun r => (some (vi r.1))) (fun r => r.2) (fun _ => τ) [vr (some (sZ σ22))] [] rfl (by decide +kernel) q592 q593 q594 (Or.inl ⟨rfl, q595⟩) (show okN yJ2_add 1 = true by decide +kernel) (fun H hR => hR.rvL G.1 h43) rfl rfl (by omega) rfl (fun Q' => l_add_ok G (d - 1) (by omega) p41 (some (sZ σ22)) y36 Q') (fun y44 => ?_)
    refine sm_b (l' := [(0, vr (some a0)), (1, vr a1), (2, vr (some (sZ σ22)))]) (st' := [vr a1]) (pc' := 65) [(.pop, vi 0, 64), (.aload_n 1, vi 0, 65)] (by decide +kernel) rfl rfl ?_
    refine sm_de (fun p45 h46 => ?_)
    refine sm_st [vr (some p45)] (by rw [h46] <;> rfl) ?_
    refine sm_gd (fun h47 => ?_)
    refine sm_gN (k := 2) (x := vr (sR y44.2 34 p45)) cd2 rfl h47 rfl q218 rfl (by decide +kernel) ?_
    refine sm_b (l' := [(0, vr (some a0)), (1, vr a1), (2, vr (some (sZ σ22)))]) (st' := [vr (some (sZ σ22)), vr (sR y44.2 34 p45)]) (pc' := 69) [(.aload_n 2, vi 0, 69)] (by decide +kernel) rfl rfl ?_
    refine sm_de (fun p48 h49 => ?_)
    refine sm_st [vr (some (sZ σ22)), vr (some p48)] (by rw [h49] <;> rfl) ?_
    refine sm_gd (fun h50 => ?_)
    refine sm_cv (N := mJ2_add) (d' := d - 1) (fun r => (some (vi r.1))) (fun r => r.2) (fun _ => τ) [vr (some (sZ σ22))] [] rfl (by decide +kernel) q592 q593 q594 (Or.inl ⟨rfl, q595⟩) (show okN yJ2_add 1 = true by decide +kernel) (fun H hR => hR.rvL G.1 h50) rfl rfl (by omega) rfl (fun Q' => l_add_ok G (d - 1) (by omega) p48 (some (sZ σ22)) y44.2 Q') (fun y51 => ?_)
    refine sm_b (l' := [(0, vr (some a0)), (1, vr a1), (2, vr (some (sZ σ22)))]) (st' := [vr a1]) (pc' := 74) [(.pop, vi 0, 73), (.aload_n 1, vi 0, 74)] (by decide +kernel) rfl rfl ?_
    refine sm_st [vr (some p45)] (by rw [h46] <;> rfl) ?_
    refine sm_gd (fun h52 => ?_)
    refine sm_gN (k := 3) (x := vr (sR y51.2 35 p45)) cd2 rfl h52 rfl q221 rfl (by decide +kernel) ?_
    refine sm_b (l' := [(0, vr (some a0)), (1, vr a1), (2, vr (some (sZ σ22)))]) (st' := [vr (some (sZ σ22)), vr (sR y51.2 35 p45)]) (pc' := 78) [(.aload_n 2, vi 0, 78)] (by decide +kernel) rfl rfl ?_
    refine sm_gd (fun h53 => ?_)
    refine sm_gN (k := 1) (x := vr (sR y51.2 113 (sZ σ22))) cd7 rfl h53 rfl q669 rfl (by decide +kernel) ?_
    refine sm_de (fun p54 h55 => ?_)
    refine sm_st [vr (sR y51.2 113 (sZ σ22)), vr (some p54)] (by rw [h55] <;> rfl) ?_
    refine sm_gd (fun h56 => ?_)
    refine sm_cv (N := mJ2_add) (d' := d - 1) (fun r => (some (vi r.1))) (fun r => r.2) (fun _ => τ) [vr (sR y51.2 113 (sZ σ22))] [] rfl (by decide +kernel) q592 q593 q594 (Or.inl ⟨rfl, q595⟩) (show okN yJ2_add 1 = true by decide +kernel) (fun H hR => hR.rvL G.1 h56) rfl rfl (by omega) rfl (fun Q' => l_add_ok G (d - 1) (by omega) p54 (sR y51.2 113 (sZ σ22)) y51.2 Q') (fun y57 => ?_)
    refine sm_b (l' := [(0, vr (some a0)), (1, vr a1), (2, vr (some (sZ σ22)))]) (st' := [vi 123, vr (some a0)]) (pc' := 88) [(.pop, vi 0, 85), (.aload_n 0, vi 0, 86), (.bipush 123, vi 123, 88)] (by decide +kernel) rfl rfl ?_
    refine sm_gd (fun h58 => ?_)
    refine sm_cvT (N := mX5_sign) (d' := d - 1) (fun _ : Unit => none) (fun z => (none, z)) [vi 123] [] rfl (by decide +kernel) q505 q507 qs7 (Or.inl ⟨rfl, q508⟩) (show okN yX5_sign 1 = true by decide +kernel) (fun H hR => hR.rv G.1 cd5 rfl h58) rfl rfl (by omega) rfl (fun Q' => sr_sign_ok G (d - 1) (by omega) a0 123 y57.2 Q') (fun z h => hRET _ h) (fun y60 σ61 => ?_)
    refine sm_bindS (fun (v62 : ST) => V g mX5_enumeration d 185 [(0, vr (some a0))] [] v62 τ Q) (fun v62 => ?_) (fun K63 o65 j64 => ?_)
    · refine sm_b (l' := [(0, vr (some a0))]) (st' := [vr (some a0)]) (pc' := 186) [(.aload_n 0, vi 0, 186)] (by decide +kernel) rfl rfl ?_
      refine sm_gd (fun h66 => ?_)
      refine sm_cv (N := mX5_next) (d' := d - 1) (fun r => none) (fun r => r) (fun _ => τ) [] [] rfl (by decide +kernel) q366 q368 qs1 (Or.inl ⟨rfl, q369⟩) (show okN yX5_next 0 = true by decide +kernel) (fun H hR => hR.rv G.1 cd5 rfl h66) rfl rfl (by omega) rfl (fun Q' => sr_next_ok G (d - 1) (by omega) a0 v62 Q') (fun y67 => ?_)
      exact sm_vret rfl (by decide +kernel) (fun h => hRET _ h)
    · exact sr_enumeration_L91_ok G d hd1 a0 a1 (sZ σ22)  (fun r h => hRET _ (o65 _ h)) (fun _ h => j64 _ h) FU σ61
  · refine sm_gd (fun h13 => ?_)
    refine sm_case (V g mX5_enumeration d 26 [(0, vr (some a0)), (1, vr a1)] [vr (some a0)] σ4 τ Q) (V g mX5_enumeration d 22 [(0, vr (some a0)), (1, vr a1)] [vr (some a0)] σ4 τ Q) ?_ ?_ (fun f137 p138 n139 => ?_)
    · refine sm_b (l' := [(0, vr (some a0)), (1, vr a1)]) (st' := [vi 0, vr (some a0)]) (pc' := 27) [(.iconst 0, vi 0, 27)] (by decide +kernel) rfl rfl ?_
      exact sm_leaf (fun h => j18 _ h)
    · refine sm_b (l' := [(0, vr (some a0)), (1, vr a1)]) (st' := [vi 1, vr (some a0)]) (pc' := 27) [(.iconst 1, vi 1, 23), (.goto 4, vi 0, 27)] (by decide +kernel) rfl rfl ?_
      exact sm_leaf (fun h => j18 _ h)
    refine sm_icmp_ge (off := 7) (tgt := 26) h13 (by decide) (by decide +kernel) (fun c140 => ?_) (fun c140 => ?_)
    · exact p138 c140
    · exact n139 c140
def row_at (a0 : Nat) (a1 : Int) (σ : ST) : Option (Int) := gd (rg a1) (gd (¬ (a1 < 0) → sc σ a0 = 4) (if (a1 < 0) ∨ (((((sW σ a0).length : Nat) : Int)) ≤ a1) then (some (((-1)))) else (gd (sc σ a0 = 4) (gd (ib a1 (sW σ a0).length) (some ((iAnd (sbI (rB σ a0 a1)) 255)))))))
set_option maxHeartbeats 4000000 in
theorem row_at_ok {g : GE} (G : GG g) {τ : TT} (d : Nat) (hd1 : 0 ≤ d) (a0 : Nat) (a1 : Int)  (σ : ST) (Q : VQ) : Sm (V g mX3_at d 0 [(0, vr (some a0)), (1, vi a1)] [] σ τ Q) (row_at a0 a1 σ) (fun r => Q.1 (some (vi r)) σ τ) := by
  unfold row_at
  refine sm_top (fun K hRET => ?_)
  refine sm_b (l' := [(0, vr (some a0)), (1, vi a1)]) (st' := [vi a1]) (pc' := 1) [(.iload_n 1, vi 0, 1)] (by decide +kernel) rfl rfl ?_
  refine sm_gd (fun h1 => ?_)
  refine sm_gd (fun h3 => ?_)
  refine sm_case (V g mX3_at d 25 [(0, vr (some a0)), (1, vi a1)] [] σ τ Q) (V g mX3_at d 12 [(0, vr (some a0)), (1, vi a1)] [] σ τ Q) ?_ ?_ (fun f12 p13 n14 => ?_)
  · refine sm_b (l' := [(0, vr (some a0)), (1, vi a1)]) (st' := [vi ((-1))]) (pc' := 26) [(.iconst (-1), vi (-1), 26)] (by decide +kernel) rfl rfl ?_
    exact sm_iret rfl (by decide +kernel) (fun h => hRET _ h)
  · refine sm_b (l' := [(0, vr (some a0)), (1, vi a1)]) (st' := [vr (some a0)]) (pc' := 13) [(.aload_n 0, vi 0, 13)] (by decide +kernel) rfl rfl ?_
    refine sm_gd (fun h10 => ?_)
    refine sm_rcl h10 q274 (by decide +kernel) ?_
    refine sm_b (l' := [(0, vr (some a0)), (1, vi a1)]) (st' := [vi a1, vr (some (sH σ a0))]) (pc' := 17) [(.iload_n 1, vi 0, 17)] (by decide +kernel) rfl rfl ?_
    refine sm_gd (fun h11 => ?_)
    refine sm_rbl h10 h11 (by decide +kernel) ?_
    refine sm_b (l' := [(0, vr (some a0)), (1, vi a1)]) (st' := [vi (iAnd (sbI (rB σ a0 a1)) 255)]) (pc' := 26) [(.sipush 255, vi 255, 21), (.iand, vi 0, 22), (.goto 4, vi 0, 26)] (by decide +kernel) rfl rfl ?_
    exact sm_iret rfl (by decide +kernel) (fun h => hRET _ h)
  refine sm_if_lt (off := 24) (tgt := 25) h1 (by decide +kernel) (fun c15 => ?_) (fun c15 => ?_)
  · exact p13 (Or.inl c15)
  · have w2 : ¬ (a1 < 0) := c15
    refine sm_b (l' := [(0, vr (some a0)), (1, vi a1)]) (st' := [vr (some a0), vi a1]) (pc' := 6) [(.iload_n 1, vi 0, 5), (.aload_n 0, vi 0, 6)] (by decide +kernel) rfl rfl ?_
    refine sm_rsz (h3 w2) q278 (by decide +kernel) ?_
    refine sm_rowf (h3 w2) (fun b4 b5 => ?_)
    refine sm_icmp_ge (off := 16) (tgt := 25) h1 (rwl_rg (Nat.lt_of_le_of_lt b4 b5)) (by decide +kernel) (fun c16 => ?_) (fun c16 => ?_)
    · exact p13 (Or.inr c16)
    · exact n14 (fun q => q.elim c15 c16)
