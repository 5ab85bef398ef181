set_option maxRecDepth 100000
/-! the reference: X4_sign, X4_looks, X4_word, X4_number, X4_readEnum, X4_readField, X4_readOneof -/
def m_sign (a1 : Nat) (τ : TT) : Option (TT) := gd (rg (tI τ 14)) (gd ((tI τ 14) = 0 → ib (tI τ 13) 1001) (gd ((tI τ 14) = 0 → rg (tA τ 9 (tI τ 13).toNat)) (gd (((tI τ 14) = 0) ∧ ((tA τ 9 (tI τ 13).toNat) = 3) → ok (m_is (tI τ 13) a1 τ)) (gd (((tI τ 14) = 0) ∧ ((tA τ 9 (tI τ 13).toNat) = 3) → rg (vv (m_is (tI τ 13) a1 τ))) (if (((tI τ 14) = 0) ∧ ((tA τ 9 (tI τ 13).toNat) = 3)) ∧ (¬ ((vv (m_is (tI τ 13) a1 τ)) = 0)) then (nm (uI τ 13 ((tI τ 13) + 1)) fun τ10 => some τ10) else (nm (uI τ 14 1) fun τ11 => some τ11))))))
set_option maxHeartbeats 4000000 in
theorem m_sign_ok {g : GE} (G : GG g) {σ : ST} (d : Nat) (hd1 : 7 ≤ d) (a1 : Nat)  (τ : TT) (Q : VQ) : Sm (V g mX4_sign d 0 [(0, vr (some (gw g))), (1, vr (some (gK g a1)))] [] σ τ Q) (m_sign a1 τ) (fun r => Q.1 none σ r) := by
  unfold m_sign
  refine sm_top (fun K hRET => ?_)
  refine sm_b (l' := [(0, vr (some (gw g))), (1, vr (some (gK g a1)))]) (st' := [vr (some (gw g))]) (pc' := 1) [(.aload_n 0, vi 0, 1)] (by decide +kernel) rfl rfl ?_
  refine sm_tg (k := 14) (x := vi (tI τ 14)) G.2.1 q1432 rfl rfl (by decide +kernel) ?_
  refine sm_gd (fun h1 => ?_)
  refine sm_gd (fun h3 => ?_)
  refine sm_gd (fun h4 => ?_)
  refine sm_gd (fun h6 => ?_)
  refine sm_gd (fun h7 => ?_)
  refine sm_case (V g mX4_sign d 40 [(0, vr (some (gw g))), (1, vr (some (gK g a1)))] [] σ τ Q) (V g mX4_sign d 32 [(0, vr (some (gw g))), (1, vr (some (gK g a1)))] [] σ τ Q) ?_ ?_ (fun f12 p13 n14 => ?_)
  · refine sm_b (l' := [(0, vr (some (gw g))), (1, vr (some (gK g a1)))]) (st' := [vr (some (gw g)), vr (some (gw g))]) (pc' := 42) [(.aload_n 0, vi 0, 41), (.dup, vi 0, 42)] (by decide +kernel) rfl rfl ?_
    refine sm_tg (k := 13) (x := vi (tI τ 13)) G.2.1 q1431 rfl rfl (by decide +kernel) ?_
    refine sm_b (l' := [(0, vr (some (gw g))), (1, vr (some (gK g a1)))]) (st' := [vi ((tI τ 13) + 1), vr (some (gw g))]) (pc' := 47) [(.iconst 1, vi 1, 46), (.iadd, vi 0, 47)] (by decide +kernel) rfl rfl ?_
    refine sm_tpi (k := 13) G.2.1 q1431 rfl rfl rfl (tp_13 g τ ((tI τ 13) + 1)) (by decide +kernel) ?_
    refine sm_nmt (fun τ10 => ?_)
    exact sm_vret rfl (by decide +kernel) (fun h => hRET _ h)
  · refine sm_b (l' := [(0, vr (some (gw g))), (1, vr (some (gK g a1)))]) (st' := [vi 1, vr (some (gw g))]) (pc' := 34) [(.aload_n 0, vi 0, 33), (.iconst 1, vi 1, 34)] (by decide +kernel) rfl rfl ?_
    refine sm_tpz (k := 14) G.2.1 q1432 rfl rfl rfl (tp_14 g τ 1) (by decide) (by decide +kernel) ?_
    refine sm_nmt (fun τ11 => ?_)
    refine sm_b (l' := [(0, vr (some (gw g))), (1, vr (some (gK g a1)))]) (st' := []) (pc' := 50) [(.goto 13, vi 0, 50)] (by decide +kernel) rfl rfl ?_
    exact sm_vret rfl (by decide +kernel) (fun h => hRET _ h)
  refine sm_if_ne (off := 28) (tgt := 32) h1 (by decide +kernel) (fun c15 => ?_) (fun c15 => ?_)
  · exact n14 (fun q => (fun q => c15 q.1) q.1)
  · have w2 : (tI τ 14) = 0 := c15
    refine sm_b (l' := [(0, vr (some (gw g))), (1, vr (some (gK g a1)))]) (st' := [vr (some (gw g))]) (pc' := 8) [(.aload_n 0, vi 0, 8)] (by decide +kernel) rfl rfl ?_
    refine sm_tg (k := 9) (x := vr (some (gT g 9))) G.2.1 q1427 rfl rfl (by decide +kernel) ?_
    refine sm_b (l' := [(0, vr (some (gw g))), (1, vr (some (gK g a1)))]) (st' := [vr (some (gw g)), vr (some (gT g 9))]) (pc' := 12) [(.aload_n 0, vi 0, 12)] (by decide +kernel) rfl rfl ?_
    refine sm_tg (k := 13) (x := vi (tI τ 13)) G.2.1 q1431 rfl rfl (by decide +kernel) ?_
    refine sm_ial (k := 9) G.2.1 (by decide) rfl (ibt (k := 9) (h3 w2)) (h3 w2) (by decide +kernel) ?_
    refine sm_b (l' := [(0, vr (some (gw g))), (1, vr (some (gK g a1)))]) (st' := [vi 3, vi (tA τ 9 (tI τ 13).toNat)]) (pc' := 17) [(.iconst 3, vi 3, 17)] (by decide +kernel) rfl rfl ?_
    refine sm_icmp_ne (off := 15) (tgt := 32) (h4 w2) (by decide) (by decide +kernel) (fun c16 => ?_) (fun c16 => ?_)
    · exact n14 (fun q => (fun q => c16 q.2) q.1)
    · have w5 : ((tI τ 14) = 0) ∧ ((tA τ 9 (tI τ 13).toNat) = 3) := ⟨c15, c16⟩
      refine sm_b (l' := [(0, vr (some (gw g))), (1, vr (some (gK g a1)))]) (st' := [vr (some (gw g)), vr (some (gw g))]) (pc' := 22) [(.aload_n 0, vi 0, 21), (.aload_n 0, vi 0, 22)] (by decide +kernel) rfl rfl ?_
      refine sm_tg (k := 13) (x := vi (tI τ 13)) G.2.1 q1431 rfl rfl (by decide +kernel) ?_
      refine sm_b (l' := [(0, vr (some (gw g))), (1, vr (some (gK g a1)))]) (st' := [vr (some (gK g a1)), vi (tI τ 13), vr (some (gw g))]) (pc' := 26) [(.aload_n 1, vi 0, 26)] (by decide +kernel) rfl rfl ?_
      refine sm_cvp (N := mX4_is) (d' := d - 1) (fun r => (some (vi r))) (some (vi (vv (m_is (tI τ 13) a1 τ)))) (h6 w5) (fun y h => by rw [vv_some h]) [vi (tI τ 13), vr (some (gK g a1))] [] rfl (by decide +kernel) q1638 q1640 qs52 (Or.inl ⟨rfl, q1641⟩) (show okN yX4_is 2 = true by decide +kernel) (fun H hR => hR.rvw G.1 G.2.1) rfl rfl (by omega) rfl (fun Q' => m_is_ok G (d - 1) (by omega) (tI τ 13) a1 τ Q') ?_
      refine sm_if_ne (off := 11) (tgt := 40) (h7 w5) (by decide +kernel) (fun c17 => ?_) (fun c17 => ?_)
      · exact p13 ⟨⟨c15, c16⟩, c17⟩
      · exact n14 (fun q => (fun q => q c17) q.2)
def m_looks (a1 : Nat) (τ : TT) : Option (Int) := gd (rg (tI τ 14)) (gd ((tI τ 14) = 0 → ib (tI τ 13) 1001) (gd ((tI τ 14) = 0 → rg (tA τ 9 (tI τ 13).toNat)) (gd (((tI τ 14) = 0) ∧ ((tA τ 9 (tI τ 13).toNat) = 1) → ok (m_is (tI τ 13) a1 τ)) (gd (((tI τ 14) = 0) ∧ ((tA τ 9 (tI τ 13).toNat) = 1) → rg (vv (m_is (tI τ 13) a1 τ))) (if (((tI τ 14) = 0) ∧ ((tA τ 9 (tI τ 13).toNat) = 1)) ∧ (¬ ((vv (m_is (tI τ 13) a1 τ)) = 0)) then (some 1) else (some 0))))))
set_option maxHeartbeats 4000000 in
theorem m_looks_ok {g : GE} (G : GG g) {σ : ST} (d : Nat) (hd1 : 7 ≤ d) (a1 : Nat)  (τ : TT) (Q : VQ) : Sm (V g mX4_looks d 0 [(0, vr (some (gw g))), (1, vr (some (gK g a1)))] [] σ τ Q) (m_looks a1 τ) (fun r => Q.1 (some (vi r)) σ τ) := by
  unfold m_looks
  refine sm_top (fun K hRET => ?_)
  refine sm_b (l' := [(0, vr (some (gw g))), (1, vr (some (gK g a1)))]) (st' := [vr (some (gw g))]) (pc' := 1) [(.aload_n 0, vi 0, 1)] (by decide +kernel) rfl rfl ?_
  refine sm_tg (k := 14) (x := vi (tI τ 14)) G.2.1 q1432 rfl rfl (by decide +kernel) ?_
  refine sm_gd (fun h1 => ?_)
  refine sm_gd (fun h3 => ?_)
  refine sm_gd (fun h4 => ?_)
  refine sm_gd (fun h6 => ?_)
  refine sm_gd (fun h7 => ?_)
  refine sm_case (V g mX4_looks d 32 [(0, vr (some (gw g))), (1, vr (some (gK g a1)))] [] σ τ Q) (V g mX4_looks d 36 [(0, vr (some (gw g))), (1, vr (some (gK g a1)))] [] σ τ Q) ?_ ?_ (fun f10 p11 n12 => ?_)
  · refine sm_b (l' := [(0, vr (some (gw g))), (1, vr (some (gK g a1)))]) (st' := [vi 1]) (pc' := 37) [(.iconst 1, vi 1, 33), (.goto 4, vi 0, 37)] (by decide +kernel) rfl rfl ?_
    exact sm_zret rfl (by decide +kernel) (by decide) (fun h => hRET _ h)
  · refine sm_b (l' := [(0, vr (some (gw g))), (1, vr (some (gK g a1)))]) (st' := [vi 0]) (pc' := 37) [(.iconst 0, vi 0, 37)] (by decide +kernel) rfl rfl ?_
    exact sm_zret rfl (by decide +kernel) (by decide) (fun h => hRET _ h)
  refine sm_if_ne (off := 32) (tgt := 36) h1 (by decide +kernel) (fun c13 => ?_) (fun c13 => ?_)
  · exact n12 (fun q => (fun q => c13 q.1) q.1)
  · have w2 : (tI τ 14) = 0 := c13
    refine sm_b (l' := [(0, vr (some (gw g))), (1, vr (some (gK g a1)))]) (st' := [vr (some (gw g))]) (pc' := 8) [(.aload_n 0, vi 0, 8)] (by decide +kernel) rfl rfl ?_
    refine sm_tg (k := 9) (x := vr (some (gT g 9))) G.2.1 q1427 rfl rfl (by decide +kernel) ?_
    refine sm_b (l' := [(0, vr (some (gw g))), (1, vr (some (gK g a1)))]) (st' := [vr (some (gw g)), vr (some (gT g 9))]) (pc' := 12) [(.aload_n 0, vi 0, 12)] (by decide +kernel) rfl rfl ?_
    refine sm_tg (k := 13) (x := vi (tI τ 13)) G.2.1 q1431 rfl rfl (by decide +kernel) ?_
    refine sm_ial (k := 9) G.2.1 (by decide) rfl (ibt (k := 9) (h3 w2)) (h3 w2) (by decide +kernel) ?_
    refine sm_b (l' := [(0, vr (some (gw g))), (1, vr (some (gK g a1)))]) (st' := [vi 1, vi (tA τ 9 (tI τ 13).toNat)]) (pc' := 17) [(.iconst 1, vi 1, 17)] (by decide +kernel) rfl rfl ?_
    refine sm_icmp_ne (off := 19) (tgt := 36) (h4 w2) (by decide) (by decide +kernel) (fun c14 => ?_) (fun c14 => ?_)
    · exact n12 (fun q => (fun q => c14 q.2) q.1)
    · have w5 : ((tI τ 14) = 0) ∧ ((tA τ 9 (tI τ 13).toNat) = 1) := ⟨c13, c14⟩
      refine sm_b (l' := [(0, vr (some (gw g))), (1, vr (some (gK g a1)))]) (st' := [vr (some (gw g)), vr (some (gw g))]) (pc' := 22) [(.aload_n 0, vi 0, 21), (.aload_n 0, vi 0, 22)] (by decide +kernel) rfl rfl ?_
      refine sm_tg (k := 13) (x := vi (tI τ 13)) G.2.1 q1431 rfl rfl (by decide +kernel) ?_
      refine sm_b (l' := [(0, vr (some (gw g))), (1, vr (some (gK g a1)))]) (st' := [vr (some (gK g a1)), vi (tI τ 13), vr (some (gw g))]) (pc' := 26) [(.aload_n 1, vi 0, 26)] (by decide +kernel) rfl rfl ?_
      refine sm_cvp (N := mX4_is) (d' := d - 1) (fun r => (some (vi r))) (some (vi (vv (m_is (tI τ 13) a1 τ)))) (h6 w5) (fun y h => by rw [vv_some h]) [vi (tI τ 13), vr (some (gK g a1))] [] rfl (by decide +kernel) q1638 q1640 qs52 (Or.inl ⟨rfl, q1641⟩) (show okN yX4_is 2 = true by decide +kernel) (fun H hR => hR.rvw G.1 G.2.1) rfl rfl (by omega) rfl (fun Q' => m_is_ok G (d - 1) (by omega) (tI τ 13) a1 τ Q') ?_
      refine sm_if_eq (off := 7) (tgt := 36) (h7 w5) (by decide +kernel) (fun c15 => ?_) (fun c15 => ?_)
      · exact n12 (fun q => (fun q => q c15) q.2)
      · exact p11 ⟨⟨c13, c14⟩, c15⟩
def m_word  (τ : TT) : Option (Int × TT) := gd (rg (tI τ 14)) (gd ((tI τ 14) = 0 → ib (tI τ 13) 1001) (gd ((tI τ 14) = 0 → rg (tA τ 9 (tI τ 13).toNat)) (if ((tI τ 14) = 0) ∧ ((tA τ 9 (tI τ 13).toNat) = 1) then (nm (uI τ 13 ((tI τ 13) + 1)) fun τ7 => some (((tI τ7 13) - 1, τ7))) else (nm (uI τ 14 1) fun τ8 => some ((0, τ8))))))
set_option maxHeartbeats 4000000 in
theorem m_word_ok {g : GE} (G : GG g) {σ : ST} (d : Nat) (hd1 : 0 ≤ d)   (τ : TT) (Q : VQ) : Sm (V g mX4_word d 0 [(0, vr (some (gw g)))] [] σ τ Q) (m_word τ) (fun r => Q.1 (some (vi r.1)) σ r.2) := by
  unfold m_word
  refine sm_top (fun K hRET => ?_)
  refine sm_b (l' := [(0, vr (some (gw g)))]) (st' := [vr (some (gw g))]) (pc' := 1) [(.aload_n 0, vi 0, 1)] (by decide +kernel) rfl rfl ?_
  refine sm_tg (k := 14) (x := vi (tI τ 14)) G.2.1 q1432 rfl rfl (by decide +kernel) ?_
  refine sm_gd (fun h1 => ?_)
  refine sm_gd (fun h3 => ?_)
  refine sm_gd (fun h4 => ?_)
  refine sm_case (V g mX4_word d 27 [(0, vr (some (gw g)))] [] σ τ Q) (V g mX4_word d 20 [(0, vr (some (gw g)))] [] σ τ Q) ?_ ?_ (fun f9 p10 n11 => ?_)
  · refine sm_b (l' := [(0, vr (some (gw g)))]) (st' := [vr (some (gw g)), vr (some (gw g))]) (pc' := 29) [(.aload_n 0, vi 0, 28), (.dup, vi 0, 29)] (by decide +kernel) rfl rfl ?_
    refine sm_tg (k := 13) (x := vi (tI τ 13)) G.2.1 q1431 rfl rfl (by decide +kernel) ?_
    refine sm_b (l' := [(0, vr (some (gw g)))]) (st' := [vi ((tI τ 13) + 1), vr (some (gw g))]) (pc' := 34) [(.iconst 1, vi 1, 33), (.iadd, vi 0, 34)] (by decide +kernel) rfl rfl ?_
    refine sm_tpi (k := 13) G.2.1 q1431 rfl rfl rfl (tp_13 g τ ((tI τ 13) + 1)) (by decide +kernel) ?_
    refine sm_nmt (fun τ7 => ?_)
    refine sm_b (l' := [(0, vr (some (gw g)))]) (st' := [vr (some (gw g))]) (pc' := 38) [(.aload_n 0, vi 0, 38)] (by decide +kernel) rfl rfl ?_
    refine sm_tg (k := 13) (x := vi (tI τ7 13)) G.2.1 q1431 rfl rfl (by decide +kernel) ?_
    refine sm_b (l' := [(0, vr (some (gw g)))]) (st' := [vi ((tI τ7 13) - 1)]) (pc' := 43) [(.iconst 1, vi 1, 42), (.isub, vi 0, 43)] (by decide +kernel) rfl rfl ?_
    exact sm_iret rfl (by decide +kernel) (fun h => hRET _ h)
  · refine sm_b (l' := [(0, vr (some (gw g)))]) (st' := [vi 1, vr (some (gw g))]) (pc' := 22) [(.aload_n 0, vi 0, 21), (.iconst 1, vi 1, 22)] (by decide +kernel) rfl rfl ?_
    refine sm_tpz (k := 14) G.2.1 q1432 rfl rfl rfl (tp_14 g τ 1) (by decide) (by decide +kernel) ?_
    refine sm_nmt (fun τ8 => ?_)
    refine sm_b (l' := [(0, vr (some (gw g)))]) (st' := [vi 0]) (pc' := 26) [(.iconst 0, vi 0, 26)] (by decide +kernel) rfl rfl ?_
    exact sm_iret rfl (by decide +kernel) (fun h => hRET _ h)
  refine sm_if_ne (off := 16) (tgt := 20) h1 (by decide +kernel) (fun c12 => ?_) (fun c12 => ?_)
  · exact n11 (fun q => c12 q.1)
  · have w2 : (tI τ 14) = 0 := c12
    refine sm_b (l' := [(0, vr (some (gw g)))]) (st' := [vr (some (gw g))]) (pc' := 8) [(.aload_n 0, vi 0, 8)] (by decide +kernel) rfl rfl ?_
    refine sm_tg (k := 9) (x := vr (some (gT g 9))) G.2.1 q1427 rfl rfl (by decide +kernel) ?_
    refine sm_b (l' := [(0, vr (some (gw g)))]) (st' := [vr (some (gw g)), vr (some (gT g 9))]) (pc' := 12) [(.aload_n 0, vi 0, 12)] (by decide +kernel) rfl rfl ?_
    refine sm_tg (k := 13) (x := vi (tI τ 13)) G.2.1 q1431 rfl rfl (by decide +kernel) ?_
    refine sm_ial (k := 9) G.2.1 (by decide) rfl (ibt (k := 9) (h3 w2)) (h3 w2) (by decide +kernel) ?_
    refine sm_b (l' := [(0, vr (some (gw g)))]) (st' := [vi 1, vi (tA τ 9 (tI τ 13).toNat)]) (pc' := 17) [(.iconst 1, vi 1, 17)] (by decide +kernel) rfl rfl ?_
    refine sm_icmp_eq (off := 10) (tgt := 27) (h4 w2) (by decide) (by decide +kernel) (fun c13 => ?_) (fun c13 => ?_)
    · exact p10 ⟨c12, c13⟩
    · exact n11 (fun q => c13 q.2)
def m_number_L31 (τ : TT) : Nat → Int → Int → Option (Int)
  | 0, _, _ => none
  | n + 1, w1, w2 => gd (ib (tI τ 13) 1001) (gd (rg w2) (gd (rg (tA τ 11 (tI τ 13).toNat)) (if (tA τ 11 (tI τ 13).toNat) ≤ w2 then (some w1) else (gd (ib ((tA τ 10 (tI τ 13).toNat) + w2) 1000) (nm (((10 * w1) + (tA τ 8 ((tA τ 10 (tI τ 13).toNat) + w2).toNat)) - 48) fun x19 => m_number_L31 τ n x19 (w2 + 1))))))
def m_number  (τ : TT) : Option (Int × TT) := gd (rg (tI τ 14)) (gd ((tI τ 14) = 0 → ib (tI τ 13) 1001) (gd ((tI τ 14) = 0 → rg (tA τ 9 (tI τ 13).toNat)) (if ((tI τ 14) = 0) ∧ ((tA τ 9 (tI τ 13).toNat) = 2) then (Option.bind (m_number_L31 τ FU 0 0) fun (v7 : Int) => nm (uI τ 13 ((tI τ 13) + 1)) fun τ11 => some ((v7, τ11))) else (nm (uI τ 14 1) fun τ24 => some ((0, τ24))))))
set_option maxHeartbeats 4000000 in
theorem m_number_L31_ok {g : GE} (G : GG g) {σ : ST} {Q : VQ} (d : Nat) (hd1 : 0 ≤ d) (τ : TT)  {K : Int → Prop} (hE75 : ∀ v12 : Int, K (v12) → V g mX4_number d 75 [(0, vr (some (gw g))), (1, vi v12)] [] σ τ Q) : ∀ (n : Nat) (w1 : Int) (w2 : Int), Sm (V g mX4_number d 31 [(0, vr (some (gw g))), (1, vi w1), (2, vi w2)] [] σ τ Q) (m_number_L31 τ n w1 w2) K := by
  intro n
  induction n with
  | zero => intro w1 w2; exact sm_none
  | succ n ih =>
    intro w1 w2
    rw [m_number_L31.eq_2]
    refine sm_b (l' := [(0, vr (some (gw g))), (1, vi w1), (2, vi w2)]) (st' := [vr (some (gw g)), vi w2]) (pc' := 33) [(.iload_n 2, vi 0, 32), (.aload_n 0, vi 0, 33)] (by decide +kernel) rfl rfl ?_
    refine sm_tg (k := 11) (x := vr (some (gT g 11))) G.2.1 q1429 rfl rfl (by decide +kernel) ?_
    refine sm_b (l' := [(0, vr (some (gw g))), (1, vi w1), (2, vi w2)]) (st' := [vr (some (gw g)), vr (some (gT g 11)), vi w2]) (pc' := 37) [(.aload_n 0, vi 0, 37)] (by decide +kernel) rfl rfl ?_
    refine sm_tg (k := 13) (x := vi (tI τ 13)) G.2.1 q1431 rfl rfl (by decide +kernel) ?_
    refine sm_gd (fun h13 => ?_)
    refine sm_ial (k := 11) G.2.1 (by decide) rfl (ibt (k := 11) h13) h13 (by decide +kernel) ?_
    refine sm_gd (fun h14 => ?_)
    refine sm_gd (fun h15 => ?_)
    refine sm_case (V g mX4_number d 75 [(0, vr (some (gw g))), (1, vi w1), (2, vi w2)] [] σ τ Q) (V g mX4_number d 44 [(0, vr (some (gw g))), (1, vi w1), (2, vi w2)] [] σ τ Q) ?_ ?_ (fun f20 p21 n22 => ?_)
    · refine sm_pick [0, 1] (l' := [(0, vr (some (gw g))), (1, vi w1)]) rfl ?_
      exact sm_leaf (fun h => hE75 _ h)
    · refine sm_b (l' := [(0, vr (some (gw g))), (1, vi w1), (2, vi w2)]) (st' := [vr (some (gw g)), vi (10 * w1)]) (pc' := 49) [(.bipush 10, vi 10, 46), (.iload_n 1, vi 0, 47), (.imul, vi 0, 48), (.aload_n 0, vi 0, 49)] (by decide +kernel) rfl rfl ?_
      refine sm_tg (k := 8) (x := vr (some (gT g 8))) G.2.1 q1426 rfl rfl (by decide +kernel) ?_
      refine sm_b (l' := [(0, vr (some (gw g))), (1, vi w1), (2, vi w2)]) (st' := [vr (some (gw g)), vr (some (gT g 8)), vi (10 * w1)]) (pc' := 53) [(.aload_n 0, vi 0, 53)] (by decide +kernel) rfl rfl ?_
      refine sm_tg (k := 10) (x := vr (some (gT g 10))) G.2.1 q1428 rfl rfl (by decide +kernel) ?_
      refine sm_b (l' := [(0, vr (some (gw g))), (1, vi w1), (2, vi w2)]) (st' := [vr (some (gw g)), vr (some (gT g 10)), vr (some (gT g 8)), vi (10 * w1)]) (pc' := 57) [(.aload_n 0, vi 0, 57)] (by decide +kernel) rfl rfl ?_
      refine sm_tg (k := 13) (x := vi (tI τ 13)) G.2.1 q1431 rfl rfl (by decide +kernel) ?_
      refine sm_ial (k := 10) G.2.1 (by decide) rfl (ibt (k := 10) h13) h13 (by decide +kernel) ?_
      refine sm_b (l' := [(0, vr (some (gw g))), (1, vi w1), (2, vi w2)]) (st' := [vi ((tA τ 10 (tI τ 13).toNat) + w2), vr (some (gT g 8)), vi (10 * w1)]) (pc' := 63) [(.iload_n 2, vi 0, 62), (.iadd, vi 0, 63)] (by decide +kernel) rfl rfl ?_
      refine sm_gd (fun h18 => ?_)
      refine sm_ial (k := 8) G.2.1 (by decide) rfl (ibt (k := 8) h18) h18 (by decide +kernel) ?_
      refine sm_b (l' := [(0, vr (some (gw g))), (1, vi w1), (2, vi w2)]) (st' := [vi (((10 * w1) + (tA τ 8 ((tA τ 10 (tI τ 13).toNat) + w2).toNat)) - 48)]) (pc' := 68) [(.iadd, vi 0, 65), (.bipush 48, vi 48, 67), (.isub, vi 0, 68)] (by decide +kernel) rfl rfl ?_
      refine sm_nmi (fun x19 => ?_)
      refine sm_b (l' := [(0, vr (some (gw g))), (1, vi x19), (2, vi (w2 + 1))]) (st' := []) (pc' := 31) [(.istore_n 1, vi 0, 69), (.iinc 2 1, vi 1, 72), (.goto (-41), vi 0, 31)] (by decide +kernel) rfl rfl ?_
      exact ih x19 (w2 + 1)
    refine sm_icmp_ge (off := 34) (tgt := 75) h14 h15 (by decide +kernel) (fun c23 => ?_) (fun c23 => ?_)
    · exact p21 c23
    · exact n22 c23
set_option maxHeartbeats 4000000 in
theorem m_number_ok {g : GE} (G : GG g) {σ : ST} (d : Nat) (hd1 : 0 ≤ d)   (τ : TT) (Q : VQ) : Sm (V g mX4_number d 0 [(0, vr (some (gw g)))] [] σ τ Q) (m_number τ) (fun r => Q.1 (some (vi r.1)) σ r.2) := by
  unfold m_number
  refine sm_top (fun K hRET => ?_)
  refine sm_b (l' := [(0, vr (some (gw g)))]) (st' := [vr (some (gw g))]) (pc' := 1) [(.aload_n 0, vi 0, 1)] (by decide +kernel) rfl rfl ?_
  refine sm_tg (k := 14) (x := vi (tI τ 14)) G.2.1 q1432 rfl rfl (by decide +kernel) ?_
  refine sm_gd (fun h1 => ?_)
  refine sm_gd (fun h3 => ?_)
  refine sm_gd (fun h4 => ?_)
  refine sm_case (V g mX4_number d 27 [(0, vr (some (gw g)))] [] σ τ Q) (V g mX4_number d 20 [(0, vr (some (gw g)))] [] σ τ Q) ?_ ?_ (fun f25 p26 n27 => ?_)
  · refine sm_b (l' := [(0, vr (some (gw g))), (1, vi 0), (2, vi 0)]) (st' := []) (pc' := 31) [(.iconst 0, vi 0, 28), (.istore_n 1, vi 0, 29), (.iconst 0, vi 0, 30), (.istore_n 2, vi 0, 31)] (by decide +kernel) rfl rfl ?_
    refine sm_bind1 (fun (v7 : Int) => V g mX4_number d 75 [(0, vr (some (gw g))), (1, vi v7)] [] σ τ Q) (fun v7 => ?_) (fun K8 j9 => ?_)
    · refine sm_b (l' := [(0, vr (some (gw g))), (1, vi v7)]) (st' := [vr (some (gw g)), vr (some (gw g))]) (pc' := 77) [(.aload_n 0, vi 0, 76), (.dup, vi 0, 77)] (by decide +kernel) rfl rfl ?_
      refine sm_tg (k := 13) (x := vi (tI τ 13)) G.2.1 q1431 rfl rfl (by decide +kernel) ?_
      refine sm_b (l' := [(0, vr (some (gw g))), (1, vi v7)]) (st' := [vi ((tI τ 13) + 1), vr (some (gw g))]) (pc' := 82) [(.iconst 1, vi 1, 81), (.iadd, vi 0, 82)] (by decide +kernel) rfl rfl ?_
      refine sm_tpi (k := 13) G.2.1 q1431 rfl rfl rfl (tp_13 g τ ((tI τ 13) + 1)) (by decide +kernel) ?_
      refine sm_nmt (fun τ11 => ?_)
      refine sm_b (l' := [(0, vr (some (gw g))), (1, vi v7)]) (st' := [vi v7]) (pc' := 86) [(.iload_n 1, vi 0, 86)] (by decide +kernel) rfl rfl ?_
      exact sm_iret rfl (by decide +kernel) (fun h => hRET _ h)
    · exact m_number_L31_ok G d hd1 τ  (fun _ h => j9 _ h) FU 0 0
  · refine sm_b (l' := [(0, vr (some (gw g)))]) (st' := [vi 1, vr (some (gw g))]) (pc' := 22) [(.aload_n 0, vi 0, 21), (.iconst 1, vi 1, 22)] (by decide +kernel) rfl rfl ?_
    refine sm_tpz (k := 14) G.2.1 q1432 rfl rfl rfl (tp_14 g τ 1) (by decide) (by decide +kernel) ?_
    refine sm_nmt (fun τ24 => ?_)
    refine sm_b (l' := [(0, vr (some (gw g)))]) (st' := [vi 0]) (pc' := 26) [(.iconst 0, vi 0, 26)] (by decide +kernel) rfl rfl ?_
    exact sm_iret rfl (by decide +kernel) (fun h => hRET _ h)
  refine sm_if_ne (off := 16) (tgt := 20) h1 (by decide +kernel) (fun c28 => ?_) (fun c28 => ?_)
  · exact n27 (fun q => c28 q.1)
  · have w2 : (tI τ 14) = 0 := c28
    refine sm_b (l' := [(0, vr (some (gw g)))]) (st' := [vr (some (gw g))]) (pc' := 8) [(.aload_n 0, vi 0, 8)] (by decide +kernel) rfl rfl ?_
    refine sm_tg (k := 9) (x := vr (some (gT g 9))) G.2.1 q1427 rfl rfl (by decide +kernel) ?_
    refine sm_b (l' := [(0, vr (some (gw g)))]) (st' := [vr (some (gw g)), vr (some (gT g 9))]) (pc' := 12) [(.aload_n 0, vi 0, 12)] (by decide +kernel) rfl rfl ?_
    refine sm_tg (k := 13) (x := vi (tI τ 13)) G.2.1 q1431 rfl rfl (by decide +kernel) ?_
    refine sm_ial (k := 9) G.2.1 (by decide) rfl (ibt (k := 9) (h3 w2)) (h3 w2) (by decide +kernel) ?_
    refine sm_b (l' := [(0, vr (some (gw g)))]) (st' := [vi 2, vi (tA τ 9 (tI τ 13).toNat)]) (pc' := 17) [(.iconst 2, vi 2, 17)] (by decide +kernel) rfl rfl ?_
    refine sm_icmp_eq (off := 10) (tgt := 27) (h4 w2) (by decide) (by decide +kernel) (fun c29 => ?_) (fun c29 => ?_)
    · exact p26 ⟨c28, c29⟩
    · exact n27 (fun q => c29 q.2)
def m_readEnum_L80 (u2 : Int) : Nat → TT → Option (TT)
  | 0, _ => none
  | n + 1, τ => Option.bind (m_word τ) fun y23 => Option.bind (m_sign 9 y23.2) fun y24 => Option.bind (m_number y24) fun y25 => Option.bind (m_sign 12 y25.2) fun y26 => Option.bind (gd (rg (tI y26 14)) (gd ((tI y26 14) = 0 → rg (tI y26 37)) (if ((tI y26 14) = 0) ∧ (¬ ((tI y26 37) = 40)) then (some 0) else (some 1)))) fun (v32 : Int) => gd (zb v32) (nm (uI y26 14 v32) fun τ37 => gd (rg (tI τ37 14)) (if (tI τ37 14) = 0 then (gd (ib (tI τ37 37) 40) (nm (uA τ37 19 (tI τ37 37).toNat y23.1) fun τ42 => gd (ib (tI τ42 37) 40) (nm (uA τ42 20 (tI τ42 37).toNat y25.1) fun τ44 => gd (ib (tI τ44 37) 40) (nm (uA τ44 21 (tI τ44 37).toNat u2) fun τ46 => nm (uI τ46 37 ((tI τ46 37) + 1)) fun τ47 => Option.bind (m_takes 15 τ47) fun y48 => gd (rg y48.1) (gd (y48.1 = 0 → rg (tI y48.2 14)) (if (y48.1 = 0) ∧ ((tI y48.2 14) = 0) then (m_readEnum_L80 u2 n y48.2) else (some y48.2))))))) else (some τ37)))
def m_readEnum (a1 : Int) (τ : TT) : Option (TT) := nm (uI τ 13 ((tI τ 13) + 1)) fun τ1 => nm (tI τ1 36) fun x2 => Option.bind (gd (rg (tI τ1 14)) (gd ((tI τ1 14) = 0 → rg x2) (if ((tI τ1 14) = 0) ∧ (¬ (x2 = 6)) then (some 0) else (some 1)))) fun (v8 : Int) => gd (zb v8) (nm (uI τ1 14 v8) fun τ13 => Option.bind (m_word τ13) fun y14 => gd (rg (tI y14.2 14)) (if (tI y14.2 14) = 0 then (nm (uI y14.2 36 ((tI y14.2 36) + 1)) fun τ18 => gd (ib x2 6) (nm (uA τ18 17 x2.toNat y14.1) fun τ20 => nm (uA τ20 18 x2.toNat a1) fun τ21 => Option.bind (m_sign 14 τ21) fun y22 => m_readEnum_L80 x2 FU y22)) else (some y14.2)))
set_option maxHeartbeats 4000000 in
theorem m_readEnum_L80_ok {g : GE} (G : GG g) {σ : ST} {Q : VQ} (d : Nat) (hd1 : 8 ≤ d) (u2 : Int)  {K : TT → Prop} (hRET : ∀ r : TT, K (r) → Q.1 none σ r) : ∀ (n : Nat) (τ : TT), Sm (V g mX4_readEnum d 80 [(0, vr (some (gw g))), (2, vi u2)] [] σ τ Q) (m_readEnum_L80 u2 n τ) K := by
  intro n
  induction n with
  | zero => intro τ; exact sm_none
  | succ n ih =>
    intro τ
    rw [m_readEnum_L80.eq_2]
    refine sm_b (l' := [(0, vr (some (gw g))), (2, vi u2)]) (st' := [vr (some (gw g))]) (pc' := 81) [(.aload_n 0, vi 0, 81)] (by decide +kernel) rfl rfl ?_
    refine sm_cv (N := mX4_word) (d' := d - 1) (fun r => (some (vi r.1))) (fun _ => σ) (fun r => r.2) [] [] rfl (by decide +kernel) q1661 q1663 qs56 (Or.inl ⟨rfl, q1664⟩) (show okN yX4_word 0 = true by decide +kernel) (fun H hR => hR.rvw G.1 G.2.1) rfl rfl (by omega) rfl (fun Q' => m_word_ok G (d - 1) (by omega)  τ Q') (fun y23 => ?_)
    refine sm_b (l' := [(0, vr (some (gw g))), (2, vi u2), (4, vi y23.1)]) (st' := [vr (some (gw g))]) (pc' := 87) [(.istore 4, vi 0, 86), (.aload_n 0, vi 0, 87)] (by decide +kernel) rfl rfl ?_
    refine sm_str (k := 9) G rfl (by decide +kernel) ?_
    refine sm_cv (N := mX4_sign) (d' := d - 1) (fun r => none) (fun _ => σ) (fun r => r) [vr (some (gK g 9))] [] rfl (by decide +kernel) q1645 q1647 qs53 (Or.inl ⟨rfl, q1648⟩) (show okN yX4_sign 1 = true by decide +kernel) (fun H hR => hR.rvw G.1 G.2.1) rfl rfl (by omega) rfl (fun Q' => m_sign_ok G (d - 1) (by omega) 9 y23.2 Q') (fun y24 => ?_)
    refine sm_b (l' := [(0, vr (some (gw g))), (2, vi u2), (4, vi y23.1)]) (st' := [vr (some (gw g))]) (pc' := 93) [(.aload_n 0, vi 0, 93)] (by decide +kernel) rfl rfl ?_
    refine sm_cv (N := mX4_number) (d' := d - 1) (fun r => (some (vi r.1))) (fun _ => σ) (fun r => r.2) [] [] rfl (by decide +kernel) q1672 q1674 qs58 (Or.inl ⟨rfl, q1675⟩) (show okN yX4_number 0 = true by decide +kernel) (fun H hR => hR.rvw G.1 G.2.1) rfl rfl (by omega) rfl (fun Q' => m_number_ok G (d - 1) (by omega)  y24 Q') (fun y25 => ?_)
    refine sm_b (l' := [(0, vr (some (gw g))), (2, vi u2), (4, vi y23.1), (5, vi y25.1)]) (st' := [vr (some (gw g))]) (pc' := 99) [(.istore 5, vi 0, 98), (.aload_n 0, vi 0, 99)] (by decide +kernel) rfl rfl ?_
    refine sm_str (k := 12) G rfl (by decide +kernel) ?_
    refine sm_cv (N := mX4_sign) (d' := d - 1) (fun r => none) (fun _ => σ) (fun r => r) [vr (some (gK g 12))] [] rfl (by decide +kernel) q1645 q1647 qs53 (Or.inl ⟨rfl, q1648⟩) (show okN yX4_sign 1 = true by decide +kernel) (fun H hR => hR.rvw G.1 G.2.1) rfl rfl (by omega) rfl (fun Q' => m_sign_ok G (d - 1) (by omega) 12 y25.2 Q') (fun y26 => ?_)
    refine sm_b (l' := [(0, vr (some (gw g))), (2, vi u2), (4, vi y23.1), (5, vi y25.1)]) (st' := [vr (some (gw g)), vr (some (gw g))]) (pc' := 106) [(.aload_n 0, vi 0, 105), (.aload_n 0, vi 0, 106)] (by decide +kernel) rfl rfl ?_
    refine sm_tg (k := 14) (x := vi (tI y26 14)) G.2.1 q1432 rfl rfl (by decide +kernel) ?_
    refine sm_bind1 (fun (v32 : Int) => V g mX4_readEnum d 126 [(0, vr (some (gw g))), (2, vi u2), (4, vi y23.1), (5, vi y25.1)] [vi v32, vr (some (gw g))] σ y26 Q) (fun v32 => ?_) (fun K33 j34 => ?_)
    · refine sm_gd (fun h36 => ?_)
      refine sm_tpz (k := 14) G.2.1 q1432 rfl rfl rfl (tp_14 g y26 v32) h36 (by decide +kernel) ?_
      refine sm_nmt (fun τ37 => ?_)
      refine sm_b (l' := [(0, vr (some (gw g))), (2, vi u2), (4, vi y23.1), (5, vi y25.1)]) (st' := [vr (some (gw g))]) (pc' := 130) [(.aload_n 0, vi 0, 130)] (by decide +kernel) rfl rfl ?_
      refine sm_tg (k := 14) (x := vi (tI τ37 14)) G.2.1 q1432 rfl rfl (by decide +kernel) ?_
      refine sm_gd (fun h38 => ?_)
      refine sm_case (V g mX4_readEnum d 137 [(0, vr (some (gw g))), (2, vi u2), (4, vi y23.1), (5, vi y25.1)] [] σ τ37 Q) (V g mX4_readEnum d 136 [(0, vr (some (gw g))), (2, vi u2), (4, vi y23.1), (5, vi y25.1)] [] σ τ37 Q) ?_ ?_ (fun f58 p59 n60 => ?_)
      · refine sm_b (l' := [(0, vr (some (gw g))), (2, vi u2), (4, vi y23.1), (5, vi y25.1)]) (st' := [vr (some (gw g))]) (pc' := 138) [(.aload_n 0, vi 0, 138)] (by decide +kernel) rfl rfl ?_
        refine sm_tg (k := 19) (x := vr (some (gT g 19))) G.2.1 q1437 rfl rfl (by decide +kernel) ?_
        refine sm_b (l' := [(0, vr (some (gw g))), (2, vi u2), (4, vi y23.1), (5, vi y25.1)]) (st' := [vr (some (gw g)), vr (some (gT g 19))]) (pc' := 142) [(.aload_n 0, vi 0, 142)] (by decide +kernel) rfl rfl ?_
        refine sm_tg (k := 37) (x := vi (tI τ37 37)) G.2.1 q1455 rfl rfl (by decide +kernel) ?_
        refine sm_b (l' := [(0, vr (some (gw g))), (2, vi u2), (4, vi y23.1), (5, vi y25.1)]) (st' := [vi y23.1, vi (tI τ37 37), vr (some (gT g 19))]) (pc' := 147) [(.iload 4, vi 0, 147)] (by decide +kernel) rfl rfl ?_
        refine sm_gd (fun h41 => ?_)
        refine sm_ias (k := 19) G.2.1 (by decide) rfl (ibt (k := 19) h41) h41 (by decide +kernel) ?_
        refine sm_nmt (fun τ42 => ?_)
        refine sm_b (l' := [(0, vr (some (gw g))), (2, vi u2), (4, vi y23.1), (5, vi y25.1)]) (st' := [vr (some (gw g))]) (pc' := 149) [(.aload_n 0, vi 0, 149)] (by decide +kernel) rfl rfl ?_
        refine sm_tg (k := 20) (x := vr (some (gT g 20))) G.2.1 q1438 rfl rfl (by decide +kernel) ?_
        refine sm_b (l' := [(0, vr (some (gw g))), (2, vi u2), (4, vi y23.1), (5, vi y25.1)]) (st' := [vr (some (gw g)), vr (some (gT g 20))]) (pc' := 153) [(.aload_n 0, vi 0, 153)] (by decide +kernel) rfl rfl ?_
        refine sm_tg (k := 37) (x := vi (tI τ42 37)) G.2.1 q1455 rfl rfl (by decide +kernel) ?_
        refine sm_b (l' := [(0, vr (some (gw g))), (2, vi u2), (4, vi y23.1), (5, vi y25.1)]) (st' := [vi y25.1, vi (tI τ42 37), vr (some (gT g 20))]) (pc' := 158) [(.iload 5, vi 0, 158)] (by decide +kernel) rfl rfl ?_
        refine sm_gd (fun h43 => ?_)
        refine sm_ias (k := 20) G.2.1 (by decide) rfl (ibt (k := 20) h43) h43 (by decide +kernel) ?_
        refine sm_nmt (fun τ44 => ?_)
        refine sm_b (l' := [(0, vr (some (gw g))), (2, vi u2), (4, vi y23.1), (5, vi y25.1)]) (st' := [vr (some (gw g))]) (pc' := 160) [(.aload_n 0, vi 0, 160)] (by decide +kernel) rfl rfl ?_
        refine sm_tg (k := 21) (x := vr (some (gT g 21))) G.2.1 q1439 rfl rfl (by decide +kernel) ?_
        refine sm_b (l' := [(0, vr (some (gw g))), (2, vi u2), (4, vi y23.1), (5, vi y25.1)]) (st' := [vr (some (gw g)), vr (some (gT g 21))]) (pc' := 164) [(.aload_n 0, vi 0, 164)] (by decide +kernel) rfl rfl ?_
        refine sm_tg (k := 37) (x := vi (tI τ44 37)) G.2.1 q1455 rfl rfl (by decide +kernel) ?_
        refine sm_b (l' := [(0, vr (some (gw g))), (2, vi u2), (4, vi y23.1), (5, vi y25.1)]) (st' := [vi u2, vi (tI τ44 37), vr (some (gT g 21))]) (pc' := 168) [(.iload_n 2, vi 0, 168)] (by decide +kernel) rfl rfl ?_
        refine sm_gd (fun h45 => ?_)
        refine sm_ias (k := 21) G.2.1 (by decide) rfl (ibt (k := 21) h45) h45 (by decide +kernel) ?_
        refine sm_nmt (fun τ46 => ?_)
        refine sm_b (l' := [(0, vr (some (gw g))), (2, vi u2), (4, vi y23.1), (5, vi y25.1)]) (st' := [vr (some (gw g)), vr (some (gw g))]) (pc' := 171) [(.aload_n 0, vi 0, 170), (.dup, vi 0, 171)] (by decide +kernel) rfl rfl ?_
        refine sm_tg (k := 37) (x := vi (tI τ46 37)) G.2.1 q1455 rfl rfl (by decide +kernel) ?_
        refine sm_b (l' := [(0, vr (some (gw g))), (2, vi u2), (4, vi y23.1), (5, vi y25.1)]) (st' := [vi ((tI τ46 37) + 1), vr (some (gw g))]) (pc' := 176) [(.iconst 1, vi 1, 175), (.iadd, vi 0, 176)] (by decide +kernel) rfl rfl ?_
        refine sm_tpi (k := 37) G.2.1 q1455 rfl rfl rfl (tp_37 g τ46 ((tI τ46 37) + 1)) (by decide +kernel) ?_
        refine sm_nmt (fun τ47 => ?_)
        refine sm_b (l' := [(0, vr (some (gw g))), (2, vi u2), (4, vi y23.1), (5, vi y25.1)]) (st' := [vr (some (gw g))]) (pc' := 180) [(.aload_n 0, vi 0, 180)] (by decide +kernel) rfl rfl ?_
        refine sm_str (k := 15) G rfl (by decide +kernel) ?_
        refine sm_cv (N := mX4_takes) (d' := d - 1) (fun r => (some (vi r.1))) (fun _ => σ) (fun r => r.2) [vr (some (gK g 15))] [] rfl (by decide +kernel) q1634 q1636 qs51 (Or.inl ⟨rfl, q1637⟩) (show okN yX4_takes 1 = true by decide +kernel) (fun H hR => hR.rvw G.1 G.2.1) rfl rfl (by omega) rfl (fun Q' => m_takes_ok G (d - 1) (by omega) 15 τ47 Q') (fun y48 => ?_)
        refine sm_gd (fun h49 => ?_)
        refine sm_gd (fun h51 => ?_)
        refine sm_case (V g mX4_readEnum d 80 [(0, vr (some (gw g))), (2, vi u2), (4, vi y23.1), (5, vi y25.1)] [] σ y48.2 Q) (V g mX4_readEnum d 195 [(0, vr (some (gw g))), (2, vi u2), (4, vi y23.1), (5, vi y25.1)] [] σ y48.2 Q) ?_ ?_ (fun f53 p54 n55 => ?_)
        · refine sm_pick [0, 1] (l' := [(0, vr (some (gw g))), (2, vi u2)]) rfl ?_
          exact ih y48.2
        · exact sm_vret rfl (by decide +kernel) (fun h => hRET _ h)
        refine sm_if_ne (off := 10) (tgt := 195) h49 (by decide +kernel) (fun c56 => ?_) (fun c56 => ?_)
        · exact n55 (fun q => c56 q.1)
        · have w50 : y48.1 = 0 := c56
          refine sm_b (l' := [(0, vr (some (gw g))), (2, vi u2), (4, vi y23.1), (5, vi y25.1)]) (st' := [vr (some (gw g))]) (pc' := 189) [(.aload_n 0, vi 0, 189)] (by decide +kernel) rfl rfl ?_
          refine sm_tg (k := 14) (x := vi (tI y48.2 14)) G.2.1 q1432 rfl rfl (by decide +kernel) ?_
          refine sm_if_eq (off := (-112)) (tgt := 80) (h51 w50) (by decide +kernel) (fun c57 => ?_) (fun c57 => ?_)
          · exact p54 ⟨c56, c57⟩
          · exact n55 (fun q => c57 q.2)
      · exact sm_vret rfl (by decide +kernel) (fun h => hRET _ h)
      refine sm_if_eq (off := 4) (tgt := 137) h38 (by decide +kernel) (fun c61 => ?_) (fun c61 => ?_)
      · exact p59 c61
      · exact n60 c61
    · refine sm_gd (fun h27 => ?_)
      refine sm_gd (fun h29 => ?_)
      refine sm_case (V g mX4_readEnum d 125 [(0, vr (some (gw g))), (2, vi u2), (4, vi y23.1), (5, vi y25.1)] [vr (some (gw g))] σ y26 Q) (V g mX4_readEnum d 121 [(0, vr (some (gw g))), (2, vi u2), (4, vi y23.1), (5, vi y25.1)] [vr (some (gw g))] σ y26 Q) ?_ ?_ (fun f62 p63 n64 => ?_)
      · refine sm_b (l' := [(0, vr (some (gw g))), (2, vi u2), (4, vi y23.1), (5, vi y25.1)]) (st' := [vi 0, vr (some (gw g))]) (pc' := 126) [(.iconst 0, vi 0, 126)] (by decide +kernel) rfl rfl ?_
        exact sm_leaf (fun h => j34 _ h)
      · refine sm_b (l' := [(0, vr (some (gw g))), (2, vi u2), (4, vi y23.1), (5, vi y25.1)]) (st' := [vi 1, vr (some (gw g))]) (pc' := 126) [(.iconst 1, vi 1, 122), (.goto 4, vi 0, 126)] (by decide +kernel) rfl rfl ?_
        exact sm_leaf (fun h => j34 _ h)
      refine sm_if_ne (off := 12) (tgt := 121) h27 (by decide +kernel) (fun c65 => ?_) (fun c65 => ?_)
      · exact n64 (fun q => c65 q.1)
      · have w28 : (tI y26 14) = 0 := c65
        refine sm_b (l' := [(0, vr (some (gw g))), (2, vi u2), (4, vi y23.1), (5, vi y25.1)]) (st' := [vr (some (gw g)), vr (some (gw g))]) (pc' := 113) [(.aload_n 0, vi 0, 113)] (by decide +kernel) rfl rfl ?_
        refine sm_tg (k := 37) (x := vi (tI y26 37)) G.2.1 q1455 rfl rfl (by decide +kernel) ?_
        refine sm_b (l' := [(0, vr (some (gw g))), (2, vi u2), (4, vi y23.1), (5, vi y25.1)]) (st' := [vi 40, vi (tI y26 37), vr (some (gw g))]) (pc' := 118) [(.bipush 40, vi 40, 118)] (by decide +kernel) rfl rfl ?_
        refine sm_icmp_ne (off := 7) (tgt := 125) (h29 w28) (by decide) (by decide +kernel) (fun c66 => ?_) (fun c66 => ?_)
        · exact p63 ⟨c65, c66⟩
        · exact n64 (fun q => (fun q => q c66) q.2)
set_option maxHeartbeats 4000000 in
theorem m_readEnum_ok {g : GE} (G : GG g) {σ : ST} (d : Nat) (hd1 : 8 ≤ d) (a1 : Int)  (τ : TT) (Q : VQ) : Sm (V g mX4_readEnum d 0 [(0, vr (some (gw g))), (1, vi a1)] [] σ τ Q) (m_readEnum a1 τ) (fun r => Q.1 none σ r) := by
  unfold m_readEnum
  refine sm_top (fun K hRET => ?_)
  refine sm_b (l' := [(0, vr (some (gw g))), (1, vi a1)]) (st' := [vr (some (gw g)), vr (some (gw g))]) (pc' := 2) [(.aload_n 0, vi 0, 1), (.dup, vi 0, 2)] (by decide +kernel) rfl rfl ?_
  refine sm_tg (k := 13) (x := vi (tI τ 13)) G.2.1 q1431 rfl rfl (by decide +kernel) ?_
  refine sm_b (l' := [(0, vr (some (gw g))), (1, vi a1)]) (st' := [vi ((tI τ 13) + 1), vr (some (gw g))]) (pc' := 7) [(.iconst 1, vi 1, 6), (.iadd, vi 0, 7)] (by decide +kernel) rfl rfl ?_
  refine sm_tpi (k := 13) G.2.1 q1431 rfl rfl rfl (tp_13 g τ ((tI τ 13) + 1)) (by decide +kernel) ?_
  refine sm_nmt (fun τ1 => ?_)
  refine sm_b (l' := [(0, vr (some (gw g))), (1, vi a1)]) (st' := [vr (some (gw g))]) (pc' := 11) [(.aload_n 0, vi 0, 11)] (by decide +kernel) rfl rfl ?_
  refine sm_tg (k := 36) (x := vi (tI τ1 36)) G.2.1 q1454 rfl rfl (by decide +kernel) ?_
  refine sm_nmi (fun x2 => ?_)
  refine sm_b (l' := [(0, vr (some (gw g))), (1, vi a1), (2, vi x2)]) (st' := [vr (some (gw g)), vr (some (gw g))]) (pc' := 17) [(.istore_n 2, vi 0, 15), (.aload_n 0, vi 0, 16), (.aload_n 0, vi 0, 17)] (by decide +kernel) rfl rfl ?_
  refine sm_tg (k := 14) (x := vi (tI τ1 14)) G.2.1 q1432 rfl rfl (by decide +kernel) ?_
  refine sm_bind1 (fun (v8 : Int) => V g mX4_readEnum d 34 [(0, vr (some (gw g))), (1, vi a1), (2, vi x2)] [vi v8, vr (some (gw g))] σ τ1 Q) (fun v8 => ?_) (fun K9 j10 => ?_)
  · refine sm_gd (fun h12 => ?_)
    refine sm_tpz (k := 14) G.2.1 q1432 rfl rfl rfl (tp_14 g τ1 v8) h12 (by decide +kernel) ?_
    refine sm_nmt (fun τ13 => ?_)
    refine sm_b (l' := [(0, vr (some (gw g))), (1, vi a1), (2, vi x2)]) (st' := [vr (some (gw g))]) (pc' := 38) [(.aload_n 0, vi 0, 38)] (by decide +kernel) rfl rfl ?_
    refine sm_cv (N := mX4_word) (d' := d - 1) (fun r => (some (vi r.1))) (fun _ => σ) (fun r => r.2) [] [] rfl (by decide +kernel) q1661 q1663 qs56 (Or.inl ⟨rfl, q1664⟩) (show okN yX4_word 0 = true by decide +kernel) (fun H hR => hR.rvw G.1 G.2.1) rfl rfl (by omega) rfl (fun Q' => m_word_ok G (d - 1) (by omega)  τ13 Q') (fun y14 => ?_)
    refine sm_b (l' := [(0, vr (some (gw g))), (1, vi a1), (2, vi x2), (3, vi y14.1)]) (st' := [vr (some (gw g))]) (pc' := 43) [(.istore_n 3, vi 0, 42), (.aload_n 0, vi 0, 43)] (by decide +kernel) rfl rfl ?_
    refine sm_tg (k := 14) (x := vi (tI y14.2 14)) G.2.1 q1432 rfl rfl (by decide +kernel) ?_
    refine sm_gd (fun h15 => ?_)
    refine sm_case (V g mX4_readEnum d 50 [(0, vr (some (gw g))), (1, vi a1), (2, vi x2), (3, vi y14.1)] [] σ y14.2 Q) (V g mX4_readEnum d 49 [(0, vr (some (gw g))), (1, vi a1), (2, vi x2), (3, vi y14.1)] [] σ y14.2 Q) ?_ ?_ (fun f67 p68 n69 => ?_)
    · refine sm_b (l' := [(0, vr (some (gw g))), (1, vi a1), (2, vi x2), (3, vi y14.1)]) (st' := [vr (some (gw g)), vr (some (gw g))]) (pc' := 52) [(.aload_n 0, vi 0, 51), (.dup, vi 0, 52)] (by decide +kernel) rfl rfl ?_
      refine sm_tg (k := 36) (x := vi (tI y14.2 36)) G.2.1 q1454 rfl rfl (by decide +kernel) ?_
      refine sm_b (l' := [(0, vr (some (gw g))), (1, vi a1), (2, vi x2), (3, vi y14.1)]) (st' := [vi ((tI y14.2 36) + 1), vr (some (gw g))]) (pc' := 57) [(.iconst 1, vi 1, 56), (.iadd, vi 0, 57)] (by decide +kernel) rfl rfl ?_
      refine sm_tpi (k := 36) G.2.1 q1454 rfl rfl rfl (tp_36 g y14.2 ((tI y14.2 36) + 1)) (by decide +kernel) ?_
      refine sm_nmt (fun τ18 => ?_)
      refine sm_b (l' := [(0, vr (some (gw g))), (1, vi a1), (2, vi x2), (3, vi y14.1)]) (st' := [vr (some (gw g))]) (pc' := 61) [(.aload_n 0, vi 0, 61)] (by decide +kernel) rfl rfl ?_
      refine sm_tg (k := 17) (x := vr (some (gT g 17))) G.2.1 q1435 rfl rfl (by decide +kernel) ?_
      refine sm_b (l' := [(0, vr (some (gw g))), (1, vi a1), (2, vi x2), (3, vi y14.1)]) (st' := [vi y14.1, vi x2, vr (some (gT g 17))]) (pc' := 66) [(.iload_n 2, vi 0, 65), (.iload_n 3, vi 0, 66)] (by decide +kernel) rfl rfl ?_
      refine sm_gd (fun h19 => ?_)
      refine sm_ias (k := 17) G.2.1 (by decide) rfl (ibt (k := 17) h19) h19 (by decide +kernel) ?_
      refine sm_nmt (fun τ20 => ?_)
      refine sm_b (l' := [(0, vr (some (gw g))), (1, vi a1), (2, vi x2), (3, vi y14.1)]) (st' := [vr (some (gw g))]) (pc' := 68) [(.aload_n 0, vi 0, 68)] (by decide +kernel) rfl rfl ?_
      refine sm_tg (k := 18) (x := vr (some (gT g 18))) G.2.1 q1436 rfl rfl (by decide +kernel) ?_
      refine sm_b (l' := [(0, vr (some (gw g))), (1, vi a1), (2, vi x2), (3, vi y14.1)]) (st' := [vi a1, vi x2, vr (some (gT g 18))]) (pc' := 73) [(.iload_n 2, vi 0, 72), (.iload_n 1, vi 0, 73)] (by decide +kernel) rfl rfl ?_
      refine sm_ias (k := 18) G.2.1 (by decide) rfl (ibt (k := 18) h19) h19 (by decide +kernel) ?_
      refine sm_nmt (fun τ21 => ?_)
      refine sm_b (l' := [(0, vr (some (gw g))), (1, vi a1), (2, vi x2), (3, vi y14.1)]) (st' := [vr (some (gw g))]) (pc' := 75) [(.aload_n 0, vi 0, 75)] (by decide +kernel) rfl rfl ?_
      refine sm_str (k := 14) G rfl (by decide +kernel) ?_
      refine sm_cv (N := mX4_sign) (d' := d - 1) (fun r => none) (fun _ => σ) (fun r => r) [vr (some (gK g 14))] [] rfl (by decide +kernel) q1645 q1647 qs53 (Or.inl ⟨rfl, q1648⟩) (show okN yX4_sign 1 = true by decide +kernel) (fun H hR => hR.rvw G.1 G.2.1) rfl rfl (by omega) rfl (fun Q' => m_sign_ok G (d - 1) (by omega) 14 τ21 Q') (fun y22 => ?_)
      refine sm_pick [0, 2] (l' := [(0, vr (some (gw g))), (2, vi x2)]) rfl ?_
      exact m_readEnum_L80_ok G d hd1 x2  (fun r h => hRET _ h) FU y22
    · exact sm_vret rfl (by decide +kernel) (fun h => hRET _ h)
    refine sm_if_eq (off := 4) (tgt := 50) h15 (by decide +kernel) (fun c70 => ?_) (fun c70 => ?_)
    · exact p68 c70
    · exact n69 c70
  · refine sm_gd (fun h3 => ?_)
    refine sm_gd (fun h5 => ?_)
    refine sm_case (V g mX4_readEnum d 33 [(0, vr (some (gw g))), (1, vi a1), (2, vi x2)] [vr (some (gw g))] σ τ1 Q) (V g mX4_readEnum d 29 [(0, vr (some (gw g))), (1, vi a1), (2, vi x2)] [vr (some (gw g))] σ τ1 Q) ?_ ?_ (fun f71 p72 n73 => ?_)
    · refine sm_b (l' := [(0, vr (some (gw g))), (1, vi a1), (2, vi x2)]) (st' := [vi 0, vr (some (gw g))]) (pc' := 34) [(.iconst 0, vi 0, 34)] (by decide +kernel) rfl rfl ?_
      exact sm_leaf (fun h => j10 _ h)
    · refine sm_b (l' := [(0, vr (some (gw g))), (1, vi a1), (2, vi x2)]) (st' := [vi 1, vr (some (gw g))]) (pc' := 34) [(.iconst 1, vi 1, 30), (.goto 4, vi 0, 34)] (by decide +kernel) rfl rfl ?_
      exact sm_leaf (fun h => j10 _ h)
    refine sm_if_ne (off := 9) (tgt := 29) h3 (by decide +kernel) (fun c74 => ?_) (fun c74 => ?_)
    · exact n73 (fun q => c74 q.1)
    · have w4 : (tI τ1 14) = 0 := c74
      refine sm_b (l' := [(0, vr (some (gw g))), (1, vi a1), (2, vi x2)]) (st' := [vi 6, vi x2, vr (some (gw g))]) (pc' := 26) [(.iload_n 2, vi 0, 24), (.bipush 6, vi 6, 26)] (by decide +kernel) rfl rfl ?_
      refine sm_icmp_ne (off := 7) (tgt := 33) (h5 w4) (by decide) (by decide +kernel) (fun c75 => ?_) (fun c75 => ?_)
      · exact p72 ⟨c74, c75⟩
      · exact n73 (fun q => (fun q => q c75) q.2)
def m_readField_L9 (u1 : Int) (u2 : Int) (u3 : Int) (u4 : Int) (u5 : Int) : Nat → Int → TT → Option (Int × TT)
  | 0, _, _ => none
  | n + 1, w6, τ => Option.bind (m_takes 18 τ) fun y53 => gd (rg y53.1) (if y53.1 = 0 then (some ((w6, y53.2))) else (Option.bind (m_word y53.2) fun y56 => m_readField_L9 u1 u2 u3 u4 u5 n (w6 + 1) y56.2))
def m_readField (a1 : Int) (a2 : Int) (a3 : Int) (a4 : Int) (τ : TT) : Option (TT) := Option.bind (m_word τ) fun y1 => Option.bind (m_readField_L9 a1 a2 a3 a4 y1.1 FU 1 y1.2) fun (v2 : Int × TT) => Option.bind (m_word v2.2) fun y6 => Option.bind (m_sign 9 y6.2) fun y7 => Option.bind (m_number y7) fun y8 => Option.bind (m_sign 12 y8.2) fun y9 => Option.bind (gd (rg (tI y9 14)) (gd ((tI y9 14) = 0 → rg (tI y9 38)) (if ((tI y9 14) = 0) ∧ (¬ ((tI y9 38) = 50)) then (some 0) else (some 1)))) fun (v15 : Int) => gd (zb v15) (nm (uI y9 14 v15) fun τ20 => gd (rg (tI τ20 14)) (if (tI τ20 14) = 0 then (gd (ib (tI τ20 38) 50) (nm (uA τ20 25 (tI τ20 38).toNat y1.1) fun τ25 => gd (ib (tI τ25 38) 50) (nm (uA τ25 26 (tI τ25 38).toNat v2.1) fun τ27 => gd (ib (tI τ27 38) 50) (nm (uA τ27 22 (tI τ27 38).toNat y6.1) fun τ29 => gd (ib (tI τ29 38) 50) (nm (uA τ29 24 (tI τ29 38).toNat y8.1) fun τ31 => gd (ib (tI τ31 38) 50) (nm (uA τ31 23 (tI τ31 38).toNat a1) fun τ33 => gd (ib (tI τ33 38) 50) (nm (uA τ33 27 (tI τ33 38).toNat a2) fun τ35 => gd (ib (tI τ35 38) 50) (gd (zb a3) (nm (uA τ35 29 (tI τ35 38).toNat a3) fun τ38 => gd (ib (tI τ38 38) 50) (gd (zb a4) (nm (uA τ38 30 (tI τ38 38).toNat a4) fun τ41 => nm (uI τ41 38 ((tI τ41 38) + 1)) fun τ42 => some τ42))))))))))) else (some τ20)))
set_option maxHeartbeats 4000000 in
theorem m_readField_L9_ok {g : GE} (G : GG g) {σ : ST} {Q : VQ} (d : Nat) (hd1 : 8 ≤ d) (u1 : Int) (u2 : Int) (u3 : Int) (u4 : Int) (u5 : Int)  {K : Int × TT → Prop} (hE29 : ∀ v52 : Int × TT, K (v52) → V g mX4_readField d 29 [(0, vr (some (gw g))), (1, vi u1), (2, vi u2), (3, vi u3), (4, vi u4), (5, vi u5), (6, vi v52.1)] [] σ v52.2 Q) : ∀ (n : Nat) (w6 : Int) (τ : TT), Sm (V g mX4_readField d 9 [(0, vr (some (gw g))), (1, vi u1), (2, vi u2), (3, vi u3), (4, vi u4), (5, vi u5), (6, vi w6)] [] σ τ Q) (m_readField_L9 u1 u2 u3 u4 u5 n w6 τ) K := by
  intro n
  induction n with
  | zero => intro w6 τ; exact sm_none
  | succ n ih =>
    intro w6 τ
    rw [m_readField_L9.eq_2]
    refine sm_b (l' := [(0, vr (some (gw g))), (1, vi u1), (2, vi u2), (3, vi u3), (4, vi u4), (5, vi u5), (6, vi w6)]) (st' := [vr (some (gw g))]) (pc' := 10) [(.aload_n 0, vi 0, 10)] (by decide +kernel) rfl rfl ?_
    refine sm_str (k := 18) G rfl (by decide +kernel) ?_
    refine sm_cv (N := mX4_takes) (d' := d - 1) (fun r => (some (vi r.1))) (fun _ => σ) (fun r => r.2) [vr (some (gK g 18))] [] rfl (by decide +kernel) q1634 q1636 qs51 (Or.inl ⟨rfl, q1637⟩) (show okN yX4_takes 1 = true by decide +kernel) (fun H hR => hR.rvw G.1 G.2.1) rfl rfl (by omega) rfl (fun Q' => m_takes_ok G (d - 1) (by omega) 18 τ Q') (fun y53 => ?_)
    refine sm_gd (fun h54 => ?_)
    refine sm_case (V g mX4_readField d 29 [(0, vr (some (gw g))), (1, vi u1), (2, vi u2), (3, vi u3), (4, vi u4), (5, vi u5), (6, vi w6)] [] σ y53.2 Q) (V g mX4_readField d 18 [(0, vr (some (gw g))), (1, vi u1), (2, vi u2), (3, vi u3), (4, vi u4), (5, vi u5), (6, vi w6)] [] σ y53.2 Q) ?_ ?_ (fun f57 p58 n59 => ?_)
    · exact sm_leaf (fun h => hE29 _ h)
    · refine sm_b (l' := [(0, vr (some (gw g))), (1, vi u1), (2, vi u2), (3, vi u3), (4, vi u4), (5, vi u5), (6, vi w6)]) (st' := [vr (some (gw g))]) (pc' := 19) [(.aload_n 0, vi 0, 19)] (by decide +kernel) rfl rfl ?_
      refine sm_cv (N := mX4_word) (d' := d - 1) (fun r => (some (vi r.1))) (fun _ => σ) (fun r => r.2) [] [] rfl (by decide +kernel) q1661 q1663 qs56 (Or.inl ⟨rfl, q1664⟩) (show okN yX4_word 0 = true by decide +kernel) (fun H hR => hR.rvw G.1 G.2.1) rfl rfl (by omega) rfl (fun Q' => m_word_ok G (d - 1) (by omega)  y53.2 Q') (fun y56 => ?_)
      refine sm_b (l' := [(0, vr (some (gw g))), (1, vi u1), (2, vi u2), (3, vi u3), (4, vi u4), (5, vi u5), (6, vi (w6 + 1))]) (st' := []) (pc' := 9) [(.pop, vi 0, 23), (.iinc 6 1, vi 1, 26), (.goto (-17), vi 0, 9)] (by decide +kernel) rfl rfl ?_
      exact ih (w6 + 1) y56.2
    refine sm_if_eq (off := 14) (tgt := 29) h54 (by decide +kernel) (fun c60 => ?_) (fun c60 => ?_)
    · exact p58 c60
    · exact n59 c60
set_option maxHeartbeats 4000000 in
theorem m_readField_ok {g : GE} (G : GG g) {σ : ST} (d : Nat) (hd1 : 8 ≤ d) (a1 : Int) (a2 : Int) (a3 : Int) (a4 : Int)  (τ : TT) (Q : VQ) : Sm (V g mX4_readField d 0 [(0, vr (some (gw g))), (1, vi a1), (2, vi a2), (3, vi a3), (4, vi a4)] [] σ τ Q) (m_readField a1 a2 a3 a4 τ) (fun r => Q.1 none σ r) := by
  unfold m_readField
  refine sm_top (fun K hRET => ?_)
  refine sm_b (l' := [(0, vr (some (gw g))), (1, vi a1), (2, vi a2), (3, vi a3), (4, vi a4)]) (st' := [vr (some (gw g))]) (pc' := 1) [(.aload_n 0, vi 0, 1)] (by decide +kernel) rfl rfl ?_
  refine sm_cv (N := mX4_word) (d' := d - 1) (fun r => (some (vi r.1))) (fun _ => σ) (fun r => r.2) [] [] rfl (by decide +kernel) q1661 q1663 qs56 (Or.inl ⟨rfl, q1664⟩) (show okN yX4_word 0 = true by decide +kernel) (fun H hR => hR.rvw G.1 G.2.1) rfl rfl (by omega) rfl (fun Q' => m_word_ok G (d - 1) (by omega)  τ Q') (fun y1 => ?_)
  refine sm_b (l' := [(0, vr (some (gw g))), (1, vi a1), (2, vi a2), (3, vi a3), (4, vi a4), (5, vi y1.1), (6, vi 1)]) (st' := []) (pc' := 9) [(.istore 5, vi 0, 6), (.iconst 1, vi 1, 7), (.istore 6, vi 0, 9)] (by decide +kernel) rfl rfl ?_
  refine sm_bind1 (fun (v2 : Int × TT) => V g mX4_readField d 29 [(0, vr (some (gw g))), (1, vi a1), (2, vi a2), (3, vi a3), (4, vi a4), (5, vi y1.1), (6, vi v2.1)] [] σ v2.2 Q) (fun v2 => ?_) (fun K3 j4 => ?_)
  · refine sm_b (l' := [(0, vr (some (gw g))), (1, vi a1), (2, vi a2), (3, vi a3), (4, vi a4), (5, vi y1.1), (6, vi v2.1)]) (st' := [vr (some (gw g))]) (pc' := 30) [(.aload_n 0, vi 0, 30)] (by decide +kernel) rfl rfl ?_
    refine sm_cv (N := mX4_word) (d' := d - 1) (fun r => (some (vi r.1))) (fun _ => σ) (fun r => r.2) [] [] rfl (by decide +kernel) q1661 q1663 qs56 (Or.inl ⟨rfl, q1664⟩) (show okN yX4_word 0 = true by decide +kernel) (fun H hR => hR.rvw G.1 G.2.1) rfl rfl (by omega) rfl (fun Q' => m_word_ok G (d - 1) (by omega)  v2.2 Q') (fun y6 => ?_)
    refine sm_b (l' := [(0, vr (some (gw g))), (1, vi a1), (2, vi a2), (3, vi a3), (4, vi a4), (5, vi y1.1), (6, vi v2.1), (7, vi y6.1)]) (st' := [vr (some (gw g))]) (pc' := 36) [(.istore 7, vi 0, 35), (.aload_n 0, vi 0, 36)] (by decide +kernel) rfl rfl ?_
    refine sm_str (k := 9) G rfl (by decide +kernel) ?_
    refine sm_cv (N := mX4_sign) (d' := d - 1) (fun r => none) (fun _ => σ) (fun r => r) [vr (some (gK g 9))] [] rfl (by decide +kernel) q1645 q1647 qs53 (Or.inl ⟨rfl, q1648⟩) (show okN yX4_sign 1 = true by decide +kernel) (fun H hR => hR.rvw G.1 G.2.1) rfl rfl (by omega) rfl (fun Q' => m_sign_ok G (d - 1) (by omega) 9 y6.2 Q') (fun y7 => ?_)
    refine sm_b (l' := [(0, vr (some (gw g))), (1, vi a1), (2, vi a2), (3, vi a3), (4, vi a4), (5, vi y1.1), (6, vi v2.1), (7, vi y6.1)]) (st' := [vr (some (gw g))]) (pc' := 42) [(.aload_n 0, vi 0, 42)] (by decide +kernel) rfl rfl ?_
    refine sm_cv (N := mX4_number) (d' := d - 1) (fun r => (some (vi r.1))) (fun _ => σ) (fun r => r.2) [] [] rfl (by decide +kernel) q1672 q1674 qs58 (Or.inl ⟨rfl, q1675⟩) (show okN yX4_number 0 = true by decide +kernel) (fun H hR => hR.rvw G.1 G.2.1) rfl rfl (by omega) rfl (fun Q' => m_number_ok G (d - 1) (by omega)  y7 Q') (fun y8 => ?_)
    refine sm_b (l' := [(0, vr (some (gw g))), (1, vi a1), (2, vi a2), (3, vi a3), (4, vi a4), (5, vi y1.1), (6, vi v2.1), (7, vi y6.1), (8, vi y8.1)]) (st' := [vr (some (gw g))]) (pc' := 48) [(.istore 8, vi 0, 47), (.aload_n 0, vi 0, 48)] (by decide +kernel) rfl rfl ?_
    refine sm_str (k := 12) G rfl (by decide +kernel) ?_
    refine sm_cv (N := mX4_sign) (d' := d - 1) (fun r => none) (fun _ => σ) (fun r => r) [vr (some (gK g 12))] [] rfl (by decide +kernel) q1645 q1647 qs53 (Or.inl ⟨rfl, q1648⟩) (show okN yX4_sign 1 = true by decide +kernel) (fun H hR => hR.rvw G.1 G.2.1) rfl rfl (by omega) rfl (fun Q' => m_sign_ok G (d - 1) (by omega) 12 y8.2 Q') (fun y9 => ?_)
    refine sm_b (l' := [(0, vr (some (gw g))), (1, vi a1), (2, vi a2), (3, vi a3), (4, vi a4), (5, vi y1.1), (6, vi v2.1), (7, vi y6.1), (8, vi y8.1)]) (st' := [vr (some (gw g)), vr (some (gw g))]) (pc' := 55) [(.aload_n 0, vi 0, 54), (.aload_n 0, vi 0, 55)] (by decide +kernel) rfl rfl ?_
    refine sm_tg (k := 14) (x := vi (tI y9 14)) G.2.1 q1432 rfl rfl (by decide +kernel) ?_
    refine sm_bind1 (fun (v15 : Int) => V g mX4_readField d 75 [(0, vr (some (gw g))), (1, vi a1), (2, vi a2), (3, vi a3), (4, vi a4), (5, vi y1.1), (6, vi v2.1), (7, vi y6.1), (8, vi y8.1)] [vi v15, vr (some (gw g))] σ y9 Q) (fun v15 => ?_) (fun K16 j17 => ?_)
    · refine sm_gd (fun h19 => ?_)
      refine sm_tpz (k := 14) G.2.1 q1432 rfl rfl rfl (tp_14 g y9 v15) h19 (by decide +kernel) ?_
      refine sm_nmt (fun τ20 => ?_)
      refine sm_b (l' := [(0, vr (some (gw g))), (1, vi a1), (2, vi a2), (3, vi a3), (4, vi a4), (5, vi y1.1), (6, vi v2.1), (7, vi y6.1), (8, vi y8.1)]) (st' := [vr (some (gw g))]) (pc' := 79) [(.aload_n 0, vi 0, 79)] (by decide +kernel) rfl rfl ?_
      refine sm_tg (k := 14) (x := vi (tI τ20 14)) G.2.1 q1432 rfl rfl (by decide +kernel) ?_
      refine sm_gd (fun h21 => ?_)
      refine sm_case (V g mX4_readField d 86 [(0, vr (some (gw g))), (1, vi a1), (2, vi a2), (3, vi a3), (4, vi a4), (5, vi y1.1), (6, vi v2.1), (7, vi y6.1), (8, vi y8.1)] [] σ τ20 Q) (V g mX4_readField d 85 [(0, vr (some (gw g))), (1, vi a1), (2, vi a2), (3, vi a3), (4, vi a4), (5, vi y1.1), (6, vi v2.1), (7, vi y6.1), (8, vi y8.1)] [] σ τ20 Q) ?_ ?_ (fun f43 p44 n45 => ?_)
      · refine sm_b (l' := [(0, vr (some (gw g))), (1, vi a1), (2, vi a2), (3, vi a3), (4, vi a4), (5, vi y1.1), (6, vi v2.1), (7, vi y6.1), (8, vi y8.1)]) (st' := [vr (some (gw g))]) (pc' := 87) [(.aload_n 0, vi 0, 87)] (by decide +kernel) rfl rfl ?_
        refine sm_tg (k := 25) (x := vr (some (gT g 25))) G.2.1 q1443 rfl rfl (by decide +kernel) ?_
        refine sm_b (l' := [(0, vr (some (gw g))), (1, vi a1), (2, vi a2), (3, vi a3), (4, vi a4), (5, vi y1.1), (6, vi v2.1), (7, vi y6.1), (8, vi y8.1)]) (st' := [vr (some (gw g)), vr (some (gT g 25))]) (pc' := 91) [(.aload_n 0, vi 0, 91)] (by decide +kernel) rfl rfl ?_
        refine sm_tg (k := 38) (x := vi (tI τ20 38)) G.2.1 q1456 rfl rfl (by decide +kernel) ?_
        refine sm_b (l' := [(0, vr (some (gw g))), (1, vi a1), (2, vi a2), (3, vi a3), (4, vi a4), (5, vi y1.1), (6, vi v2.1), (7, vi y6.1), (8, vi y8.1)]) (st' := [vi y1.1, vi (tI τ20 38), vr (some (gT g 25))]) (pc' := 96) [(.iload 5, vi 0, 96)] (by decide +kernel) rfl rfl ?_
        refine sm_gd (fun h24 => ?_)
        refine sm_ias (k := 25) G.2.1 (by decide) rfl (ibt (k := 25) h24) h24 (by decide +kernel) ?_
        refine sm_nmt (fun τ25 => ?_)
        refine sm_b (l' := [(0, vr (some (gw g))), (1, vi a1), (2, vi a2), (3, vi a3), (4, vi a4), (5, vi y1.1), (6, vi v2.1), (7, vi y6.1), (8, vi y8.1)]) (st' := [vr (some (gw g))]) (pc' := 98) [(.aload_n 0, vi 0, 98)] (by decide +kernel) rfl rfl ?_
        refine sm_tg (k := 26) (x := vr (some (gT g 26))) G.2.1 q1444 rfl rfl (by decide +kernel) ?_
        refine sm_b (l' := [(0, vr (some (gw g))), (1, vi a1), (2, vi a2), (3, vi a3), (4, vi a4), (5, vi y1.1), (6, vi v2.1), (7, vi y6.1), (8, vi y8.1)]) (st' := [vr (some (gw g)), vr (some (gT g 26))]) (pc' := 102) [(.aload_n 0, vi 0, 102)] (by decide +kernel) rfl rfl ?_
        refine sm_tg (k := 38) (x := vi (tI τ25 38)) G.2.1 q1456 rfl rfl (by decide +kernel) ?_
        refine sm_b (l' := [(0, vr (some (gw g))), (1, vi a1), (2, vi a2), (3, vi a3), (4, vi a4), (5, vi y1.1), (6, vi v2.1), (7, vi y6.1), (8, vi y8.1)]) (st' := [vi v2.1, vi (tI τ25 38), vr (some (gT g 26))]) (pc' := 107) [(.iload 6, vi 0, 107)] (by decide +kernel) rfl rfl ?_
        refine sm_gd (fun h26 => ?_)
        refine sm_ias (k := 26) G.2.1 (by decide) rfl (ibt (k := 26) h26) h26 (by decide +kernel) ?_
        refine sm_nmt (fun τ27 => ?_)
        refine sm_b (l' := [(0, vr (some (gw g))), (1, vi a1), (2, vi a2), (3, vi a3), (4, vi a4), (5, vi y1.1), (6, vi v2.1), (7, vi y6.1), (8, vi y8.1)]) (st' := [vr (some (gw g))]) (pc' := 109) [(.aload_n 0, vi 0, 109)] (by decide +kernel) rfl rfl ?_
        refine sm_tg (k := 22) (x := vr (some (gT g 22))) G.2.1 q1440 rfl rfl (by decide +kernel) ?_
        refine sm_b (l' := [(0, vr (some (gw g))), (1, vi a1), (2, vi a2), (3, vi a3), (4, vi a4), (5, vi y1.1), (6, vi v2.1), (7, vi y6.1), (8, vi y8.1)]) (st' := [vr (some (gw g)), vr (some (gT g 22))]) (pc' := 113) [(.aload_n 0, vi 0, 113)] (by decide +kernel) rfl rfl ?_
        refine sm_tg (k := 38) (x := vi (tI τ27 38)) G.2.1 q1456 rfl rfl (by decide +kernel) ?_
        refine sm_b (l' := [(0, vr (some (gw g))), (1, vi a1), (2, vi a2), (3, vi a3), (4, vi a4), (5, vi y1.1), (6, vi v2.1), (7, vi y6.1), (8, vi y8.1)]) (st' := [vi y6.1, vi (tI τ27 38), vr (some (gT g 22))]) (pc' := 118) [(.iload 7, vi 0, 118)] (by decide +kernel) rfl rfl ?_
        refine sm_gd (fun h28 => ?_)
        refine sm_ias (k := 22) G.2.1 (by decide) rfl (ibt (k := 22) h28) h28 (by decide +kernel) ?_
        refine sm_nmt (fun τ29 => ?_)
        refine sm_b (l' := [(0, vr (some (gw g))), (1, vi a1), (2, vi a2), (3, vi a3), (4, vi a4), (5, vi y1.1), (6, vi v2.1), (7, vi y6.1), (8, vi y8.1)]) (st' := [vr (some (gw g))]) (pc' := 120) [(.aload_n 0, vi 0, 120)] (by decide +kernel) rfl rfl ?_
        refine sm_tg (k := 24) (x := vr (some (gT g 24))) G.2.1 q1442 rfl rfl (by decide +kernel) ?_
        refine sm_b (l' := [(0, vr (some (gw g))), (1, vi a1), (2, vi a2), (3, vi a3), (4, vi a4), (5, vi y1.1), (6, vi v2.1), (7, vi y6.1), (8, vi y8.1)]) (st' := [vr (some (gw g)), vr (some (gT g 24))]) (pc' := 124) [(.aload_n 0, vi 0, 124)] (by decide +kernel) rfl rfl ?_
        refine sm_tg (k := 38) (x := vi (tI τ29 38)) G.2.1 q1456 rfl rfl (by decide +kernel) ?_
        refine sm_b (l' := [(0, vr (some (gw g))), (1, vi a1), (2, vi a2), (3, vi a3), (4, vi a4), (5, vi y1.1), (6, vi v2.1), (7, vi y6.1), (8, vi y8.1)]) (st' := [vi y8.1, vi (tI τ29 38), vr (some (gT g 24))]) (pc' := 129) [(.iload 8, vi 0, 129)] (by decide +kernel) rfl rfl ?_
        refine sm_gd (fun h30 => ?_)
        refine sm_ias (k := 24) G.2.1 (by decide) rfl (ibt (k := 24) h30) h30 (by decide +kernel) ?_
        refine sm_nmt (fun τ31 => ?_)
        refine sm_b (l' := [(0, vr (some (gw g))), (1, vi a1), (2, vi a2), (3, vi a3), (4, vi a4), (5, vi y1.1), (6, vi v2.1), (7, vi y6.1), (8, vi y8.1)]) (st' := [vr (some (gw g))]) (pc' := 131) [(.aload_n 0, vi 0, 131)] (by decide +kernel) rfl rfl ?_
        refine sm_tg (k := 23) (x := vr (some (gT g 23))) G.2.1 q1441 rfl rfl (by decide +kernel) ?_
        refine sm_b (l' := [(0, vr (some (gw g))), (1, vi a1), (2, vi a2), (3, vi a3), (4, vi a4), (5, vi y1.1), (6, vi v2.1), (7, vi y6.1), (8, vi y8.1)]) (st' := [vr (some (gw g)), vr (some (gT g 23))]) (pc' := 135) [(.aload_n 0, vi 0, 135)] (by decide +kernel) rfl rfl ?_
        refine sm_tg (k := 38) (x := vi (tI τ31 38)) G.2.1 q1456 rfl rfl (by decide +kernel) ?_
        refine sm_b (l' := [(0, vr (some (gw g))), (1, vi a1), (2, vi a2), (3, vi a3), (4, vi a4), (5, vi y1.1), (6, vi v2.1), (7, vi y6.1), (8, vi y8.1)]) (st' := [vi a1, vi (tI τ31 38), vr (some (gT g 23))]) (pc' := 139) [(.iload_n 1, vi 0, 139)] (by decide +kernel) rfl rfl ?_
        refine sm_gd (fun h32 => ?_)
        refine sm_ias (k := 23) G.2.1 (by decide) rfl (ibt (k := 23) h32) h32 (by decide +kernel) ?_
        refine sm_nmt (fun τ33 => ?_)
        refine sm_b (l' := [(0, vr (some (gw g))), (1, vi a1), (2, vi a2), (3, vi a3), (4, vi a4), (5, vi y1.1), (6, vi v2.1), (7, vi y6.1), (8, vi y8.1)]) (st' := [vr (some (gw g))]) (pc' := 141) [(.aload_n 0, vi 0, 141)] (by decide +kernel) rfl rfl ?_
        refine sm_tg (k := 27) (x := vr (some (gT g 27))) G.2.1 q1445 rfl rfl (by decide +kernel) ?_
        refine sm_b (l' := [(0, vr (some (gw g))), (1, vi a1), (2, vi a2), (3, vi a3), (4, vi a4), (5, vi y1.1), (6, vi v2.1), (7, vi y6.1), (8, vi y8.1)]) (st' := [vr (some (gw g)), vr (some (gT g 27))]) (pc' := 145) [(.aload_n 0, vi 0, 145)] (by decide +kernel) rfl rfl ?_
        refine sm_tg (k := 38) (x := vi (tI τ33 38)) G.2.1 q1456 rfl rfl (by decide +kernel) ?_
        refine sm_b (l' := [(0, vr (some (gw g))), (1, vi a1), (2, vi a2), (3, vi a3), (4, vi a4), (5, vi y1.1), (6, vi v2.1), (7, vi y6.1), (8, vi y8.1)]) (st' := [vi a2, vi (tI τ33 38), vr (some (gT g 27))]) (pc' := 149) [(.iload_n 2, vi 0, 149)] (by decide +kernel) rfl rfl ?_
        refine sm_gd (fun h34 => ?_)
        refine sm_ias (k := 27) G.2.1 (by decide) rfl (ibt (k := 27) h34) h34 (by decide +kernel) ?_
        refine sm_nmt (fun τ35 => ?_)
        refine sm_b (l' := [(0, vr (some (gw g))), (1, vi a1), (2, vi a2), (3, vi a3), (4, vi a4), (5, vi y1.1), (6, vi v2.1), (7, vi y6.1), (8, vi y8.1)]) (st' := [vr (some (gw g))]) (pc' := 151) [(.aload_n 0, vi 0, 151)] (by decide +kernel) rfl rfl ?_
        refine sm_tg (k := 29) (x := vr (some (gT g 29))) G.2.1 q1447 rfl rfl (by decide +kernel) ?_
        refine sm_b (l' := [(0, vr (some (gw g))), (1, vi a1), (2, vi a2), (3, vi a3), (4, vi a4), (5, vi y1.1), (6, vi v2.1), (7, vi y6.1), (8, vi y8.1)]) (st' := [vr (some (gw g)), vr (some (gT g 29))]) (pc' := 155) [(.aload_n 0, vi 0, 155)] (by decide +kernel) rfl rfl ?_
        refine sm_tg (k := 38) (x := vi (tI τ35 38)) G.2.1 q1456 rfl rfl (by decide +kernel) ?_
        refine sm_b (l' := [(0, vr (some (gw g))), (1, vi a1), (2, vi a2), (3, vi a3), (4, vi a4), (5, vi y1.1), (6, vi v2.1), (7, vi y6.1), (8, vi y8.1)]) (st' := [vi a3, vi (tI τ35 38), vr (some (gT g 29))]) (pc' := 159) [(.iload_n 3, vi 0, 159)] (by decide +kernel) rfl rfl ?_
        refine sm_gd (fun h36 => ?_)
        refine sm_gd (fun h37 => ?_)
        refine sm_zas (k := 29) G.2.1 (by decide) rfl (ibt (k := 29) h36) h36 h37 (by decide +kernel) ?_
        refine sm_nmt (fun τ38 => ?_)
        refine sm_b (l' := [(0, vr (some (gw g))), (1, vi a1), (2, vi a2), (3, vi a3), (4, vi a4), (5, vi y1.1), (6, vi v2.1), (7, vi y6.1), (8, vi y8.1)]) (st' := [vr (some (gw g))]) (pc' := 161) [(.aload_n 0, vi 0, 161)] (by decide +kernel) rfl rfl ?_
        refine sm_tg (k := 30) (x := vr (some (gT g 30))) G.2.1 q1448 rfl rfl (by decide +kernel) ?_
        refine sm_b (l' := [(0, vr (some (gw g))), (1, vi a1), (2, vi a2), (3, vi a3), (4, vi a4), (5, vi y1.1), (6, vi v2.1), (7, vi y6.1), (8, vi y8.1)]) (st' := [vr (some (gw g)), vr (some (gT g 30))]) (pc' := 165) [(.aload_n 0, vi 0, 165)] (by decide +kernel) rfl rfl ?_
        refine sm_tg (k := 38) (x := vi (tI τ38 38)) G.2.1 q1456 rfl rfl (by decide +kernel) ?_
        refine sm_b (l' := [(0, vr (some (gw g))), (1, vi a1), (2, vi a2), (3, vi a3), (4, vi a4), (5, vi y1.1), (6, vi v2.1), (7, vi y6.1), (8, vi y8.1)]) (st' := [vi a4, vi (tI τ38 38), vr (some (gT g 30))]) (pc' := 170) [(.iload 4, vi 0, 170)] (by decide +kernel) rfl rfl ?_
        refine sm_gd (fun h39 => ?_)
        refine sm_gd (fun h40 => ?_)
        refine sm_zas (k := 30) G.2.1 (by decide) rfl (ibt (k := 30) h39) h39 h40 (by decide +kernel) ?_
        refine sm_nmt (fun τ41 => ?_)
        refine sm_b (l' := [(0, vr (some (gw g))), (1, vi a1), (2, vi a2), (3, vi a3), (4, vi a4), (5, vi y1.1), (6, vi v2.1), (7, vi y6.1), (8, vi y8.1)]) (st' := [vr (some (gw g)), vr (some (gw g))]) (pc' := 173) [(.aload_n 0, vi 0, 172), (.dup, vi 0, 173)] (by decide +kernel) rfl rfl ?_
        refine sm_tg (k := 38) (x := vi (tI τ41 38)) G.2.1 q1456 rfl rfl (by decide +kernel) ?_
        refine sm_b (l' := [(0, vr (some (gw g))), (1, vi a1), (2, vi a2), (3, vi a3), (4, vi a4), (5, vi y1.1), (6, vi v2.1), (7, vi y6.1), (8, vi y8.1)]) (st' := [vi ((tI τ41 38) + 1), vr (some (gw g))]) (pc' := 178) [(.iconst 1, vi 1, 177), (.iadd, vi 0, 178)] (by decide +kernel) rfl rfl ?_
        refine sm_tpi (k := 38) G.2.1 q1456 rfl rfl rfl (tp_38 g τ41 ((tI τ41 38) + 1)) (by decide +kernel) ?_
        refine sm_nmt (fun τ42 => ?_)
        exact sm_vret rfl (by decide +kernel) (fun h => hRET _ h)
      · exact sm_vret rfl (by decide +kernel) (fun h => hRET _ h)
      refine sm_if_eq (off := 4) (tgt := 86) h21 (by decide +kernel) (fun c46 => ?_) (fun c46 => ?_)
      · exact p44 c46
      · exact n45 c46
    · refine sm_gd (fun h10 => ?_)
      refine sm_gd (fun h12 => ?_)
      refine sm_case (V g mX4_readField d 74 [(0, vr (some (gw g))), (1, vi a1), (2, vi a2), (3, vi a3), (4, vi a4), (5, vi y1.1), (6, vi v2.1), (7, vi y6.1), (8, vi y8.1)] [vr (some (gw g))] σ y9 Q) (V g mX4_readField d 70 [(0, vr (some (gw g))), (1, vi a1), (2, vi a2), (3, vi a3), (4, vi a4), (5, vi y1.1), (6, vi v2.1), (7, vi y6.1), (8, vi y8.1)] [vr (some (gw g))] σ y9 Q) ?_ ?_ (fun f47 p48 n49 => ?_)
      · refine sm_b (l' := [(0, vr (some (gw g))), (1, vi a1), (2, vi a2), (3, vi a3), (4, vi a4), (5, vi y1.1), (6, vi v2.1), (7, vi y6.1), (8, vi y8.1)]) (st' := [vi 0, vr (some (gw g))]) (pc' := 75) [(.iconst 0, vi 0, 75)] (by decide +kernel) rfl rfl ?_
        exact sm_leaf (fun h => j17 _ h)
      · refine sm_b (l' := [(0, vr (some (gw g))), (1, vi a1), (2, vi a2), (3, vi a3), (4, vi a4), (5, vi y1.1), (6, vi v2.1), (7, vi y6.1), (8, vi y8.1)]) (st' := [vi 1, vr (some (gw g))]) (pc' := 75) [(.iconst 1, vi 1, 71), (.goto 4, vi 0, 75)] (by decide +kernel) rfl rfl ?_
        exact sm_leaf (fun h => j17 _ h)
      refine sm_if_ne (off := 12) (tgt := 70) h10 (by decide +kernel) (fun c50 => ?_) (fun c50 => ?_)
      · exact n49 (fun q => c50 q.1)
      · have w11 : (tI y9 14) = 0 := c50
        refine sm_b (l' := [(0, vr (some (gw g))), (1, vi a1), (2, vi a2), (3, vi a3), (4, vi a4), (5, vi y1.1), (6, vi v2.1), (7, vi y6.1), (8, vi y8.1)]) (st' := [vr (some (gw g)), vr (some (gw g))]) (pc' := 62) [(.aload_n 0, vi 0, 62)] (by decide +kernel) rfl rfl ?_
        refine sm_tg (k := 38) (x := vi (tI y9 38)) G.2.1 q1456 rfl rfl (by decide +kernel) ?_
        refine sm_b (l' := [(0, vr (some (gw g))), (1, vi a1), (2, vi a2), (3, vi a3), (4, vi a4), (5, vi y1.1), (6, vi v2.1), (7, vi y6.1), (8, vi y8.1)]) (st' := [vi 50, vi (tI y9 38), vr (some (gw g))]) (pc' := 67) [(.bipush 50, vi 50, 67)] (by decide +kernel) rfl rfl ?_
        refine sm_icmp_ne (off := 7) (tgt := 74) (h12 w11) (by decide) (by decide +kernel) (fun c51 => ?_) (fun c51 => ?_)
        · exact p48 ⟨c50, c51⟩
        · exact n49 (fun q => (fun q => q c51) q.2)
  · exact m_readField_L9_ok G d hd1 a1 a2 a3 a4 y1.1  (fun _ h => j4 _ h) FU 1 y1.2
def m_readOneof_L80 (u1 : Int) (u2 : Int) : Nat → TT → Option (TT)
  | 0, _ => none
  | n + 1, τ => Option.bind (m_readField u1 u2 0 0 τ) fun y23 => Option.bind (m_takes 15 y23) fun y24 => gd (rg y24.1) (gd (y24.1 = 0 → rg (tI y24.2 14)) (if (y24.1 = 0) ∧ ((tI y24.2 14) = 0) then (m_readOneof_L80 u1 u2 n y24.2) else (some y24.2)))
def m_readOneof (a1 : Int) (τ : TT) : Option (TT) := nm (uI τ 13 ((tI τ 13) + 1)) fun τ1 => nm (tI τ1 39) fun x2 => Option.bind (gd (rg (tI τ1 14)) (gd ((tI τ1 14) = 0 → rg x2) (if ((tI τ1 14) = 0) ∧ (¬ (x2 = 12)) then (some 0) else (some 1)))) fun (v8 : Int) => gd (zb v8) (nm (uI τ1 14 v8) fun τ13 => Option.bind (m_word τ13) fun y14 => gd (rg (tI y14.2 14)) (if (tI y14.2 14) = 0 then (nm (uI y14.2 39 ((tI y14.2 39) + 1)) fun τ18 => gd (ib x2 12) (nm (uA τ18 31 x2.toNat y14.1) fun τ20 => nm (uA τ20 32 x2.toNat a1) fun τ21 => Option.bind (m_sign 14 τ21) fun y22 => m_readOneof_L80 a1 x2 FU y22)) else (some y14.2)))
set_option maxHeartbeats 4000000 in
theorem m_readOneof_L80_ok {g : GE} (G : GG g) {σ : ST} {Q : VQ} (d : Nat) (hd1 : 9 ≤ d) (u1 : Int) (u2 : Int)  {K : TT → Prop} (hRET : ∀ r : TT, K (r) → Q.1 none σ r) : ∀ (n : Nat) (τ : TT), Sm (V g mX4_readOneof d 80 [(0, vr (some (gw g))), (1, vi u1), (2, vi u2)] [] σ τ Q) (m_readOneof_L80 u1 u2 n τ) K := by
  intro n
  induction n with
  | zero => intro τ; exact sm_none
  | succ n ih =>
    intro τ
    rw [m_readOneof_L80.eq_2]
    refine sm_b (l' := [(0, vr (some (gw g))), (1, vi u1), (2, vi u2)]) (st' := [vi 0, vi 0, vi u2, vi u1, vr (some (gw g))]) (pc' := 85) [(.aload_n 0, vi 0, 81), (.iload_n 1, vi 0, 82), (.iload_n 2, vi 0, 83), (.iconst 0, vi 0, 84), (.iconst 0, vi 0, 85)] (by decide +kernel) rfl rfl ?_
    refine sm_cv (N := mX4_readField) (d' := d - 1) (fun r => none) (fun _ => σ) (fun r => r) [vi u1, vi u2, vi 0, vi 0] [] rfl (by decide +kernel) q1681 q1683 qs60 (Or.inl ⟨rfl, q1684⟩) (show okN yX4_readField 4 = true by decide +kernel) (fun H hR => hR.rvw G.1 G.2.1) rfl rfl (by omega) rfl (fun Q' => m_readField_ok G (d - 1) (by omega) u1 u2 0 0 τ Q') (fun y23 => ?_)
    refine sm_b (l' := [(0, vr (some (gw g))), (1, vi u1), (2, vi u2)]) (st' := [vr (some (gw g))]) (pc' := 89) [(.aload_n 0, vi 0, 89)] (by decide +kernel) rfl rfl ?_
    refine sm_str (k := 15) G rfl (by decide +kernel) ?_
    refine sm_cv (N := mX4_takes) (d' := d - 1) (fun r => (some (vi r.1))) (fun _ => σ) (fun r => r.2) [vr (some (gK g 15))] [] rfl (by decide +kernel) q1634 q1636 qs51 (Or.inl ⟨rfl, q1637⟩) (show okN yX4_takes 1 = true by decide +kernel) (fun H hR => hR.rvw G.1 G.2.1) rfl rfl (by omega) rfl (fun Q' => m_takes_ok G (d - 1) (by omega) 15 y23 Q') (fun y24 => ?_)
    refine sm_gd (fun h25 => ?_)
    refine sm_gd (fun h27 => ?_)
    refine sm_case (V g mX4_readOneof d 80 [(0, vr (some (gw g))), (1, vi u1), (2, vi u2)] [] σ y24.2 Q) (V g mX4_readOneof d 104 [(0, vr (some (gw g))), (1, vi u1), (2, vi u2)] [] σ y24.2 Q) ?_ ?_ (fun f29 p30 n31 => ?_)
    · exact ih y24.2
    · exact sm_vret rfl (by decide +kernel) (fun h => hRET _ h)
    refine sm_if_ne (off := 10) (tgt := 104) h25 (by decide +kernel) (fun c32 => ?_) (fun c32 => ?_)
    · exact n31 (fun q => c32 q.1)
    · have w26 : y24.1 = 0 := c32
      refine sm_b (l' := [(0, vr (some (gw g))), (1, vi u1), (2, vi u2)]) (st' := [vr (some (gw g))]) (pc' := 98) [(.aload_n 0, vi 0, 98)] (by decide +kernel) rfl rfl ?_
      refine sm_tg (k := 14) (x := vi (tI y24.2 14)) G.2.1 q1432 rfl rfl (by decide +kernel) ?_
      refine sm_if_eq (off := (-21)) (tgt := 80) (h27 w26) (by decide +kernel) (fun c33 => ?_) (fun c33 => ?_)
      · exact p30 ⟨c32, c33⟩
      · exact n31 (fun q => c33 q.2)
set_option maxHeartbeats 4000000 in
theorem m_readOneof_ok {g : GE} (G : GG g) {σ : ST} (d : Nat) (hd1 : 9 ≤ d) (a1 : Int)  (τ : TT) (Q : VQ) : Sm (V g mX4_readOneof d 0 [(0, vr (some (gw g))), (1, vi a1)] [] σ τ Q) (m_readOneof a1 τ) (fun r => Q.1 none σ r) := by
  unfold m_readOneof
  refine sm_top (fun K hRET => ?_)
  refine sm_b (l' := [(0, vr (some (gw g))), (1, vi a1)]) (st' := [vr (some (gw g)), vr (some (gw g))]) (pc' := 2) [(.aload_n 0, vi 0, 1), (.dup, vi 0, 2)] (by decide +kernel) rfl rfl ?_
  refine sm_tg (k := 13) (x := vi (tI τ 13)) G.2.1 q1431 rfl rfl (by decide +kernel) ?_
  refine sm_b (l' := [(0, vr (some (gw g))), (1, vi a1)]) (st' := [vi ((tI τ 13) + 1), vr (some (gw g))]) (pc' := 7) [(.iconst 1, vi 1, 6), (.iadd, vi 0, 7)] (by decide +kernel) rfl rfl ?_
  refine sm_tpi (k := 13) G.2.1 q1431 rfl rfl rfl (tp_13 g τ ((tI τ 13) + 1)) (by decide +kernel) ?_
  refine sm_nmt (fun τ1 => ?_)
  refine sm_b (l' := [(0, vr (some (gw g))), (1, vi a1)]) (st' := [vr (some (gw g))]) (pc' := 11) [(.aload_n 0, vi 0, 11)] (by decide +kernel) rfl rfl ?_
  refine sm_tg (k := 39) (x := vi (tI τ1 39)) G.2.1 q1457 rfl rfl (by decide +kernel) ?_
  refine sm_nmi (fun x2 => ?_)
  refine sm_b (l' := [(0, vr (some (gw g))), (1, vi a1), (2, vi x2)]) (st' := [vr (some (gw g)), vr (some (gw g))]) (pc' := 17) [(.istore_n 2, vi 0, 15), (.aload_n 0, vi 0, 16), (.aload_n 0, vi 0, 17)] (by decide +kernel) rfl rfl ?_
  refine sm_tg (k := 14) (x := vi (tI τ1 14)) G.2.1 q1432 rfl rfl (by decide +kernel) ?_
  refine sm_bind1 (fun (v8 : Int) => V g mX4_readOneof d 34 [(0, vr (some (gw g))), (1, vi a1), (2, vi x2)] [vi v8, vr (some (gw g))] σ τ1 Q) (fun v8 => ?_) (fun K9 j10 => ?_)
  · refine sm_gd (fun h12 => ?_)
    refine sm_tpz (k := 14) G.2.1 q1432 rfl rfl rfl (tp_14 g τ1 v8) h12 (by decide +kernel) ?_
    refine sm_nmt (fun τ13 => ?_)
    refine sm_b (l' := [(0, vr (some (gw g))), (1, vi a1), (2, vi x2)]) (st' := [vr (some (gw g))]) (pc' := 38) [(.aload_n 0, vi 0, 38)] (by decide +kernel) rfl rfl ?_
    refine sm_cv (N := mX4_word) (d' := d - 1) (fun r => (some (vi r.1))) (fun _ => σ) (fun r => r.2) [] [] rfl (by decide +kernel) q1661 q1663 qs56 (Or.inl ⟨rfl, q1664⟩) (show okN yX4_word 0 = true by decide +kernel) (fun H hR => hR.rvw G.1 G.2.1) rfl rfl (by omega) rfl (fun Q' => m_word_ok G (d - 1) (by omega)  τ13 Q') (fun y14 => ?_)
    refine sm_b (l' := [(0, vr (some (gw g))), (1, vi a1), (2, vi x2), (3, vi y14.1)]) (st' := [vr (some (gw g))]) (pc' := 43) [(.istore_n 3, vi 0, 42), (.aload_n 0, vi 0, 43)] (by decide +kernel) rfl rfl ?_
    refine sm_tg (k := 14) (x := vi (tI y14.2 14)) G.2.1 q1432 rfl rfl (by decide +kernel) ?_
    refine sm_gd (fun h15 => ?_)
    refine sm_case (V g mX4_readOneof d 50 [(0, vr (some (gw g))), (1, vi a1), (2, vi x2), (3, vi y14.1)] [] σ y14.2 Q) (V g mX4_readOneof d 49 [(0, vr (some (gw g))), (1, vi a1), (2, vi x2), (3, vi y14.1)] [] σ y14.2 Q) ?_ ?_ (fun f34 p35 n36 => ?_)
    · refine sm_b (l' := [(0, vr (some (gw g))), (1, vi a1), (2, vi x2), (3, vi y14.1)]) (st' := [vr (some (gw g)), vr (some (gw g))]) (pc' := 52) [(.aload_n 0, vi 0, 51), (.dup, vi 0, 52)] (by decide +kernel) rfl rfl ?_
      refine sm_tg (k := 39) (x := vi (tI y14.2 39)) G.2.1 q1457 rfl rfl (by decide +kernel) ?_
      refine sm_b (l' := [(0, vr (some (gw g))), (1, vi a1), (2, vi x2), (3, vi y14.1)]) (st' := [vi ((tI y14.2 39) + 1), vr (some (gw g))]) (pc' := 57) [(.iconst 1, vi 1, 56), (.iadd, vi 0, 57)] (by decide +kernel) rfl rfl ?_
      refine sm_tpi (k := 39) G.2.1 q1457 rfl rfl rfl (tp_39 g y14.2 ((tI y14.2 39) + 1)) (by decide +kernel) ?_
      refine sm_nmt (fun τ18 => ?_)
      refine sm_b (l' := [(0, vr (some (gw g))), (1, vi a1), (2, vi x2), (3, vi y14.1)]) (st' := [vr (some (gw g))]) (pc' := 61) [(.aload_n 0, vi 0, 61)] (by decide +kernel) rfl rfl ?_
      refine sm_tg (k := 31) (x := vr (some (gT g 31))) G.2.1 q1449 rfl rfl (by decide +kernel) ?_
      refine sm_b (l' := [(0, vr (some (gw g))), (1, vi a1), (2, vi x2), (3, vi y14.1)]) (st' := [vi y14.1, vi x2, vr (some (gT g 31))]) (pc' := 66) [(.iload_n 2, vi 0, 65), (.iload_n 3, vi 0, 66)] (by decide +kernel) rfl rfl ?_
      refine sm_gd (fun h19 => ?_)
      refine sm_ias (k := 31) G.2.1 (by decide) rfl (ibt (k := 31) h19) h19 (by decide +kernel) ?_
      refine sm_nmt (fun τ20 => ?_)
      refine sm_b (l' := [(0, vr (some (gw g))), (1, vi a1), (2, vi x2), (3, vi y14.1)]) (st' := [vr (some (gw g))]) (pc' := 68) [(.aload_n 0, vi 0, 68)] (by decide +kernel) rfl rfl ?_
      refine sm_tg (k := 32) (x := vr (some (gT g 32))) G.2.1 q1450 rfl rfl (by decide +kernel) ?_
      refine sm_b (l' := [(0, vr (some (gw g))), (1, vi a1), (2, vi x2), (3, vi y14.1)]) (st' := [vi a1, vi x2, vr (some (gT g 32))]) (pc' := 73) [(.iload_n 2, vi 0, 72), (.iload_n 1, vi 0, 73)] (by decide +kernel) rfl rfl ?_
      refine sm_ias (k := 32) G.2.1 (by decide) rfl (ibt (k := 32) h19) h19 (by decide +kernel) ?_
      refine sm_nmt (fun τ21 => ?_)
      refine sm_b (l' := [(0, vr (some (gw g))), (1, vi a1), (2, vi x2), (3, vi y14.1)]) (st' := [vr (some (gw g))]) (pc' := 75) [(.aload_n 0, vi 0, 75)] (by decide +kernel) rfl rfl ?_
      refine sm_str (k := 14) G rfl (by decide +kernel) ?_
      refine sm_cv (N := mX4_sign) (d' := d - 1) (fun r => none) (fun _ => σ) (fun r => r) [vr (some (gK g 14))] [] rfl (by decide +kernel) q1645 q1647 qs53 (Or.inl ⟨rfl, q1648⟩) (show okN yX4_sign 1 = true by decide +kernel) (fun H hR => hR.rvw G.1 G.2.1) rfl rfl (by omega) rfl (fun Q' => m_sign_ok G (d - 1) (by omega) 14 τ21 Q') (fun y22 => ?_)
      refine sm_pick [0, 1, 2] (l' := [(0, vr (some (gw g))), (1, vi a1), (2, vi x2)]) rfl ?_
      exact m_readOneof_L80_ok G d hd1 a1 x2  (fun r h => hRET _ h) FU y22
    · exact sm_vret rfl (by decide +kernel) (fun h => hRET _ h)
    refine sm_if_eq (off := 4) (tgt := 50) h15 (by decide +kernel) (fun c37 => ?_) (fun c37 => ?_)
    · exact p35 c37
    · exact n36 c37
  · refine sm_gd (fun h3 => ?_)
    refine sm_gd (fun h5 => ?_)
    refine sm_case (V g mX4_readOneof d 33 [(0, vr (some (gw g))), (1, vi a1), (2, vi x2)] [vr (some (gw g))] σ τ1 Q) (V g mX4_readOneof d 29 [(0, vr (some (gw g))), (1, vi a1), (2, vi x2)] [vr (some (gw g))] σ τ1 Q) ?_ ?_ (fun f38 p39 n40 => ?_)
    · refine sm_b (l' := [(0, vr (some (gw g))), (1, vi a1), (2, vi x2)]) (st' := [vi 0, vr (some (gw g))]) (pc' := 34) [(.iconst 0, vi 0, 34)] (by decide +kernel) rfl rfl ?_
      exact sm_leaf (fun h => j10 _ h)
    · refine sm_b (l' := [(0, vr (some (gw g))), (1, vi a1), (2, vi x2)]) (st' := [vi 1, vr (some (gw g))]) (pc' := 34) [(.iconst 1, vi 1, 30), (.goto 4, vi 0, 34)] (by decide +kernel) rfl rfl ?_
      exact sm_leaf (fun h => j10 _ h)
    refine sm_if_ne (off := 9) (tgt := 29) h3 (by decide +kernel) (fun c41 => ?_) (fun c41 => ?_)
    · exact n40 (fun q => c41 q.1)
    · have w4 : (tI τ1 14) = 0 := c41
      refine sm_b (l' := [(0, vr (some (gw g))), (1, vi a1), (2, vi x2)]) (st' := [vi 12, vi x2, vr (some (gw g))]) (pc' := 26) [(.iload_n 2, vi 0, 24), (.bipush 12, vi 12, 26)] (by decide +kernel) rfl rfl ?_
      refine sm_icmp_ne (off := 7) (tgt := 33) (h5 w4) (by decide) (by decide +kernel) (fun c42 => ?_) (fun c42 => ?_)
      · exact p39 ⟨c41, c42⟩
      · exact n40 (fun q => (fun q => q c42) q.2)
