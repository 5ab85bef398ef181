set_option maxRecDepth 100000
/-! SCHEMAS, READ: numbers of the reference -/
section Mg
variable {I : Nat → Nat} {n K i : Nat} {τ τ' : TT}
theorem m_num_L (h : MRd τ I n K i) (h2 : (tkn I n i).1 = 2) : ∀ (c N j : Nat), j + c = (tkn I n i).2.2 - (tkn I n i).2.1 → c < N → m_number_L31 τ N ((nvl I (tkn I n i).2.1 j : Nat) : Int) (j : Int) = some ((nvl I (tkn I n i).2.1 ((tkn I n i).2.2 - (tkn I n i).2.1) : Nat) : Int)
  | c, 0, j, _, hN => by omega
  | 0, N + 1, j, hj, _ => by
    obtain ⟨h1, hK, h3, h4, h5, h6⟩ := h
    have hn := h1.2.1
    obtain ⟨s, s1, s2, s3, s4, s5⟩ := num_tk h2
    have hk := h3 i h4
    rw [m_number_L31, h5, gd_pos (by omega), gd_pos (by omega), Int.toNat_natCast, hk.2.2, gd_pos (by omega), if_pos (by omega), show j = (tkn I n i).2.2 - (tkn I n i).2.1 by omega]
  | c + 1, N + 1, j, hj, hN => by
    obtain ⟨h1, hK, h3, h4, h5, h6⟩ := id h
    have hn := h1.2.1
    obtain ⟨s, s1, s2, s3, s4, s5⟩ := num_tk h2
    have hk := h3 i h4
    have gl := rnF_le dch I (n := n) (p := s + 1) (by omega)
    have hd : dch (lk I n (s + j)) = true := by
      by_cases e : j = 0
      · rw [e]; exact s4
      · exact rnF_all dch I n _ (s + 1) (s + j) (Nat.le_refl _) (by omega) (by omega)
    have hd2 : 48 ≤ lk I n (s + j) ∧ lk I n (s + j) ≤ 57 := of_decide_eq_true hd
    rw [lk_lt (show s + j < n by omega)] at hd2
    have e8 : tA τ 8 (s + j) = (I (s + j) : Int) := h1.2.2.1 _ (by omega)
    have ih := m_num_L h h2 c N (j + 1) (by omega) (by omega)
    rw [m_number_L31, h5, gd_pos (by omega), gd_pos (by omega), Int.toNat_natCast, hk.2.2, gd_pos (by omega), if_neg (by omega), hk.2.1, gd_pos (by omega), nm_eq, show (((tkn I n i).2.1 : Int) + (j : Int)).toNat = s + j by omega, e8, show (j : Int) + 1 = ((j + 1 : Nat) : Int) by omega, ← ih]
    rw [nvl, s2]
    congr 1
    omega
end Mg
