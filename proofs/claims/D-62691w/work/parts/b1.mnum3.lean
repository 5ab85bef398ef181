set_option maxRecDepth 100000
/-! SCHEMAS, READ: numbers of the reference -/
section Mh
variable {I : Nat → Nat} {n K i : Nat} {τ τ' : TT}
theorem m_number_eq (h : MRd τ I n K i) : m_number τ = some (if (tkn I n i).1 = 2 then (((nvl I (tkn I n i).2.1 ((tkn I n i).2.2 - (tkn I n i).2.1) : Nat) : Int), uI τ 13 ((i : Int) + 1)) else (0, uI τ 14 1)) := by
  obtain ⟨h1, h2, h3, h4, h5, h6⟩ := id h
  have hn := h1.2.1
  have hk := h3 i h4
  have rk := rkd_le _ (tkn_k I n i)
  unfold m_number
  rw [h6, h5, Int.toNat_natCast, hk.1, gd_pos (by omega), gd_pos (by omega), gd_pos (by omega), nm_eq]
  by_cases c : (tkn I n i).1 = 2
  · obtain ⟨s, s1, s2, s3, s4, s5⟩ := num_tk c
    have e := m_num_L h c ((tkn I n i).2.2 - (tkn I n i).2.1) FU 0 (by omega) (FU_gt (by omega))
    have e' : m_number_L31 τ FU 0 0 = _ := e
    rw [if_pos c, if_pos ⟨rfl, by omega⟩, e', bind_some', nm_eq]
  · rw [if_neg c, if_neg (fun w => c (by omega))]
end Mh
