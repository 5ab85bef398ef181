set_option maxRecDepth 100000
/-! SCHEMAS, READ: how the reference takes tokens -/
section Md
variable {I : Nat → Nat} {n K i : Nat} {τ τ' : TT}
theorem tis_i {A : Prop} [Decidable A] : (¬ (if A then (1 : Int) else 0) = 0) ↔ A := by
  by_cases t : A
  · rw [if_pos t]; exact ⟨fun _ => t, fun _ => by decide⟩
  · rw [if_neg t]; exact ⟨fun q => absurd rfl q, fun q => absurd q t⟩
theorem m_takes_eq (h : MRd τ I n K i) {u : Nat} (hu : slen u ≤ 100) : m_takes u τ = some (if (tkn I n i).1 ≠ 0 ∧ tis I (tkn I n i) u then (1, uI τ 13 ((i : Int) + 1)) else (0, τ)) := by
  obtain ⟨h1, h2, h3, h4, h5, h6⟩ := h
  have hn := h1.2.1
  have hk := h3 i h4
  have ei := m_is_eq h1 hk (by omega) hu (x := (i : Int)) rfl
  have rk := rkd_le _ (tkn_k I n i)
  unfold m_takes
  rw [h6, h5, ei, vv_s, Int.toNat_natCast, hk.1, gd_pos (by omega), gd_pos (by omega), gd_pos (by omega), gd_pos (by exact fun _ => rfl), gd_pos (by exact fun _ => by split <;> omega), nm_eq]
  by_cases c : (tkn I n i).1 ≠ 0 ∧ tis I (tkn I n i) u
  · rw [if_pos c, if_pos ⟨⟨rfl, by omega⟩, tis_i.mpr c.2⟩]
  · rw [if_neg c, if_neg (fun w => c ⟨by omega, tis_i.mp w.2⟩)]
theorem m_sign_eq (h : MRd τ I n K i) {u : Nat} (hu : slen u ≤ 100) : m_sign u τ = some (if (tkn I n i).1 = 3 ∧ tis I (tkn I n i) u then uI τ 13 ((i : Int) + 1) else uI τ 14 1) := by
  obtain ⟨h1, h2, h3, h4, h5, h6⟩ := h
  have hn := h1.2.1
  have hk := h3 i h4
  have ei := m_is_eq h1 hk (by omega) hu (x := (i : Int)) rfl
  have rk := rkd_le _ (tkn_k I n i)
  unfold m_sign
  rw [h6, h5, ei, vv_s, Int.toNat_natCast, hk.1, gd_pos (by omega), gd_pos (by omega), gd_pos (by omega), gd_pos (by exact fun _ => rfl), gd_pos (by exact fun _ => by split <;> omega), nm_eq, nm_eq]
  by_cases c : (tkn I n i).1 = 3 ∧ tis I (tkn I n i) u
  · rw [if_pos c, if_pos ⟨⟨rfl, by omega⟩, tis_i.mpr c.2⟩]
  · rw [if_neg c, if_neg (fun w => c ⟨by omega, tis_i.mp w.2⟩)]
theorem m_word_eq (h : MRd τ I n K i) : m_word τ = some (if (tkn I n i).1 = 1 then ((i : Int), uI τ 13 ((i : Int) + 1)) else (0, uI τ 14 1)) := by
  obtain ⟨h1, h2, h3, h4, h5, h6⟩ := h
  have hn := h1.2.1
  have hk := h3 i h4
  have rk := rkd_le _ (tkn_k I n i)
  unfold m_word
  rw [h6, h5, Int.toNat_natCast, hk.1, gd_pos (by omega), gd_pos (by omega), gd_pos (by omega), nm_eq, nm_eq]
  by_cases c : (tkn I n i).1 = 1
  · rw [if_pos c, if_pos ⟨rfl, by omega⟩, tI_uI, if_pos rfl, show (i : Int) + 1 - 1 = (i : Int) by omega]
  · rw [if_neg c, if_neg (fun w => c (by omega))]
end Md
