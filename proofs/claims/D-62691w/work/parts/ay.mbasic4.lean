set_option maxRecDepth 100000
/-! SCHEMAS, READ: numbers of the reference; when something was bad -/
section Me
variable {I : Nat → Nat} {n K i : Nat} {τ τ' : TT}
theorem m_bad (h14 : tI τ 14 = 1) (u : Nat) : m_takes u τ = some (0, τ) ∧ m_sign u τ = some (uI τ 14 1) ∧ m_looks u τ = some 0 ∧ m_word τ = some (0, uI τ 14 1) ∧ m_number τ = some (0, uI τ 14 1) := by
  refine ⟨?_, ?_, ?_, ?_, ?_⟩
  · unfold m_takes
    rw [h14, gd_pos (by omega), gd_pos (by exact fun q => by cases q), gd_pos (by exact fun q => by cases q), gd_pos (by exact fun q => by cases q.1), gd_pos (by exact fun q => by cases q.1), if_neg (fun q => by cases q.1.1)]
  · unfold m_sign
    rw [h14, gd_pos (by omega), gd_pos (by exact fun q => by cases q), gd_pos (by exact fun q => by cases q), gd_pos (by exact fun q => by cases q.1), gd_pos (by exact fun q => by cases q.1), if_neg (fun q => by cases q.1.1), nm_eq]
  · unfold m_looks
    rw [h14, gd_pos (by omega), gd_pos (by exact fun q => by cases q), gd_pos (by exact fun q => by cases q), gd_pos (by exact fun q => by cases q.1), gd_pos (by exact fun q => by cases q.1), if_neg (fun q => by cases q.1.1)]
  · unfold m_word
    rw [h14, gd_pos (by omega), gd_pos (by exact fun q => by cases q), gd_pos (by exact fun q => by cases q), if_neg (fun q => by cases q.1), nm_eq]
  · unfold m_number
    rw [h14, gd_pos (by omega), gd_pos (by exact fun q => by cases q), gd_pos (by exact fun q => by cases q), if_neg (fun q => by cases q.1), nm_eq]
end Me
