set_option maxRecDepth 100000
/-! SCHEMAS, READ: how the reference takes tokens -/
/-- the reference stands at token i of K, nothing bad so far -/
def MRd (τ : TT) (I : Nat → Nat) (n K i : Nat) : Prop := T8 τ I n ∧ K ≤ n ∧ (∀ j, j ≤ K → TTk I n τ j) ∧ i ≤ K ∧ tI τ 13 = (i : Int) ∧ tI τ 14 = 0
section Mc
variable {I : Nat → Nat} {n K i : Nat} {τ τ' : TT}
theorem rkd_le (k : Nat) (h : k ≤ 4) : rkd k ≤ 5 ∧ (rkd k = 4 ↔ k = 0) ∧ (rkd k = 1 ↔ k = 1) ∧ (rkd k = 2 ↔ k = 2) ∧ (rkd k = 3 ↔ k = 3) := by
  unfold rkd
  split
  · omega
  · split <;> omega
theorem tkn_k (I : Nat → Nat) (n i : Nat) : (tkn I n i).1 ≤ 4 := by
  unfold tkn tkT tkA
  split
  · show 0 ≤ 4; omega
  · show (if _ then _ else _ : Nat × Nat).1 ≤ 4
    split
    · show (if _ then 1 else 4) ≤ 4
      split <;> omega
    · split
      · show (if _ then 2 else 4) ≤ 4
        split <;> omega
      · show (if _ then 3 else 4) ≤ 4
        split <;> omega
theorem m_looks_eq (h : MRd τ I n K i) {u : Nat} (hu : slen u ≤ 100) : m_looks u τ = some (if (tkn I n i).1 = 1 ∧ tis I (tkn I n i) u then 1 else 0) := by
  obtain ⟨h1, h2, h3, h4, h5, h6⟩ := h
  have hn := h1.2.1
  have hk := h3 i h4
  have ei := m_is_eq h1 hk (by omega) hu (x := (i : Int)) rfl
  have rk := rkd_le _ (tkn_k I n i)
  unfold m_looks
  rw [h6, h5, ei, vv_s, Int.toNat_natCast, hk.1, gd_pos (by omega), gd_pos (by omega), gd_pos (by omega), gd_pos (by exact fun _ => rfl), gd_pos (by exact fun _ => by split <;> omega)]
  by_cases c : (tkn I n i).1 = 1 ∧ tis I (tkn I n i) u
  · rw [if_pos c, if_pos (show (((0 : Int) = 0) ∧ (((rkd (tkn I n i).1 : Nat) : Int) = 1)) ∧ ¬ (if tis I (tkn I n i) u then (1 : Int) else 0) = 0 from ⟨⟨rfl, by omega⟩, by rw [if_pos c.2]; decide⟩)]
  · rw [if_neg c, if_neg (show ¬ ((((0 : Int) = 0) ∧ (((rkd (tkn I n i).1 : Nat) : Int) = 1)) ∧ ¬ (if tis I (tkn I n i) u then (1 : Int) else 0) = 0) from fun w => c ⟨by omega, by
      by_cases t : tis I (tkn I n i) u
      · exact t
      · exact absurd (if_neg t) w.2⟩)]
end Mc
