set_option maxRecDepth 100000
/-! SCHEMAS, READ: how the system takes tokens -/
section Sb
variable {I : Nat → Nat} {n a b : Nat} {σ σ' : ST} {t : Nat × Nat × Nat}
theorem sr_isSign_eq (hI : ∀ k, I k < 256) (h : STk σ a b I n t) (ht : t.1 ≤ 4) {x : Int} (hx : rg x) : sr_isSign a x σ = some (if t.1 = 3 ∧ lk I n t.2.1 = x then 1 else 0) := by
  obtain ⟨h1, h2, h3, h4, h5⟩ := h
  have rl := lk_rg (n := n) hI t.2.1
  unfold sr_isSign
  rw [gd_pos h1.1, h2, gd_pos (by omega)]
  by_cases c : t.1 = 3
  · rw [h4 c, gd_pos (by omega), gd_pos (by exact fun _ => hx)]
    by_cases e : lk I n t.2.1 = x
    · rw [if_pos ⟨by omega, e⟩, if_pos ⟨c, e⟩]
    · rw [if_neg (fun w => e w.2), if_neg (fun w => e w.2)]
  · rw [gd_pos (by exact fun q => absurd q (by omega)), gd_pos (by exact fun q => absurd q (by omega)), if_neg (fun w => c (by omega)), if_neg (fun w => c w.1)]
end Sb
