set_option maxRecDepth 100000
/-! SCHEMAS, READ: numbers of the reference -/
section Mf
variable {I : Nat → Nat} {n K i : Nat} {τ τ' : TT}
/-- digits of a number token -/
theorem rnF_all (P : Int → Bool) (I : Nat → Nat) (n : Nat) : ∀ (c p j : Nat), n - p ≤ c → p ≤ j → j < rnF P I n p → P (lk I n j) = true
  | c, p, j, hc, hp, hj => by
    by_cases q : p < n ∧ P (lk I n p) = true
    · by_cases e : j = p
      · rw [e]; exact q.2
      · obtain ⟨c, rfl⟩ : ∃ c', c = c' + 1 := ⟨c - 1, by omega⟩
        rw [rnF_s q.1 q.2] at hj
        exact rnF_all P I n c (p + 1) j (by omega) (by omega) hj
    · exfalso
      by_cases h : p < n
      · rw [rnF_n (fun u => q ⟨h, u⟩)] at hj; omega
      · rw [rnF_end (by omega)] at hj; omega
theorem num_tk (h : (tkn I n i).1 = 2) : ∃ s, s < n ∧ (tkn I n i).2.1 = s ∧ (tkn I n i).2.2 = rnF dch I n (s + 1) ∧ dch (lk I n s) = true ∧ rnF dch I n (s + 1) - s ≤ 9 := by
  unfold tkn tkT at h ⊢
  by_cases c : n ≤ rnF bch I n (tkP I n i)
  · rw [if_pos c] at h; cases h
  · rw [if_neg c] at h ⊢
    refine ⟨rnF bch I n (tkP I n i), by omega, rfl, ?_⟩
    obtain ⟨s, hs⟩ : ∃ s, s = rnF bch I n (tkP I n i) := ⟨_, rfl⟩
    rw [← hs] at h ⊢
    change (tkA I n s).1 = 2 at h
    show (tkA I n s).2 = _ ∧ _
    unfold tkA at h ⊢
    by_cases cl : lch (lk I n s) = true
    · rw [if_pos cl] at h
      change (if _ then 1 else 4) = 2 at h
      split at h <;> omega
    · rw [if_neg cl] at h ⊢
      by_cases cd : dch (lk I n s) = true
      · rw [if_pos cd] at h ⊢
        change (if rnF dch I n (s + 1) - s ≤ 9 then 2 else 4) = 2 at h
        refine ⟨rfl, cd, ?_⟩
        by_cases c9 : rnF dch I n (s + 1) - s ≤ 9
        · exact c9
        · rw [if_neg c9] at h; omega
      · rw [if_neg cd] at h
        change (if _ then 3 else 4) = 2 at h
        split at h <;> omega
end Mf
