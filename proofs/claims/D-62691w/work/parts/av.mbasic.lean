set_option maxRecDepth 100000
/-! SCHEMAS, READ: how the reference takes tokens -/
/-- a token's text is a constant's -/
abbrev tis (I : Nat → Nat) (t : Nat × Nat × Nat) (u : Nat) : Prop := t.2.2 - t.2.1 = slen u ∧ ∀ j, j < slen u → I (t.2.1 + j) = sch u j
section Mb
variable {I : Nat → Nat} {n i : Nat} {τ τ' : TT}
theorem m_is_L (hT : T8 τ I n) (hk : TTk I n τ i) (hi : i ≤ 1000) {u : Nat} (hu : slen u ≤ 100) (hl : (tkn I n i).2.1 + slen u ≤ n) : ∀ (c N j : Nat), j + c = slen u → c + 1 < N → (∀ x, x < j → I ((tkn I n i).2.1 + x) = sch u x) → m_is_L22 (i : Int) u τ N 1 (j : Int) = some (if (∀ x, x < slen u → I ((tkn I n i).2.1 + x) = sch u x) then 1 else 0)
  | c, 0, j, _, h, _ => by omega
  | 0, N + 1, j, h, _, hp => by
    rw [m_is_L22, gd_pos (by omega), gd_pos (by omega), if_pos (by omega), gd_pos (by decide), if_pos (by
      intro x hx
      exact hp x (by omega))]
  | c + 1, N + 1, j, h, hN, hp => by
    have hn := hT.2.1
    have hI := hT.2.2.2 ((tkn I n i).2.1 + j)
    have e8 : tA τ 8 ((tkn I n i).2.1 + j) = (I ((tkn I n i).2.1 + j) : Int) := hT.2.2.1 _ (by omega)
    have ex : (((tkn I n i).2.1 : Int) + (j : Int)).toNat = (tkn I n i).2.1 + j := by omega
    rw [m_is_L22, gd_pos (by omega), gd_pos (by omega), if_neg (by omega), gd_pos (by omega), Int.toNat_natCast, hk.2.1, gd_pos (by omega), gd_pos (by omega), ex, e8, Int.toNat_natCast, gd_pos (by omega)]
    by_cases c1 : I ((tkn I n i).2.1 + j) = sch u j
    · rw [if_pos (by rw [c1]), bind_some', show (j : Int) + 1 = ((j + 1 : Nat) : Int) by omega]
      exact m_is_L hT hk hi hu hl c N (j + 1) (by omega) (by omega) (fun x hx => by
        by_cases e : x = j
        · rw [e]; exact c1
        · exact hp x (by omega))
    · obtain ⟨N, rfl⟩ : ∃ N', N = N' + 1 := ⟨N - 1, by omega⟩
      rw [if_neg (show ¬ ((I ((tkn I n i).2.1 + j) : Int) = ((sch u j : Nat) : Int)) from fun q => c1 (by omega)), bind_some', m_is_L22, gd_pos (by omega), gd_pos (by omega), if_pos (Or.inl rfl), gd_pos (by decide), if_neg (fun q => c1 (q j (by omega)))]
theorem m_is_eq (hT : T8 τ I n) (hk : TTk I n τ i) (hi : i ≤ 1000) {u : Nat} (hu : slen u ≤ 100) {x : Int} (hx : x = (i : Int)) : m_is x u τ = some (if tis I (tkn I n i) u then 1 else 0) := by
  subst hx
  have hn := hT.2.1
  have hb := tkT_bd (I := I) (tkP_le I n i)
  have hb' : (tkn I n i).2.1 ≤ (tkn I n i).2.2 ∧ (tkn I n i).2.2 ≤ n := hb.2
  unfold m_is
  rw [gd_pos (by omega), Int.toNat_natCast, hk.2.2, gd_pos (by omega)]
  by_cases c : (tkn I n i).2.2 - (tkn I n i).2.1 = slen u
  · rw [if_pos (by omega), bind_some']
    have h := m_is_L hT hk hi hu (by omega) (slen u) FU 0 (by omega) (FU_gt (by omega)) (fun x hx => by omega)
    have h' : m_is_L22 (i : Int) u τ FU 1 0 = _ := h
    rw [h']
    by_cases q : ∀ x, x < slen u → I ((tkn I n i).2.1 + x) = sch u x
    · rw [if_pos q, if_pos (show tis I (tkn I n i) u from ⟨c, q⟩)]
    · rw [if_neg q, if_neg (show ¬ tis I (tkn I n i) u from fun w => q w.2)]
  · obtain ⟨N, hN⟩ : ∃ N, FU = N + 1 := ⟨FU - 1, by have := FU_gt (m := 10) (by omega); omega⟩
    rw [if_neg (by omega), bind_some', hN, m_is_L22, gd_pos (by omega), gd_pos (by omega), if_pos (Or.inl rfl), gd_pos (by decide), if_neg (show ¬ tis I (tkn I n i) u from fun w => c w.1)]
end Mb
