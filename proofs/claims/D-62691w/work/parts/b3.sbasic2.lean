set_option maxRecDepth 100000
/-! SCHEMAS, READ: how the system takes tokens -/
section Sc
variable {I : Nat → Nat} {n a b : Nat} {σ σ' : ST} {t : Nat × Nat × Nat}
theorem sr_iw_L (h : STk σ a b I n t) {u : Nat} (hu : slen u ≤ 100) (ha : ∀ j, j < slen u → sch u j < 128) (hl : t.2.1 + slen u ≤ n) : ∀ (c N j : Nat), j + c = slen u → c < N → (∀ x, x < j → I (t.2.1 + x) = sch u x) → sr_isWord_L28 a u σ N (j : Int) = some (if (∀ x, x < slen u → I (t.2.1 + x) = sch u x) then 1 else 0)
  | c, 0, j, _, hN, _ => by omega
  | 0, N + 1, j, hj, _, hp => by
    rw [sr_isWord_L28, gd_pos (by omega), if_pos (by omega), if_pos (by
      intro x hx
      exact hp x (by omega))]
  | c + 1, N + 1, j, hj, hN, hp => by
    obtain ⟨⟨g1, g2, g3, g4, g5, g6, g7, g8, g9, g10, g11⟩, h2, h3, -⟩ := id h
    have hsj := ha j (by omega)
    have hb := g5 (t.2.1 + j) (by omega)
    have hs := sb_eq (sB σ b (t.2.1 + j))
    rw [sr_isWord_L28, gd_pos (by omega), if_neg (by omega), gd_pos g1, g2, bind_some', gd_pos g3, h3, gd_pos (by rw [g4]; omega), gd_pos (by omega), show ((t.2.1 : Int) + (j : Int)).toNat = t.2.1 + j by omega, Int.toNat_natCast]
    by_cases c1 : I (t.2.1 + j) = sch u j
    · rw [if_pos (by rw [hs, hb, if_pos (by omega), c1]), show (j : Int) + 1 = ((j + 1 : Nat) : Int) by omega]
      exact sr_iw_L h hu ha hl c N (j + 1) (by omega) (by omega) (fun x hx => by
        by_cases e : x = j
        · rw [e]; exact c1
        · exact hp x (by omega))
    · rw [if_neg (by
        intro q
        rw [hs, hb] at q
        have hI : I (t.2.1 + j) < 256 := by rw [← hb]; exact UInt8.toNat_lt _
        split at q <;> omega), if_neg (fun q => c1 (q j (by omega)))]
theorem sr_isWord_eq (h : STk σ a b I n t) (ht : t.1 ≤ 4 ∧ t.2.1 ≤ t.2.2 ∧ t.2.2 ≤ n) {u : Nat} (hu : slen u ≤ 100) (ha : ∀ j, j < slen u → sch u j < 128) : sr_isWord a u σ = some (if t.1 = 1 ∧ tis I t u then 1 else 0) := by
  obtain ⟨⟨g1, g2, g3, g4, g5, g6, g7, g8, g9, g10, g11⟩, h2, h3, -⟩ := id h
  unfold sr_isWord
  rw [gd_pos g1, h2, g8, h3, gd_pos (by omega), gd_pos (by omega)]
  by_cases c : t.1 = 1 ∧ t.2.2 - t.2.1 = slen u
  · have e := sr_iw_L h hu ha (by omega) (slen u) FU 0 (by omega) (FU_gt (by omega)) (fun x hx => by omega)
    have e' : sr_isWord_L28 a u σ FU 0 = _ := e
    rw [if_pos (by omega), e']
    by_cases q : ∀ x, x < slen u → I (t.2.1 + x) = sch u x
    · rw [if_pos q, if_pos ⟨c.1, c.2, q⟩]
    · rw [if_neg q, if_neg (fun w => q w.2.2)]
  · rw [if_neg (by omega), if_neg (fun w => c ⟨w.1, w.2.1⟩)]
end Sc
