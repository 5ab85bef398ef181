set_option maxRecDepth 100000
/-! ROOM: JSON is no wire -/
section Cx
variable {S : SC} {od : Nat → List Nat} {I : Nat → Nat} {n m : Nat}
theorem fld_brace {e : Nat} (he : 0 < e) (h0 : I 0 = 123) : fldS I e 0 = none := by
  have hv : vrS I e 0 = some (1, 123) := by
    unfold vrS
    rw [vrL]
    rw [if_neg (by omega), if_neg (by omega), h0, if_neg (by decide)]
    decide +kernel
  unfold fldS
  rw [hv]
  have e1 : un (123 : Int64) / 8 = 15 := by decide +kernel
  have e2 : un (123 : Int64) % 8 = 3 := by decide +kernel
  rw [bind_some']
  dsimp only
  rw [e1, e2, if_neg (by decide), if_neg (by decide), if_neg (by decide), if_neg (by decide)]
theorem msg_brace (hn : 0 < n) (h0 : I 0 = 123) (T : TV 8) : msgS S I 8 m 0 n T = none := by
  rw [msgS]
  obtain ⟨k, hk⟩ : ∃ k, n - 0 + 1 = k + 1 := ⟨n, by omega⟩
  rw [hk, msgL, if_neg (by omega), fld_brace hn h0]
  rfl
/-- what toJson wrote is no wire -/
theorem toJ4_brace (hn : 0 < n) (h0 : I 0 = 123) : toJ4 S od I n m = none := by
  unfold toJ4 toJ
  rw [msg_brace hn h0]
  rfl
theorem toJ4_head {w : List UInt8} (h : toJ4 S od I n m = some w) : 0 < w.length ∧ w.getD 0 0 = 123 ∧ w.length ≤ 4000 := by
  unfold toJ4 toJ at h
  cases e : msgS S I 8 m 0 n (emp 8) with
  | none => rw [e] at h; cases h
  | some T =>
    rw [e] at h
    have h : (if (js S od 8 m T).length ≤ 4000 then some (js S od 8 m T) else none) = some w := h
    by_cases c : (js S od 8 m T).length ≤ 4000
    · rw [if_pos c] at h
      cases h
      rw [js]
      exact ⟨by simp, rfl, by rw [js] at c; exact c⟩
    · rw [if_neg c] at h; cases h
end Cx
