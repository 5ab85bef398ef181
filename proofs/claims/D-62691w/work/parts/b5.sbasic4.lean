set_option maxRecDepth 100000
/-! SCHEMAS, READ: how the system takes tokens -/
section Se
variable {I : Nat → Nat} {n a b i : Nat} {σ σ' : ST}
theorem JO.le (h : JO a σ σ') : Le σ σ' := ⟨Nat.le_of_eq h.2.2.2.1.symm, Nat.le_of_eq h.2.1.symm, Nat.le_of_eq h.2.2.1.symm⟩
theorem sr_word_eq (hI : ∀ k, I k < 256) (h : STk σ a b I n (tkn I n i)) {u : Nat} (hu : slen u ≤ 100) (ha : ∀ j, j < slen u → sch u j < 128) : Rn (fun r : Option Unit × ST => r.2) σ (fun bb => sr_word bb a u σ) (TkO a b I n i ((tkn I n i).1 = 1 ∧ tis I (tkn I n i) u) σ) := by
  have e := sr_isWord_eq h (tkn_bd I n i) hu ha
  unfold sr_word sr_must
  by_cases c : (tkn I n i).1 = 1 ∧ tis I (tkn I n i) u
  · rw [if_pos c] at e
    obtain ⟨σ', q1, q2, q3⟩ := sr_next_k hI h
    refine Rn_eq (fun bb => by rw [gd_pos h.1.1, e, bind_some', gd_pos (by omega), if_neg (by omega), bind_some']) ?_
    refine Rn_eq (G := fun bb => some (some (), σ')) (fun bb => by
      show gd (sc σ a = 6) (Option.bind (sr_next bb a σ) fun y7 => some (some (), y7)) = _
      rw [gd_pos h.1.1, q1 bb, bind_some']) ?_
    exact Rn_some q3.le (Or.inl ⟨c, rfl, q2, q3⟩)
  · rw [if_neg c] at e
    refine Rn_eq (fun bb => by rw [gd_pos h.1.1, e, bind_some', gd_pos (by omega), if_pos rfl]) ?_
    unfold s_fail
    refine ⟨(none, nX σ), ⟨Nat.le_succ _, Nat.le_succ _, Nat.le_add_right _ _⟩, Or.inr ⟨c, rfl⟩, fun bb hf => ?_⟩
    show Option.bind (Option.bind (gd (rm bb σ 6) (some (none, nX σ))) _) _ = _
    rw [gd_pos (show rm bb σ 6 from ⟨hf.1, hf.2⟩)]
    rfl
theorem sr_number_eq (hI : ∀ k, I k < 256) (h : STk σ a b I n (tkn I n i)) : Rn (fun r : Option Int × ST => r.2) σ (fun bb => sr_number bb a σ) (fun r => ((tkn I n i).1 = 2 ∧ r.1 = some ((nvl I (tkn I n i).2.1 ((tkn I n i).2.2 - (tkn I n i).2.1) : Nat) : Int) ∧ STk r.2 a b I n (tkn I n (i + 1)) ∧ JO a σ r.2) ∨ ((tkn I n i).1 ≠ 2 ∧ r = (none, nX σ))) := by
  have ht := tkn_k I n i
  unfold sr_number sr_must
  by_cases c : (tkn I n i).1 = 2
  · obtain ⟨σ', q1, q2, q3⟩ := sr_next_k hI h
    have e85 := h.2.2.2.2 c
    refine Rn_eq (fun bb => by rw [gd_pos h.1.1, h.2.1, gd_pos (by omega), if_pos (by omega), bind_some', gd_pos (by omega), if_neg (by omega), bind_some']) ?_
    refine Rn_eq (G := fun bb => some (some ((nvl I (tkn I n i).2.1 ((tkn I n i).2.2 - (tkn I n i).2.1) : Nat) : Int), σ')) (fun bb => by
      show gd (sc σ a = 6) (nm (sI σ 85 a) fun x13 => Option.bind (sr_next bb a σ) fun y14 => some (some x13, y14)) = _
      rw [gd_pos h.1.1, nm_eq, q1 bb, bind_some', e85]) ?_
    exact Rn_some q3.le (Or.inl ⟨c, rfl, q2, q3⟩)
  · refine Rn_eq (fun bb => by rw [gd_pos h.1.1, h.2.1, gd_pos (by omega), if_neg (by omega), bind_some', gd_pos (by omega), if_pos rfl]) ?_
    unfold s_fail
    refine ⟨(none, nX σ), ⟨Nat.le_succ _, Nat.le_succ _, Nat.le_add_right _ _⟩, Or.inr ⟨c, rfl⟩, fun bb hf => ?_⟩
    show Option.bind (Option.bind (gd (rm bb σ 6) (some (none, nX σ))) _) _ = _
    rw [gd_pos (show rm bb σ 6 from ⟨hf.1, hf.2⟩)]
    rfl
end Se
