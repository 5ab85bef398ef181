set_option maxRecDepth 100000
/-! SCHEMAS, READ: how the system takes tokens -/
section Sd
variable {I : Nat → Nat} {n a b i : Nat} {σ σ' : ST}
theorem tkn_bd (I : Nat → Nat) (n i : Nat) : (tkn I n i).1 ≤ 4 ∧ (tkn I n i).2.1 ≤ (tkn I n i).2.2 ∧ (tkn I n i).2.2 ≤ n := ⟨tkn_k I n i, (tkT_bd (I := I) (tkP_le I n i)).2⟩
theorem sr_next_k (hI : ∀ k, I k < 256) (h : STk σ a b I n (tkn I n i)) : ∃ σ', (∀ bb : Nat × Nat, sr_next bb a σ = some σ') ∧ STk σ' a b I n (tkn I n (i + 1)) ∧ JO a σ σ' := sr_next_eq hI h.1
/-- taken, or thrown -/
def TkO (a b : Nat) (I : Nat → Nat) (n i : Nat) (P : Prop) (σ : ST) (r : Option Unit × ST) : Prop := (P ∧ r.1 = some () ∧ STk r.2 a b I n (tkn I n (i + 1)) ∧ JO a σ r.2) ∨ (¬ P ∧ r = (none, nX σ))
theorem sr_sign_eq (hI : ∀ k, I k < 256) (h : STk σ a b I n (tkn I n i)) {x : Int} (hx : rg x) : Rn (fun r : Option Unit × ST => r.2) σ (fun bb => sr_sign bb a x σ) (TkO a b I n i ((tkn I n i).1 = 3 ∧ lk I n (tkn I n i).2.1 = x) σ) := by
  have e := sr_isSign_eq hI h (tkn_k I n i) hx
  unfold sr_sign sr_must
  by_cases c : (tkn I n i).1 = 3 ∧ lk I n (tkn I n i).2.1 = x
  · rw [if_pos c] at e
    obtain ⟨σ', q1, q2, q3⟩ := sr_next_k hI h
    refine Rn_eq (fun bb => by rw [gd_pos h.1.1, e, bind_some', gd_pos (by omega), if_neg (by omega), bind_some']) ?_
    refine Rn_eq (G := fun bb => some (some (), σ')) (fun bb => by
      show gd (sc σ a = 6) (Option.bind (sr_next bb a σ) fun y7 => some (some (), y7)) = _
      rw [gd_pos h.1.1, q1 bb, bind_some']) ?_
    exact Rn_some ⟨by show sZ σ ≤ sZ σ'; rw [q3.2.2.2.1]; exact Nat.le_refl _, by show sC σ ≤ sC σ'; rw [q3.2.1]; exact Nat.le_refl _, by show sS σ ≤ sS σ'; rw [q3.2.2.1]; exact Nat.le_refl _⟩ (Or.inl ⟨c, rfl, q2, q3⟩)
  · rw [if_neg c] at e
    refine Rn_eq (fun bb => by rw [gd_pos h.1.1, e, bind_some', gd_pos (by omega), if_pos rfl]) ?_
    unfold s_fail
    refine ⟨(none, nX σ), ⟨Nat.le_succ _, Nat.le_succ _, Nat.le_add_right _ _⟩, Or.inr ⟨c, rfl⟩, fun bb hf => ?_⟩
    show Option.bind (Option.bind (gd (rm bb σ 6) (some (none, nX σ))) _) _ = _
    rw [gd_pos (show rm bb σ 6 from ⟨hf.1, hf.2⟩)]
    rfl
end Sd
