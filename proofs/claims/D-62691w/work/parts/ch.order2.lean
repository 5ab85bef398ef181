set_option maxRecDepth 100000
/-! SCHEMAS, CHECKED: fields by their numbers -/
section Sh2
/-- a field put among those with smaller numbers -/
theorem ins_at {q : List Nat} {x i' : Nat} (hi : i' ≤ q.length) (j : Nat) : (q.take i' ++ x :: q.drop i')[j]? = if j < i' then q[j]? else if j = i' then some x else q[j - 1]? := by
  have lt : (q.take i').length = i' := by rw [List.length_take]; omega
  by_cases c : j < i'
  · rw [if_pos c, List.getElem?_append_left (by omega), List.getElem?_take, if_pos c]
  · rw [if_neg c, List.getElem?_append_right (by omega), lt]
    by_cases e : j = i'
    · rw [if_pos e, e, Nat.sub_self]; rfl
    · rw [if_neg e, show j - i' = (j - i' - 1) + 1 by omega, List.getElem?_cons_succ, List.getElem?_drop, show i' + (j - i' - 1) = j - 1 by omega]
theorem ins_perm {q : List Nat} {x i' : Nat} : (q.take i' ++ x :: q.drop i').Perm (q ++ [x]) := by
  have h : (q.take i' ++ x :: q.drop i').Perm (x :: (q.take i' ++ q.drop i')) := List.perm_middle
  rw [List.take_append_drop] at h
  exact h.trans (List.perm_append_comm (l₁ := [x]) (l₂ := q))
theorem ins_sort {q : List Nat} {x i' : Nat} {f : Nat → Int} (hs : q.Pairwise (fun a b => f a ≤ f b)) (h1 : ∀ a, a ∈ q.take i' → f a ≤ f x) (h2 : ∀ a, a ∈ q.drop i' → f x ≤ f a) : (q.take i' ++ x :: q.drop i').Pairwise (fun a b => f a ≤ f b) := by
  have hs' := hs
  rw [← List.take_append_drop i' q, List.pairwise_append] at hs'
  obtain ⟨s1, s2, s3⟩ := hs'
  rw [List.pairwise_append, List.pairwise_cons]
  refine ⟨s1, ⟨h2, s2⟩, fun a ha b hb => ?_⟩
  rcases List.mem_cons.mp hb with e | e
  · rw [e]; exact h1 a ha
  · exact s3 a ha b e
end Sh2
