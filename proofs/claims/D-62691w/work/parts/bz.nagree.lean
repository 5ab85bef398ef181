set_option maxRecDepth 100000
/-! SCHEMAS, CHECKED: both sides say the same of names -/
section Sz
variable {I : Nat → Nat} {n : Nat} {M : List TyM} {E : List TyE} {V : List TyV} {F : List TyF} {O : List TyO} {R : List TyR} {N : List TyN}
theorem nd_split {α β γ : Type} [DecidableEq β] {g : α → γ} {h : α → β} : ∀ (l : List α), (l.map (fun a => (g a, h a))).Nodup ↔ ∀ p, ((l.filter (fun a => decide (h a = p))).map g).Nodup
  | [] => by
    constructor
    · intro _ p; exact List.nodup_nil
    · intro _; exact List.nodup_nil
  | a :: l => by
    have ih := nd_split (g := g) (h := h) l
    rw [List.map_cons, List.nodup_cons, ih]
    constructor
    · intro ⟨h1, h2⟩ p
      by_cases q : h a = p
      · rw [List.filter_cons_of_pos (by simp [q]), List.map_cons, List.nodup_cons]
        refine ⟨fun w => ?_, h2 p⟩
        obtain ⟨b, b1, b2⟩ := List.mem_map.mp w
        obtain ⟨b3, b4⟩ := List.mem_filter.mp b1
        have b4 := of_decide_eq_true b4
        exact h1 (List.mem_map.mpr ⟨b, b3, by rw [b2, b4, q]⟩)
      · rw [List.filter_cons_of_neg (by simp [q])]; exact h2 p
    · intro hh
      constructor
      · intro w
        obtain ⟨b, b1, b2⟩ := List.mem_map.mp w
        have e1 : g b = g a := congrArg Prod.fst b2
        have e2 : h b = h a := congrArg Prod.snd b2
        have := hh (h a)
        rw [List.filter_cons_of_pos (by simp), List.map_cons, List.nodup_cons] at this
        exact this.1 (List.mem_map.mpr ⟨b, List.mem_filter.mpr ⟨b1, by simp [e2]⟩, e1⟩)
      · intro p
        have := hh p
        by_cases q : h a = p
        · rw [List.filter_cons_of_pos (by simp [q]), List.map_cons, List.nodup_cons] at this
          exact this.2
        · rw [List.filter_cons_of_neg (by simp [q])] at this; exact this
theorem NL_nd (hw : PW I n M E V F O R N) : ¬ (NL I n M E V).Nodup ↔ (¬ ((N.filter (fun w => decide (w.2.2 = -1))).map (fun w => tx I n w.2.1)).Nodup ∨ ∃ x, x < M.length ∧ ¬ ((N.filter (fun w => decide (w.2.2 = (x : Int)))).map (fun w => tx I n w.2.1)).Nodup) := by
  have hp := hw.2.2.2.2.2.2.2.1.map (fun q : Nat × Int => (tx I n q.1, q.2))
  rw [List.map_append, List.map_append, List.map_map, List.map_map, List.map_map, List.map_map] at hp
  have e : (N.map (fun w => (tx I n w.2.1, w.2.2))).Nodup ↔ (NL I n M E V).Nodup := hp.nodup_iff
  rw [← e, nd_split]
  constructor
  · intro h
    apply Classical.byContradiction
    intro q
    apply h
    intro p
    by_cases c : ∃ w, w ∈ N ∧ w.2.2 = p
    · obtain ⟨w, w1, w2⟩ := c
      have := hw.nsc w1
      apply Classical.byContradiction
      intro q2
      by_cases c2 : p = -1
      · subst c2; exact q (Or.inl q2)
      · refine q (Or.inr ⟨p.toNat, by omega, ?_⟩)
        rw [show ((p.toNat : Nat) : Int) = p by omega]; exact q2
    · rw [fil0 (fun w hw => by
        simp
        exact fun w2 => c ⟨w, hw, w2⟩)]
      exact List.nodup_nil
  · intro h hh
    rcases h with h | ⟨x, -, h⟩
    · exact h (hh (-1))
    · exact h (hh (x : Int))
theorem FN_fil (j : Nat) : ((FN I n F O).filter (fun a => decide (a.2 = j))).map (fun a => a.1) = (F.filter (fun f => decide (fMs f = j))).map (fun f => tx I n (fNm f)) ++ (O.filter (fun o => decide (o.2.2 = j))).map (fun o => tx I n o.2.1) := by
  unfold FN
  rw [List.filter_append, List.map_append, List.filter_map, List.filter_map, List.map_map, List.map_map]
  rfl
theorem FN_nd (hw : PW I n M E V F O R N) : ¬ (FN I n F O).Nodup ↔ ∃ x, x < M.length ∧ ¬ ((F.filter (fun f => decide (fMs f = x))).map (fun f => tx I n (fNm f)) ++ (O.filter (fun o => decide (o.2.2 = x))).map (fun o => tx I n o.2.1)).Nodup := by
  have e : (FN I n F O).map (fun a => (a.1, a.2)) = FN I n F O := by
    have : (fun a : List UInt8 × Nat => (a.1, a.2)) = id := rfl
    rw [this, List.map_id]
  rw [← e, nd_split]
  constructor
  · intro h
    apply Classical.byContradiction
    intro q
    apply h
    intro p
    rw [FN_fil]
    apply Classical.byContradiction
    intro q2
    by_cases c : p < M.length
    · exact q ⟨p, c, q2⟩
    · apply q2
      rw [fil0 (fun f hf => by
        have := (hw.2.2.2.2.1 f hf).1
        simp; omega), fil0 (fun f hf => by
        have := (hw.2.2.2.2.2.1 f hf).1
        simp; omega)]
      exact List.nodup_nil
  · intro ⟨x, _, h⟩ hh
    have := hh x
    rw [FN_fil] at this
    exact h this
/-- the same names clash on both sides -/
theorem names_iff (hw : PW I n M E V F O R N) : (¬ (NL I n M E V).Nodup ∨ ¬ (FN I n F O).Nodup) ↔ (¬ ((N.filter (fun w => decide (w.2.2 = -1))).map (fun w => tx I n w.2.1)).Nodup ∨ ∃ x, x < M.length ∧ CLj I n F O N x) := by
  rw [NL_nd hw, FN_nd hw]
  constructor
  · intro h
    rcases h with (h | ⟨x, h1, h2⟩) | ⟨x, h1, h2⟩
    · exact Or.inl h
    · exact Or.inr ⟨x, h1, Or.inl h2⟩
    · exact Or.inr ⟨x, h1, Or.inr h2⟩
  · intro h
    rcases h with h | ⟨x, h1, h2 | h2⟩
    · exact Or.inl (Or.inl h)
    · exact Or.inl (Or.inr ⟨x, h1, h2⟩)
    · exact Or.inr ⟨x, h1, h2⟩
end Sz
