set_option maxRecDepth 100000
/-! SCHEMAS, CHECKED: both sides say the same of enums -/
section S3
variable {n K : Nat} {I : Nat → Nat} {τ : TT} {M : List TyM} {E : List TyE} {V : List TyV} {F : List TyF} {O : List TyO} {R : List TyR} {N : List TyN}
theorem fl0 {α : Type} {P : α → Bool} {v : α} : ∀ (l : List α), (l.filter P)[0]? = some v ↔ ∃ x : Nat, l[x]? = some v ∧ P v = true ∧ ∀ (z : Nat) (u : α), z < x → l[z]? = some u → P u = false
  | [] => by
    constructor
    · intro h; cases h
    · intro ⟨x, h, _⟩
      cases h
  | a :: l => by
    have ih := fl0 (P := P) (v := v) l
    by_cases q : P a = true
    · rw [List.filter_cons_of_pos q]
      constructor
      · intro h
        have e : a = v := Option.some.inj h
        subst e
        exact ⟨0, rfl, q, fun z u hz _ => by omega⟩
      · intro ⟨x, h1, h2, h3⟩
        cases x with
        | zero => exact h1
        | succ x =>
          have := h3 0 a (by omega) rfl
          rw [q] at this; cases this
    · rw [List.filter_cons_of_neg q, ih]
      have q' : P a = false := by simpa using q
      constructor
      · intro ⟨x, h1, h2, h3⟩
        refine ⟨x + 1, h1, h2, fun z u hz hu => ?_⟩
        cases z with
        | zero =>
          have e : a = u := Option.some.inj hu
          rw [← e]; exact q'
        | succ z => exact h3 z u (by omega) hu
      · intro ⟨x, h1, h2, h3⟩
        cases x with
        | zero =>
          have e : a = v := Option.some.inj h1
          rw [← e, q'] at h2; cases h2
        | succ x => exact ⟨x, h1, h2, fun z u hz hu => h3 (z + 1) u (by omega) hu⟩
theorem enums_iff (hw : PW I n M E V F O R N) : (∃ x, x < V.length ∧ ∃ f, V[x]? = some f ∧ BVx V x f) ↔ ∃ x, x < E.length ∧ BEn V x := by
  have hV := hw.2.2.2.1
  have hP := List.pairwise_iff_getElem.mp hw.2.2.2.2.2.2.2.2
  have mono : ∀ {z x : Nat} {u f : TyV}, V[z]? = some u → V[x]? = some f → z ≤ x → u.2.2.2 ≤ f.2.2.2 := fun {z x u f} h1 h2 hle => by
    have e1 : V[z]'(gq_lt h1) = u := (List.getElem?_eq_some_iff.mp h1).2
    have e2 : V[x]'(gq_lt h2) = f := (List.getElem?_eq_some_iff.mp h2).2
    rcases Nat.lt_or_eq_of_le hle with c | c
    · have := hP z x (gq_lt h1) (gq_lt h2) c
      rw [e1, e2] at this; exact this
    · subst c
      rw [h1] at h2
      have := Option.some.inj h2
      rw [this]; exact Nat.le_refl _
  have g0 : ∀ e, (eNs V e).getD 0 0 ≠ 0 ↔ ∃ v, (V.filter (fun v => decide (v.2.2.2 = e)))[0]? = some v ∧ v.2.2.1 ≠ 0 := fun e => by
    unfold eNs
    rw [List.getD_eq_getElem?_getD, List.getElem?_map]
    cases c : (V.filter (fun v => decide (v.2.2.2 = e)))[0]? with
    | none =>
      constructor
      · intro h; exact absurd rfl h
      · intro ⟨v, h, _⟩; cases h
    | some v =>
      constructor
      · intro h; exact ⟨v, rfl, h⟩
      · intro ⟨v', h, h2⟩
        have := Option.some.inj h
        rw [this]; exact h2
  have nd := nd_split (g := fun v : TyV => v.2.2.1) (h := fun v : TyV => v.2.2.2) V
  constructor
  · intro ⟨x, hx, f, hf, q⟩
    refine ⟨f.2.2.2, (hV f (List.mem_of_getElem? hf)).1, ?_⟩
    rcases q with ⟨q1, q2⟩ | ⟨z, hz, u, hu, q1, q2⟩
    · refine Or.inl ((g0 _).mpr ⟨f, (fl0 V).mpr ⟨x, hf, by simp, fun z u hz hu => ?_⟩, q2⟩)
      obtain ⟨p, hp, -, -⟩ := drop_at (show x - 1 < V.length by omega)
      have n1 := q1 p (by omega) hp
      have m1 := mono hp hf (by omega)
      have m2 := mono hu hp (by omega)
      have ne : u.2.2.2 ≠ f.2.2.2 := by omega
      simp [ne]
    · refine Or.inr (fun w => ?_)
      have w2 : ∀ p, (eNs V p).Nodup → True := fun _ _ => trivial
      have e1 : V[z]'(gq_lt hu) = u := (List.getElem?_eq_some_iff.mp hu).2
      have e2 : V[x]'(gq_lt hf) = f := (List.getElem?_eq_some_iff.mp hf).2
      -- the two lie in the filtered list, one before the other
      have sub : [u, f].Sublist V := by
        have s1 : [u].Sublist (V.take x) := by
          rw [List.singleton_sublist]
          exact List.mem_of_getElem? (by rw [List.getElem?_take, if_pos hz]; exact hu)
        have s2 : [f].Sublist (V.drop x) := by
          rw [List.singleton_sublist]
          exact List.mem_of_getElem? (i := 0) (by rw [List.getElem?_drop]; exact hf)
        have := s1.append s2
        rw [List.take_append_drop] at this
        exact this
      have sub2 := (sub.filter (fun v => decide (v.2.2.2 = f.2.2.2))).map (fun v => v.2.2.1)
      have ef : [u, f].filter (fun v => decide (v.2.2.2 = f.2.2.2)) = [u, f] := by simp [q1]
      rw [ef] at sub2
      have nd2 := w.sublist sub2
      simp [q2] at nd2
  · intro ⟨e, he, q⟩
    rcases q with q | q
    · obtain ⟨v, h1, h2⟩ := (g0 e).mp q
      obtain ⟨x, k1, k2, k3⟩ := (fl0 V).mp h1
      have k2 := of_decide_eq_true k2
      refine ⟨x, gq_lt k1, v, k1, Or.inl ⟨fun u hx hu => ?_, h2⟩⟩
      have := of_decide_eq_false (k3 (x - 1) u (by omega) hu)
      rw [k2]; exact this
    · apply Classical.byContradiction
      intro h
      apply q
      unfold eNs
      refine nd.mp ?_ e
      unfold List.Nodup
      rw [List.pairwise_iff_getElem]
      intro z x hz hx hzx w
      rw [List.length_map] at hz hx
      rw [List.getElem_map, List.getElem_map] at w
      have w1 : V[z].2.2.1 = V[x].2.2.1 := congrArg Prod.fst w
      have w2 : V[z].2.2.2 = V[x].2.2.2 := congrArg Prod.snd w
      exact h ⟨x, hx, V[x], List.getElem?_eq_getElem hx, Or.inr ⟨z, hzx, V[z], List.getElem?_eq_getElem hz, w2, w1⟩⟩
theorem m_wenum_eq (h : RF I n K τ M E V F O R N) : ∃ v, m_hasWrongEnum τ = some v ∧ Fg v (∃ x, x < E.length ∧ BEn V x) := by
  have hl := h.2.2.2.2.1
  obtain ⟨v, e, g⟩ := wen_L4 h V.length FU 0 0 False (Or.inl ⟨rfl, fun h => h⟩) (Nat.zero_add _) (FU_gt (by omega))
  exact ⟨v, e, g.cg (ex_0.trans (enums_iff h.2.2.2.2))⟩
end S3
