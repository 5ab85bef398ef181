set_option maxRecDepth 100000
/-! THE GROUND: classes, arrays' classes, strings -/
theorem choice1 {P : Nat → ClassId → (Nat → Nat) → Prop} (h : ∀ c, ∃ cC iS, P c cC iS) : ∃ D : va_G, ∀ c, P c (D.1 c) (D.2 c) :=
  ⟨(fun c => (h c).choose, fun c => (h c).choose_spec.choose), fun c => (h c).choose_spec.choose_spec⟩
theorem arr_prim {s : State} {A : Array Value} {ty : FieldType} (h : (Cond.arrayClass ty).before A s = true) (hp : ∀ C, ty ≠ .object C) : ∃ cA : ClassId, ArrOfT s cA ty ∧ va_RA s cA ty := by
  obtain ⟨c, k, comp, h1, h2, h3⟩ := Cond.arrayClass_spec h
  refine ⟨c, fun n z => ⟨fun k h => (by cases h), k, h2, comp, h3⟩, ?_⟩
  unfold va_RA
  split
  · rename_i C
    exact absurd rfl (hp C)
  · exact h1
theorem arr_obj {s : State} {A : Array Value} {C : String} (h : (Cond.arrayOver (.object C)).before A s = true) : ∃ cA : ClassId, ArrOfT s cA (.object C) ∧ va_RA s cA (.object C) := by
  obtain ⟨comp, c, k, h1, -, h3, h4, h5⟩ := Cond.arrayOver_spec h
  exact ⟨c, fun n z => ⟨fun k h => (by cases h), k, h3, comp, h4⟩, k, comp, h3, h4, h1, h5⟩
abbrev tysC (cA : Nat → ClassId) : List (ClassId × FieldType) := [(cA 0, .byte), (cA 1, .int), (cA 2, .boolean), (cA 3, .object "WireSchemas$Field"), (cA 4, .object "java/lang/Object")]
theorem ground_K {s : State} {A : Array Value} (hts : ∀ w ∈ lw_tbl, w.before A s = true) : ∃ (D : va_G) (cA : Nat → ClassId), va_K D vCl (tysC cA) s := by
  have hal : ∀ w ∈ lw_all, w.before A s = true := fun w hw => hts w (lw_all_tbl hw)
  have hc : ∀ c : Nat, ∃ (cC : ClassId) (iS : Nat → Nat), ∀ q : vw_C, vCl[c]? = some q → u_Kn s q.1 q.2.1 q.2.2 cC iS := by
    intro c
    by_cases e0 : c = 0
    · subst e0
      obtain ⟨cC, iS, h⟩ := u_known hal cd0.2.1 (hal _ q167)
      exact ⟨cC, iS, fun q hq => by cases Option.some.inj (cd0.1.symm.trans hq); exact h⟩
    by_cases e1 : c = 1
    · subst e1
      obtain ⟨cC, iS, h⟩ := u_known hal cd1.2.1 (hal _ q175)
      exact ⟨cC, iS, fun q hq => by cases Option.some.inj (cd1.1.symm.trans hq); exact h⟩
    by_cases e2 : c = 2
    · subst e2
      obtain ⟨cC, iS, h⟩ := u_known hal cd2.2.1 (hal _ q181)
      exact ⟨cC, iS, fun q hq => by cases Option.some.inj (cd2.1.symm.trans hq); exact h⟩
    by_cases e3 : c = 3
    · subst e3
      obtain ⟨cC, iS, h⟩ := u_known hal cd3.2.1 (hal _ q267)
      exact ⟨cC, iS, fun q hq => by cases Option.some.inj (cd3.1.symm.trans hq); exact h⟩
    by_cases e4 : c = 4
    · subst e4
      obtain ⟨cC, iS, h⟩ := u_known hal cd4.2.1 (hal _ q1413)
      exact ⟨cC, iS, fun q hq => by cases Option.some.inj (cd4.1.symm.trans hq); exact h⟩
    by_cases e5 : c = 5
    · subst e5
      obtain ⟨cC, iS, h⟩ := u_known hal cd5.2.1 (hal _ q333)
      exact ⟨cC, iS, fun q hq => by cases Option.some.inj (cd5.1.symm.trans hq); exact h⟩
    by_cases e6 : c = 6
    · subst e6
      obtain ⟨cC, iS, h⟩ := u_known hal cd6.2.1 (hal _ q523)
      exact ⟨cC, iS, fun q hq => by cases Option.some.inj (cd6.1.symm.trans hq); exact h⟩
    by_cases e7 : c = 7
    · subst e7
      obtain ⟨cC, iS, h⟩ := u_known hal cd7.2.1 (hal _ q658)
      exact ⟨cC, iS, fun q hq => by cases Option.some.inj (cd7.1.symm.trans hq); exact h⟩
    by_cases e8 : c = 8
    · subst e8
      obtain ⟨cC, iS, h⟩ := u_known hal cd8.2.1 (hal _ q700)
      exact ⟨cC, iS, fun q hq => by cases Option.some.inj (cd8.1.symm.trans hq); exact h⟩
    by_cases e9 : c = 9
    · subst e9
      obtain ⟨cC, iS, h⟩ := u_known hal cd9.2.1 (hal _ q814)
      exact ⟨cC, iS, fun q hq => by cases Option.some.inj (cd9.1.symm.trans hq); exact h⟩
    by_cases e10 : c = 10
    · subst e10
      obtain ⟨cC, iS, h⟩ := u_known hal cd10.2.1 (hal _ q940)
      exact ⟨cC, iS, fun q hq => by cases Option.some.inj (cd10.1.symm.trans hq); exact h⟩
    by_cases e11 : c = 11
    · subst e11
      obtain ⟨cC, iS, h⟩ := u_known hal cd11.2.1 (hal _ q965)
      exact ⟨cC, iS, fun q hq => by cases Option.some.inj (cd11.1.symm.trans hq); exact h⟩
    by_cases e12 : c = 12
    · subst e12
      obtain ⟨cC, iS, h⟩ := u_known hal cd12.2.1 (hal _ q1012)
      exact ⟨cC, iS, fun q hq => by cases Option.some.inj (cd12.1.symm.trans hq); exact h⟩
    by_cases e13 : c = 13
    · subst e13
      obtain ⟨cC, iS, h⟩ := u_known hal cd13.2.1 (hal _ q1174)
      exact ⟨cC, iS, fun q hq => by cases Option.some.inj (cd13.1.symm.trans hq); exact h⟩
    by_cases e14 : c = 14
    · subst e14
      obtain ⟨cC, iS, h⟩ := u_known hal cd14.2.1 (hal _ q1182)
      exact ⟨cC, iS, fun q hq => by cases Option.some.inj (cd14.1.symm.trans hq); exact h⟩
    by_cases e15 : c = 15
    · subst e15
      obtain ⟨cC, iS, h⟩ := u_known hal cd15.2.1 (hal _ q187)
      exact ⟨cC, iS, fun q hq => by cases Option.some.inj (cd15.1.symm.trans hq); exact h⟩
    by_cases e16 : c = 16
    · subst e16
      obtain ⟨cC, iS, h⟩ := u_known hal cd16.2.1 (hal _ q445)
      exact ⟨cC, iS, fun q hq => by cases Option.some.inj (cd16.1.symm.trans hq); exact h⟩
    refine ⟨0, fun _ => 0, fun q hq => ?_⟩
    have hlt : c < 17 := (List.getElem?_eq_some_iff.mp hq).1
    omega
  obtain ⟨D, hD⟩ := choice1 hc
  obtain ⟨a0, h0⟩ := arr_prim (hal _ q212) (fun C h => by cases h)
  obtain ⟨a1, h1⟩ := arr_prim (hal _ q591) (fun C h => by cases h)
  obtain ⟨a2, h2⟩ := arr_prim (hal _ q1602) (fun C h => by cases h)
  obtain ⟨a3, h3⟩ := arr_obj (hts _ q549)
  obtain ⟨a4, h4⟩ := arr_obj (hts _ q644)
  refine ⟨D, fun k => match k with | 0 => a0 | 1 => a1 | 2 => a2 | 3 => a3 | _ => a4, hD, fun k q hq => ?_⟩
  have hlt : k < 5 := (List.getElem?_eq_some_iff.mp hq).1
  match k, hlt with
  | 0, _ => cases hq; exact h0
  | 1, _ => cases hq; exact h1
  | 2, _ => cases hq; exact h2
  | 3, _ => cases hq; exact h3
  | 4, _ => cases hq; exact h4
