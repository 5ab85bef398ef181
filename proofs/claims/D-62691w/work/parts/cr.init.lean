set_option maxRecDepth 100000
/-! THE START: what the system's constructor makes -/
/-- WireSchemas made -/
def WsI (a0 : Nat) (σ σ' : ST) : Prop := FR (fun x => x = a0) σ σ' ∧ sc σ' a0 = 1 ∧ (sR σ' 0 a0 = some (sZ σ) ∧ sR σ' 1 a0 = some (sZ σ + 1) ∧ sR σ' 4 a0 = some (sZ σ + 2) ∧ sR σ' 5 a0 = some (sZ σ + 10) ∧ sR σ' 6 a0 = some (sZ σ + 11)) ∧ (∀ k, sI σ' k a0 = sI σ k a0) ∧ (sc σ' (sZ σ) = 101 ∧ sN σ' (sZ σ) = 1000) ∧ (sc σ' (sZ σ + 1) = 101 ∧ sN σ' (sZ σ + 1) = 1000) ∧
  (sc σ' (sZ σ + 2) = 2 ∧ sR σ' 17 (sZ σ + 2) = some (sZ σ + 7) ∧ sR σ' 18 (sZ σ + 2) = some (sZ σ + 8) ∧ sR σ' 19 (sZ σ + 2) = some (sZ σ + 9)) ∧ (∀ j, 7 ≤ j → j < 10 → sc σ' (sZ σ + j) = 16 ∧ sA σ' (sZ σ + j) = []) ∧
  (∀ j, 10 ≤ j → j < 12 → sc σ' (sZ σ + j) = 4 ∧ sW σ' (sZ σ + j) = [] ∧ sN σ' (sZ σ + j) = 0) ∧ sZ σ' = sZ σ + 12 ∧ sS σ' = sS σ + 2033 ∧ sC σ' = sC σ + 12
section Cr
variable {σ : ST}
theorem nBp {X k : Nat} {G : Nat × Nat → ST → Option ST} {Q : ST → Prop} {c : Nat} (hX : sc σ X = c) (hz : X < sZ σ) (h : ∀ σ', FR (fun x => x = X) σ σ' → sc σ' X = c → (∀ j b, sR σ' j b = if j = k ∧ b = X then some (sZ σ) else sR σ j b) → sI σ' = sI σ → sc σ' (sZ σ) = 101 → sN σ' (sZ σ) = 1000 → sZ σ' = sZ σ + 1 → sS σ' = sS σ + 1000 → sC σ' = sC σ + 1 → Rn id σ' (fun bb => G bb σ') Q) :
    Rn id σ (fun bb => gd (0 ≤ (1000 : Int) ∧ (1000 : Int) < 16777216 ∧ rm bb σ (1000 : Int).toNat) (nm (nB σ (1000 : Int).toNat) fun σ1 => gd (sc σ1 X = c) (nm (pR σ1 k X (some (sZ σ))) (G bb)))) Q := by
  refine Rn_rmA (n := 1000) (σ1 := nB σ 1000) rfl (by decide) (Nat.le_refl _) (Nat.le_refl _) (Nat.le_succ _) ?_
  have c1 : sc (nB σ 1000) X = c := by rw [sc_nB_, if_neg (by omega)]; exact hX
  refine Rn_eq (G := fun bb => gd (sc (nB σ 1000) X = c) (nm (pR (nB σ 1000) k X (some (sZ σ))) (G bb))) (fun bb => rfl) ?_
  refine Rn_pR c1 ?_
  refine h _ (FR.t1 (FR.nB _ _ _) (FR.at1 (at_pR _ _ _ _) rfl)) c1 (fun j b => by rw [sR_pR]; rfl) rfl ?_ ?_ rfl rfl rfl
  · show sc (nB σ 1000) (sZ σ) = 101
    rw [sc_nB_, if_pos rfl]
  · show sN (nB σ 1000) (sZ σ) = 1000
    rw [sN_nB_, if_pos rfl]
theorem nWp {X k : Nat} {G : Nat × Nat → ST → Option ST} {Q : ST → Prop} {c : Nat} (hX : sc σ X = c) (hz : X < sZ σ) (h : ∀ σ', FR (fun x => x = X) σ σ' → sc σ' X = c → (∀ j b, sR σ' j b = if j = k ∧ b = X then some (sZ σ) else sR σ j b) → sI σ' = sI σ → sc σ' (sZ σ) = 4 → sW σ' (sZ σ) = [] → sN σ' (sZ σ) = 0 → sZ σ' = sZ σ + 1 → sS σ' = sS σ + 2 → sC σ' = sC σ + 1 → Rn id σ' (fun bb => G bb σ') Q) :
    Rn id σ (fun bb => gd (rm bb σ 2) (nm (nW σ) fun σ1 => gd (sc σ1 X = c) (nm (pR σ1 k X (some (sZ σ))) (G bb)))) Q := by
  refine Rn_nW ?_
  have c1 : sc (nW σ) X = c := by rw [sc_nW_, if_neg (by omega)]; exact hX
  refine Rn_pR c1 ?_
  refine h _ (FR.t1 (FR.nW _ _) (FR.at1 (at_pR _ _ _ _) rfl)) c1 (fun j b => by rw [sR_pR]; rfl) rfl ?_ ?_ ?_ rfl rfl rfl
  · show sc (nW σ) (sZ σ) = 4
    rw [sc_nW_, if_pos rfl]
  · show sW (nW σ) (sZ σ) = []
    rw [sW_nW_, if_pos rfl]
  · show sN (nW σ) (sZ σ) = 0
    rw [sN_nW_, if_pos rfl]
theorem ws_init_eq {a0 : Nat} (h1 : sc σ a0 = 1) (hz : a0 < sZ σ) : Rn id σ (fun bb => ws_init bb a0 σ) (WsI a0 σ) := by
  unfold ws_init
  refine nBp h1 hz (fun σ2 F2 c2 r2 i2 k2 n2 z2 s2 l2 => ?_)
  refine nBp c2 (by omega) (fun σ3 F3 c3 r3 i3 k3 n3 z3 s3 l3 => ?_)
  refine Rn_nO ?_
  have q1 : sc (nO σ3 2 7) (sZ σ3) = 2 := by rw [sc_nO_, if_pos rfl]
  have z1 : sZ (nO σ3 2 7) = sZ σ3 + 1 := rfl
  refine Rn_bind (su := id) (sch_init_eq q1 (by omega)) (fun σ4 _ A => ?_)
  obtain ⟨a1, a2, ⟨-, a4, a5, a6⟩, a7, -, aD, aE, aF, aG⟩ := A
  rw [z1] at a4 a5 a6 aD aE
  rw [show sS (nO σ3 2 7) = sS σ3 + 7 from rfl] at aF
  rw [show sC (nO σ3 2 7) = sC σ3 + 1 from rfl] at aG
  show Rn _ σ4 _ _
  have F4 : FR (fun _ => False) σ3 σ4 := (FR.nO _ σ3 2 7).tr a1 (fun a ha e => by omega)
  obtain ⟨c4, m4⟩ := F4.2 a0 (by omega)
  have m4 := m4 (fun e => e)
  have c4 : sc σ4 a0 = 1 := by rw [c4]; exact c3
  refine Rn_pR c4 ?_
  obtain ⟨σ5, e5⟩ : ∃ Y, Y = pR σ4 4 a0 (some (sZ σ3)) := ⟨_, rfl⟩
  have F5 : FR (fun x => x = a0) σ4 σ5 := by rw [e5]; exact FR.at1 (at_pR _ _ _ _) rfl
  have r5 : ∀ j x, sR σ5 j x = if j = 4 ∧ x = a0 then some (sZ σ3) else sR σ4 j x := fun j x => by rw [e5, sR_pR]
  have i5 : sI σ5 = sI σ4 := by rw [e5]; rfl
  have c5 : sc σ5 = sc σ4 := by rw [e5]; rfl
  have z5 : sZ σ5 = sZ σ4 ∧ sS σ5 = sS σ4 ∧ sC σ5 = sC σ4 := by rw [e5]; exact ⟨rfl, rfl, rfl⟩
  rw [← e5]
  refine nWp (by rw [c5]; exact c4) (by omega) (fun σ6 F6 c6 r6 i6 k6 w6 n6 z6 s6 l6 => ?_)
  refine nWp c6 (by omega) (fun σ7 F7 c7 r7 i7 k7 w7 n7 z7 s7 l7 => ?_)
  have F57 : FR (fun x => x = a0) σ5 σ7 := FR.t1 F6 F7
  have F47 : FR (fun x => x = a0) σ4 σ7 := FR.t1 F5 F57
  have F37 : FR (fun x => x = a0) σ3 σ7 := FR.t1 (F4.up (fun _ _ e => e.elim)) F47
  have F27 : FR (fun x => x = a0) σ2 σ7 := FR.t1 F3 F37
  have F17 : FR (fun x => x = a0) σ σ7 := FR.t1 F2 F27
  have eZ3 : sZ σ3 = sZ σ + 2 := by omega
  have eZ5 : sZ σ5 = sZ σ + 10 := by omega
  have eZ6 : sZ σ6 = sZ σ + 11 := by omega
  have R7 : ∀ j, sR σ7 j a0 = if j = 6 then some (sZ σ + 11) else if j = 5 then some (sZ σ + 10) else if j = 4 then some (sZ σ + 2) else sR σ4 j a0 := fun j => by
    rw [r7, r6, r5, eZ6, eZ5, eZ3]
    simp
  have R4 : ∀ j, sR σ4 j a0 = if j = 1 then some (sZ σ + 1) else if j = 0 then some (sZ σ) else sR σ j a0 := fun j => by
    rw [m4.2.2.2.2.2.2.2.2.2, r3, r2, z2]
    simp
  have old : ∀ {W : ST} (F : FR (fun x => x = a0) W σ7) (x : Nat), x < sZ W → x ≠ a0 → SameB W σ7 x ∧ sc σ7 x = sc W x := fun F x hx hn => ⟨(F.2 x hx).2 hn, (F.2 x hx).1⟩
  refine Rn_some (Le.refl _) ⟨F17, c7, ⟨?_, ?_, ?_, ?_, ?_⟩, fun k => ?_, ⟨?_, ?_⟩, ⟨?_, ?_⟩, ⟨?_, ?_, ?_, ?_⟩, fun j h1 h2 => ?_, fun j h1 h2 => ?_, by show sZ σ7 = _; omega, by show sS σ7 = _; omega, by show sC σ7 = _; omega⟩
  · show sR σ7 0 a0 = _
    rw [R7, R4]; simp
  · show sR σ7 1 a0 = _
    rw [R7, R4]; simp
  · show sR σ7 4 a0 = _
    rw [R7]; simp
  · show sR σ7 5 a0 = _
    rw [R7]; simp
  · show sR σ7 6 a0 = _
    rw [R7]; simp
  · show sI σ7 k a0 = _
    rw [i7, i6, i5, m4.2.2.2.2.2.2.2.1, i3, i2]
  · show sc σ7 (sZ σ) = 101
    rw [(old F27 _ (by omega) (by omega)).2]; exact k2
  · show sN σ7 (sZ σ) = 1000
    rw [(old F27 _ (by omega) (by omega)).1.2.2.1]; exact n2
  · show sc σ7 (sZ σ + 1) = 101
    rw [← z2, (old F37 _ (by omega) (by omega)).2]; exact k3
  · show sN σ7 (sZ σ + 1) = 1000
    rw [← z2, (old F37 _ (by omega) (by omega)).1.2.2.1]; exact n3
  · show sc σ7 (sZ σ + 2) = 2
    rw [← eZ3, (old F47 _ (by omega) (by omega)).2]; exact a2
  · show sR σ7 17 (sZ σ + 2) = _
    rw [← eZ3, (old F47 _ (by omega) (by omega)).1.2.2.2.2.2.2.2.2.2, a4]; congr 1; omega
  · show sR σ7 18 (sZ σ + 2) = _
    rw [← eZ3, (old F47 _ (by omega) (by omega)).1.2.2.2.2.2.2.2.2.2, a5]; congr 1; omega
  · show sR σ7 19 (sZ σ + 2) = _
    rw [← eZ3, (old F47 _ (by omega) (by omega)).1.2.2.2.2.2.2.2.2.2, a6]; congr 1; omega
  · obtain ⟨u1, u2, -⟩ := aD (j - 3) (by omega) (by omega)
    rw [show sZ σ3 + 1 + (j - 3) = sZ σ + j by omega] at u1 u2
    exact ⟨by show sc σ7 _ = _; rw [(old F47 _ (by omega) (by omega)).2]; exact u1, by show sA σ7 _ = _; rw [(old F47 _ (by omega) (by omega)).1.2.1]; exact u2⟩
  · show sc σ7 (sZ σ + j) = 4 ∧ sW σ7 (sZ σ + j) = [] ∧ sN σ7 (sZ σ + j) = 0
    by_cases e : j = 10
    · subst e
      rw [← eZ5, (old F7 _ (by omega) (by omega)).2, (old F7 _ (by omega) (by omega)).1.1, (old F7 _ (by omega) (by omega)).1.2.2.1]
      exact ⟨k6, w6, n6⟩
    · have e : j = 11 := by omega
      subst e
      rw [← eZ6]
      exact ⟨k7, w7, n7⟩
/-- room for the reference's object and arrays -/
def gz (σ : ST) : ST := (sc σ, sI σ, sJ σ, sR σ, sW σ, sA σ, sN σ, sB σ, sE σ, sF σ, sH σ, sZ σ + 33, sC σ + 33, sS σ + 29878)
def t0 : TT := (fun _ => 0, fun _ => 0, fun _ _ => 0)
/-- the start: both sides are empty -/
theorem init_AI {a0 : Nat} {σ' : ST} (h : WsI a0 σ σ') (hz : a0 < sZ σ) (h2 : sI σ 2 a0 = 0) (h3 : sI σ 3 a0 = 0) : AI a0 (S0, fun _ => [], 0, inp (gz σ') (sZ σ + 1), 0, [], 0, 0) (gz σ') t0 := by
  obtain ⟨F, c1, ⟨r0, r1, r4, r5, r6⟩, hi, ⟨t1, t2⟩, ⟨b1, b2⟩, ⟨s1, s17, s18, s19⟩, ls, rw_, z', -, -⟩ := h
  obtain ⟨p1, p2, p3⟩ := rw_ 10 (by decide) (by decide)
  obtain ⟨q1, q2, q3⟩ := rw_ 11 (by decide) (by decide)
  obtain ⟨m1, m2⟩ := ls 7 (by decide) (by decide)
  obtain ⟨e1, e2⟩ := ls 8 (by decide) (by decide)
  obtain ⟨f1, f2⟩ := ls 9 (by decide) (by decide)
  have gZ : sZ (gz σ') = sZ σ + 45 := by show sZ σ' + 33 = _; omega
  refine ⟨fun _ => 0, fun _ => 0, fun _ => 0, sZ σ + 2, sZ σ + 10, sZ σ, sZ σ + 1, sZ σ + 2, sZ σ + 10, sZ σ + 11, ⟨S0_ok, ⟨⟨by omega, fun f hf => absurd hf (Nat.not_lt_zero _), fun f g hf => absurd hf (Nat.not_lt_zero _), fun f hf => absurd hf (Nat.not_lt_zero _), fun f g hf => absurd hf (Nat.not_lt_zero _), fun f hf => absurd hf (Nat.not_lt_zero _)⟩, ⟨fun f hf => absurd hf (Nat.not_lt_zero _), fun f hf => absurd hf (Nat.not_lt_zero _), fun f hf => absurd hf (Nat.not_lt_zero _)⟩, ⟨Nat.le_refl _, by omega, s1, sZ σ + 7, sZ σ + 8, sZ σ + 9, s17, s18, s19, ⟨by omega, by omega, m1, m2⟩, ⟨by omega, by omega, e1, e2⟩, ⟨by omega, by omega, f1, f2⟩⟩⟩, ⟨c1, by omega, r0, r1, r4, r5, r6, ⟨t1, t2, by omega⟩, ⟨b1, b2, by omega⟩, by omega, ⟨⟨p1, by show (sW σ' _).length ≤ _; rw [p2]; exact Nat.zero_le _, Or.inl p3⟩, by omega⟩, ⟨⟨q1, by show (sW σ' _).length ≤ _; rw [q2]; exact Nat.zero_le _, Or.inl q3⟩, by omega⟩, by omega⟩, ?_, ⟨by show sI σ' 3 a0 = _; rw [hi, h3]; rfl, rfl, Nat.zero_le _, fun k hk => absurd hk (Nat.not_lt_zero _), inp_lt _ _⟩, ⟨Nat.zero_le _, by show sI σ' 2 a0 = _; rw [hi, h2]; rfl, rfl, fun j hj => absurd hj (Nat.not_lt_zero _)⟩, ⟨p2, Nat.zero_le _, rfl, fun k hk => absurd hk (Nat.not_lt_zero _)⟩, rfl, ⟨rfl, rfl, rfl, rfl, fun f hf => absurd hf (Nat.not_lt_zero _), fun f hf => absurd hf (Nat.not_lt_zero _)⟩⟩, rfl, p3, q3⟩
  intro x hx
  simp only [List.mem_cons, List.not_mem_nil, or_false] at hx
  rcases hx with e | e | e | e | e <;> subst e <;> omega
end Cr
