set_option maxRecDepth 100000
/-! SCHEMAS: the system's constructors of schemas and readers -/
/-- an empty list -/
def eL (σ : ST) (l : Nat) : Prop := sc σ l = 16 ∧ sA σ l = [] ∧ sN σ l = 0
/-- an empty schema made -/
def SchI (X : Nat) (σ σ' : ST) : Prop := FR (fun x => x = X) σ σ' ∧ sc σ' X = 2 ∧ (sR σ' 16 X = some (sZ σ) ∧ sR σ' 17 X = some (sZ σ + 4) ∧ sR σ' 18 X = some (sZ σ + 5) ∧ sR σ' 19 X = some (sZ σ + 6)) ∧ (∀ k, sI σ' k X = sI σ k X) ∧ (sc σ' (sZ σ) = 3 ∧ sR σ' 33 (sZ σ) = some (sZ σ + 1) ∧ sR σ' 34 (sZ σ) = some (sZ σ + 2) ∧ sR σ' 35 (sZ σ) = some (sZ σ + 3) ∧ sR σ' 32 (sZ σ) = none) ∧ (∀ j, 1 ≤ j → j < 7 → eL σ' (sZ σ + j)) ∧ sZ σ' = sZ σ + 7 ∧ sS σ' = sS σ + 22 ∧ sC σ' = sC σ + 7
section Cl
variable {σ : ST}
theorem eL.fr {σ' : ST} {W : Nat → Prop} {l : Nat} (h : eL σ l) (F : FR W σ σ') (hl : l < sZ σ) (hW : ¬ W l) : eL σ' l := by
  obtain ⟨h1, h2, h3⟩ := h
  obtain ⟨a1, a2⟩ := F.2 l hl
  obtain ⟨b1, b2, b3, -⟩ := a2 hW
  exact ⟨by rw [a1]; exact h1, by rw [b2]; exact h2, by rw [b3]; exact h3⟩
theorem eL.nL (σ : ST) : eL (nL σ) (sZ σ) := ⟨by rw [sc_nL_, if_pos rfl], by rw [sA_nL_, if_pos rfl], by rw [sN_nL_, if_pos rfl]⟩
/-- a list made and noted -/
theorem nLp {X k : Nat} {G : Nat × Nat → ST → Option ST} {Q : ST → Prop} {c : Nat} (hX : sc σ X = c) (hz : X < sZ σ) (h : ∀ σ', FR (fun x => x = X) σ σ' → sc σ' X = c → (∀ j b, sR σ' j b = if j = k ∧ b = X then some (sZ σ) else sR σ j b) → sI σ' = sI σ → eL σ' (sZ σ) → sZ σ' = sZ σ + 1 → sS σ' = sS σ + 3 → sC σ' = sC σ + 1 → Rn id σ' (fun bb => G bb σ') Q) :
    Rn id σ (fun bb => gd (rm bb σ 3) (nm (nL σ) fun σ1 => gd (sc σ1 X = c) (nm (pR σ1 k X (some (sZ σ))) (G bb)))) Q := by
  refine Rn_nL ?_
  have c1 : sc (nL σ) X = c := by rw [sc_nL_, if_neg (by omega)]; exact hX
  refine Rn_pR c1 ?_
  have e := eL.nL σ
  refine h _ (FR.t1 (FR.nL _ _) (FR.at1 (at_pR _ _ _ _) rfl)) c1 (fun j b => by rw [sR_pR]; rfl) rfl ⟨e.1, e.2.1, e.2.2⟩ rfl rfl rfl
theorem sch_init_eq {X : Nat} (hX : sc σ X = 2) (hz : X < sZ σ) : Rn id σ (fun bb => sch_init bb X σ) (SchI X σ) := by
  unfold sch_init
  refine Rn_nO ?_
  have q1 : sc (nO σ 3 4) (sZ σ) = 3 := by rw [sc_nO_, if_pos rfl]
  have z1 : sZ (nO σ 3 4) = sZ σ + 1 := rfl
  have s1 : sS (nO σ 3 4) = sS σ + 4 := rfl
  have c1 : sC (nO σ 3 4) = sC σ + 1 := rfl
  refine Rn_bind (su := id) (scp_init_eq q1 (by omega)) (fun σ3 _ A => ?_)
  obtain ⟨a1, a2, a3, a4, a5, a6, a7, a8, a9, a10⟩ := A
  rw [z1] at a3 a4 a5 a7 a8
  rw [s1] at a9
  rw [c1] at a10
  show Rn _ σ3 _ _
  have F3 : FR (fun _ => False) σ σ3 := (FR.nO _ σ 3 4).tr a1 (fun a ha e => by omega)
  obtain ⟨b1, b2⟩ := F3.2 X hz
  have b2 := b2 (fun e => e)
  have c3 : sc σ3 X = 2 := by rw [b1]; exact hX
  refine Rn_pR c3 ?_
  obtain ⟨σ4, e4⟩ : ∃ Y, Y = pR σ3 16 X (some (sZ σ)) := ⟨_, rfl⟩
  have F4 : FR (fun x => x = X) σ3 σ4 := by rw [e4]; exact FR.at1 (at_pR _ _ _ _) rfl
  have r4 : ∀ j b, sR σ4 j b = if j = 16 ∧ b = X then some (sZ σ) else sR σ3 j b := fun j b => by rw [e4, sR_pR]
  have i4 : sI σ4 = sI σ3 := by rw [e4]; rfl
  have c4 : sc σ4 X = 2 := by rw [e4]; exact c3
  have z4 : sZ σ4 = sZ σ + 4 ∧ sS σ4 = sS σ + 13 ∧ sC σ4 = sC σ + 4 := by rw [e4]; exact ⟨by show sZ σ3 = _; omega, by show sS σ3 = _; omega, by show sC σ3 = _; omega⟩
  rw [← e4]
  refine nLp c4 (by omega) (fun σ5 F5 c5 r5 i5 l5 z5 s5 k5 => ?_)
  refine nLp c5 (by omega) (fun σ6 F6 c6 r6 i6 l6 z6 s6 k6 => ?_)
  refine nLp c6 (by omega) (fun σ7 F7 c7 r7 i7 l7 z7 s7 k7 => ?_)
  have F47 : FR (fun x => x = X) σ4 σ7 := FR.t1 F5 (FR.t1 F6 F7)
  have F37 : FR (fun x => x = X) σ3 σ7 := FR.t1 F4 F47
  have F : FR (fun x => x = X) σ σ7 := FR.t1 (F3.up (fun x _ e => e.elim)) F37
  have sz : sZ σ ≠ X := by omega
  have R7 : ∀ j b, sR σ7 j b = if j = 19 ∧ b = X then some (sZ σ + 6) else if j = 18 ∧ b = X then some (sZ σ + 5) else if j = 17 ∧ b = X then some (sZ σ + 4) else if j = 16 ∧ b = X then some (sZ σ) else sR σ3 j b := fun j b => by
    rw [r7, r6, r5, r4, show sZ σ6 = sZ σ + 6 by omega, show sZ σ5 = sZ σ + 5 by omega, show sZ σ4 = sZ σ + 4 by omega]
  refine Rn_some (Le.refl _) ⟨F, c7, ⟨?_, ?_, ?_, ?_⟩, fun k => ?_, ⟨?_, ?_, ?_, ?_, ?_⟩, fun j h1 h2 => ?_, by show sZ σ7 = _; omega, by show sS σ7 = _; omega, by show sC σ7 = _; omega⟩
  · show sR σ7 16 X = _
    rw [R7]; simp
  · show sR σ7 17 X = _
    rw [R7]; simp
  · show sR σ7 18 X = _
    rw [R7]; simp
  · show sR σ7 19 X = _
    rw [R7]; simp
  · show sI σ7 k X = _
    rw [i7, i6, i5, i4]
    exact b2.2.2.2.2.2.2.2.1 k
  · show sc σ7 (sZ σ) = 3
    rw [(F37.2 (sZ σ) (by omega)).1]; exact a2
  · show sR σ7 33 (sZ σ) = _
    rw [R7, if_neg (by omega), if_neg (by omega), if_neg (by omega), if_neg (by omega), a3]
  · show sR σ7 34 (sZ σ) = _
    rw [R7, if_neg (by omega), if_neg (by omega), if_neg (by omega), if_neg (by omega), a4]
  · show sR σ7 35 (sZ σ) = _
    rw [R7, if_neg (by omega), if_neg (by omega), if_neg (by omega), if_neg (by omega), a5]
  · show sR σ7 32 (sZ σ) = _
    rw [R7, if_neg (by omega), if_neg (by omega), if_neg (by omega), if_neg (by omega), a6]
  · show eL σ7 (sZ σ + j)
    by_cases d1 : j < 4
    · have := a7 (j - 1) (by omega)
      rw [show sZ σ + 1 + (j - 1) = sZ σ + j by omega] at this
      exact eL.fr this F37 (by omega) (by omega)
    · by_cases d2 : j = 4
      · subst d2
        rw [show sZ σ4 = sZ σ + 4 by omega] at l5
        exact l5.fr (FR.t1 F6 F7) (by omega) (by omega)
      · by_cases d3 : j = 5
        · subst d3
          rw [show sZ σ5 = sZ σ + 5 by omega] at l6
          exact l6.fr F7 (by omega) (by omega)
        · have d4 : j = 6 := by omega
          subst d4
          rw [show sZ σ6 = sZ σ + 6 by omega] at l7
          exact l7
/-- a reader made -/
def SrI (X : Nat) (p : Option Nat) (v : Int) (σ σ' : ST) : Prop := FR (fun x => x = X) σ σ' ∧ sc σ' X = 6 ∧ sR σ' 86 X = some (sZ σ) ∧ sR σ' 80 X = p ∧ sI σ' 81 X = v ∧ (∀ k, k ≠ 81 → sI σ' k X = sI σ k X) ∧ (sc σ' (sZ σ) = 2 ∧ sR σ' 16 (sZ σ) = some (sZ σ + 1) ∧ sR σ' 17 (sZ σ) = some (sZ σ + 5) ∧ sR σ' 18 (sZ σ) = some (sZ σ + 6) ∧ sR σ' 19 (sZ σ) = some (sZ σ + 7) ∧ ∀ k, sI σ' k (sZ σ) = 0) ∧ (sc σ' (sZ σ + 1) = 3 ∧ sR σ' 33 (sZ σ + 1) = some (sZ σ + 2) ∧ sR σ' 34 (sZ σ + 1) = some (sZ σ + 3) ∧ sR σ' 35 (sZ σ + 1) = some (sZ σ + 4) ∧ sR σ' 32 (sZ σ + 1) = none) ∧ (∀ j, 2 ≤ j → j < 8 → eL σ' (sZ σ + j)) ∧ sZ σ' = sZ σ + 8 ∧ sS σ' = sS σ + 29 ∧ sC σ' = sC σ + 8
theorem sr_init_eq {X : Nat} {p : Option Nat} {v : Int} (hX : sc σ X = 6) (hz : X < sZ σ) : Rn id σ (fun bb => sr_init bb X p v σ) (SrI X p v σ) := by
  unfold sr_init
  refine Rn_nO ?_
  have q1 : sc (nO σ 2 7) (sZ σ) = 2 := by rw [sc_nO_, if_pos rfl]
  have z1 : sZ (nO σ 2 7) = sZ σ + 1 := rfl
  have s1 : sS (nO σ 2 7) = sS σ + 7 := rfl
  have c1 : sC (nO σ 2 7) = sC σ + 1 := rfl
  have i1 : ∀ k, sI (nO σ 2 7) k (sZ σ) = 0 := fun k => by rw [sI_nO_, if_pos rfl]
  refine Rn_bind (su := id) (sch_init_eq q1 (by omega)) (fun σ3 _ A => ?_)
  obtain ⟨a1, a2, ⟨a3, a4, a5, a6⟩, a7, ⟨a8, a9, aA, aB, aC⟩, aD, aE, aF, aG⟩ := A
  rw [z1] at a3 a4 a5 a6 a8 a9 aA aB aC aD aE
  rw [s1] at aF
  rw [c1] at aG
  show Rn _ σ3 _ _
  have F3 : FR (fun _ => False) σ σ3 := (FR.nO _ σ 2 7).tr a1 (fun a ha e => by omega)
  obtain ⟨b1, b2⟩ := F3.2 X hz
  have b2 := b2 (fun e => e)
  have c3 : sc σ3 X = 6 := by rw [b1]; exact hX
  refine Rn_pR c3 ?_
  refine Rn_pR (show sc (pR σ3 86 X (some (sZ σ))) X = 6 from c3) ?_
  refine Rn_pI (show sc (pR (pR σ3 86 X (some (sZ σ))) 80 X p) X = 6 from c3) ?_
  obtain ⟨σ7, e7⟩ : ∃ Y, Y = pI (pR (pR σ3 86 X (some (sZ σ))) 80 X p) 81 X v := ⟨_, rfl⟩
  have F37 : FR (fun x => x = X) σ3 σ7 := by rw [e7]; exact FR.t1 (FR.at1 (at_pR _ _ _ _) rfl) (FR.t1 (FR.at1 (at_pR _ _ _ _) rfl) (FR.at1 (at_pI _ _ _ _) rfl))
  have F : FR (fun x => x = X) σ σ7 := FR.t1 (F3.up (fun x _ e => e.elim)) F37
  have R7 : ∀ j b, sR σ7 j b = if j = 80 ∧ b = X then p else if j = 86 ∧ b = X then some (sZ σ) else sR σ3 j b := fun j b => by
    rw [e7]
    show sR (pR (pR σ3 86 X (some (sZ σ))) 80 X p) j b = _
    rw [sR_pR, sR_pR]
  have I7 : ∀ j b, sI σ7 j b = if j = 81 ∧ b = X then v else sI σ3 j b := fun j b => by
    rw [e7, sI_pI]; rfl
  have c7 : ∀ b, sc σ7 b = sc σ3 b := fun b => by rw [e7]; rfl
  have z7 : sZ σ7 = sZ σ + 8 ∧ sS σ7 = sS σ + 29 ∧ sC σ7 = sC σ + 8 := by rw [e7]; exact ⟨by show sZ σ3 = _; omega, by show sS σ3 = _; omega, by show sC σ3 = _; omega⟩
  rw [← e7]
  refine Rn_some (Le.refl _) ⟨F, ?_, ?_, ?_, ?_, fun k hk => ?_, ⟨?_, ?_, ?_, ?_, ?_, fun k => ?_⟩, ⟨?_, ?_, ?_, ?_, ?_⟩, fun j h1 h2 => ?_, z7.1, z7.2.1, z7.2.2⟩
  · show sc σ7 X = 6
    rw [c7]; exact c3
  · show sR σ7 86 X = _
    rw [R7]; simp
  · show sR σ7 80 X = _
    rw [R7]; simp
  · show sI σ7 81 X = _
    rw [I7]; simp
  · show sI σ7 k X = _
    rw [I7, if_neg (fun e => hk e.1)]; exact b2.2.2.2.2.2.2.2.1 k
  · show sc σ7 (sZ σ) = 2
    rw [c7]; exact a2
  · show sR σ7 16 (sZ σ) = _
    rw [R7, if_neg (by omega), if_neg (by omega), a3]
  · show sR σ7 17 (sZ σ) = _
    rw [R7, if_neg (by omega), if_neg (by omega), a4]
  · show sR σ7 18 (sZ σ) = _
    rw [R7, if_neg (by omega), if_neg (by omega), a5]
  · show sR σ7 19 (sZ σ) = _
    rw [R7, if_neg (by omega), if_neg (by omega), a6]
  · show sI σ7 k (sZ σ) = 0
    rw [I7, if_neg (by omega), a7, i1]
  · show sc σ7 (sZ σ + 1) = 3
    rw [c7]; exact a8
  · show sR σ7 33 (sZ σ + 1) = _
    rw [R7, if_neg (by omega), if_neg (by omega), a9]
  · show sR σ7 34 (sZ σ + 1) = _
    rw [R7, if_neg (by omega), if_neg (by omega), aA]
  · show sR σ7 35 (sZ σ + 1) = _
    rw [R7, if_neg (by omega), if_neg (by omega), aB]
  · show sR σ7 32 (sZ σ + 1) = _
    rw [R7, if_neg (by omega), if_neg (by omega), aC]
  · show eL σ7 (sZ σ + j)
    have := aD (j - 1) (by omega) (by omega)
    rw [show sZ σ + 1 + (j - 1) = sZ σ + j by omega] at this
    exact this.fr F37 (by omega) (by omega)
end Cl
