set_option maxRecDepth 100000
/-! SCHEMAS, CHECKED: fields by their numbers -/
/-- only the array oa was written -/
def OXa (oa : Nat) (σ σ' : ST) : Prop := sc σ' = sc σ ∧ sI σ' = sI σ ∧ sR σ' = sR σ ∧ sW σ' = sW σ ∧ sA σ' = sA σ ∧ sN σ' = sN σ ∧ sE σ' = sE σ ∧ (∀ b, b ≠ oa → sF σ' b = sF σ b) ∧ sZ σ' = sZ σ ∧ sS σ' = sS σ ∧ sC σ' = sC σ ∧ sB σ' = sB σ ∧ sH σ' = sH σ ∧ sJ σ' = sJ σ
section Sg
theorem OXa.refl (oa : Nat) (σ : ST) : OXa oa σ σ := ⟨rfl, rfl, rfl, rfl, rfl, rfl, rfl, fun _ _ => rfl, rfl, rfl, rfl, rfl, rfl, rfl⟩
theorem OXa.pF (oa : Nat) (σ : ST) (i : Nat) (v : Option Nat) : OXa oa σ (pF σ oa i v) := ⟨rfl, rfl, rfl, rfl, rfl, rfl, rfl, fun b hb => by funext j; rw [sF_pF, if_neg (fun e => hb e.1)], rfl, rfl, rfl, rfl, rfl, rfl⟩
theorem OXa.tr {oa : Nat} {σ σ1 σ2 : ST} (h : OXa oa σ σ1) (g : OXa oa σ1 σ2) : OXa oa σ σ2 := by
  obtain ⟨a1, a2, a3, a4, a5, a6, a7, a8, a9, aA, aB, aC, aD, aE⟩ := h
  obtain ⟨b1, b2, b3, b4, b5, b6, b7, b8, b9, bA, bB, bC, bD, bE⟩ := g
  exact ⟨b1.trans a1, b2.trans a2, b3.trans a3, b4.trans a4, b5.trans a5, b6.trans a6, b7.trans a7, fun b hb => (b8 b hb).trans (a8 b hb), b9.trans a9, bA.trans aA, bB.trans aB, bC.trans aC, bD.trans aD, bE.trans aE⟩
/-- the number of the field that a place of the array holds -/
def nAt (σ : ST) (oa j : Nat) : Int := sI σ 131 (ad (sF σ oa j))
theorem ord_L27 {mo oa la x k : Nat} {m : Nat} (hkm : k < m) (hm : m ≤ 1000) : ∀ (N1 i : Nat) (σ : ST), sc σ mo = 7 → sR σ 103 mo = some oa → sc σ oa = 103 → sN σ oa = m → sR σ 99 mo = some la → sc σ la = 16 → l_get la (k : Int) σ = some (some x) → sc σ x = 9 → rg (sI σ 131 x) → (∀ j, j < i → ∃ a, sF σ oa j = some a ∧ sc σ a = 9 ∧ rg (sI σ 131 a)) → i ≤ k → i < N1 →
    ∃ (i' : Nat) (σ' : ST), (∀ bb : Nat × Nat, mt_order_L27 bb mo (k : Int) N1 (i : Int) σ = some ((i' : Int), σ')) ∧ OXa oa σ σ' ∧ i' ≤ i ∧ (∀ j, j < i' → sF σ' oa j = sF σ oa j) ∧ (∀ j, i' < j → j ≤ i → sF σ' oa j = sF σ oa (j - 1)) ∧ (∀ j, i < j → sF σ' oa j = sF σ oa j) ∧ (i' = 0 ∨ nAt σ oa (i' - 1) ≤ sI σ 131 x) ∧ ∀ j, i' ≤ j → j < i → sI σ 131 x < nAt σ oa j
  | 0, i, σ, _, _, _, _, _, _, _, _, _, _, _, h => by omega
  | N1 + 1, i, σ, h1, h2, h3, h4, h5, h6, h7, h8, h9, hA, hi, hN => by
    by_cases i0 : i = 0
    · subst i0
      refine ⟨0, σ, fun bb => ?_, OXa.refl _ _, Nat.le_refl _, fun _ _ => rfl, fun j h1 h2 => by omega, fun _ _ => rfl, Or.inl rfl, fun j h1 h2 => by omega⟩
      have n0 : ((0 : Nat) : Int) ≤ 0 := Int.le_refl _
      rw [mt_order_L27, gd_pos (by omega), gd_pos (by exact fun h => absurd n0 h), gd_pos (by exact fun h => absurd n0 h), gd_pos (by exact fun h => absurd n0 h), gd_pos (by exact fun h => absurd n0 h), gd_pos (by exact fun h => absurd n0 h), gd_pos (by exact fun h => absurd n0 h), gd_pos (by exact fun h => absurd n0 h), gd_pos (by exact fun h => absurd n0 h), gd_pos (by exact fun h => absurd n0 h), gd_pos (by exact fun h => absurd n0 h), gd_pos (by exact fun h => absurd n0 h), gd_pos (by exact fun h => absurd n0 h), gd_pos (by exact fun h => absurd n0 h), if_pos (Or.inl n0)]
    · obtain ⟨a, a1, a2, a3⟩ := hA (i - 1) (by omega)
      have ei : ((i : Int) - 1).toNat = i - 1 := by omega
      have hop : ∀ bb : Nat × Nat, mt_order_L27 bb mo (k : Int) (N1 + 1) (i : Int) σ = if (sI σ 131 a) ≤ (sI σ 131 x) then some ((i : Int), σ) else mt_order_L27 bb mo (k : Int) N1 ((i - 1 : Nat) : Int) (pF σ oa i (some a)) := fun bb => by
        rw [mt_order_L27, gd_pos (by omega), gd_pos (by exact fun _ => h1), h2, gd_pos (by exact fun _ h => by cases h), show ad (some oa) = oa from rfl, gd_pos (by exact fun _ => h3), h4, gd_pos (by exact fun _ => by constructor <;> omega), ei, a1, gd_pos (by exact fun _ h => by cases h), show ad (some a) = a from rfl, gd_pos (by exact fun _ => a2), h5, gd_pos (by exact fun _ h => by cases h), show ad (some la) = la from rfl, gd_pos (by exact fun _ => h6), h7, gd_pos (by exact fun _ => ok_some _), vo_s, gd_pos (by exact fun _ h => by cases h), show ad (some x) = x from rfl, gd_pos (by exact fun _ => h8), gd_pos (by exact fun _ => a3), gd_pos (by exact fun _ => h9)]
        by_cases q : (sI σ 131 a) ≤ (sI σ 131 x)
        · rw [if_pos (Or.inr q), if_pos q]
        · rw [if_neg (by omega), if_neg q, gd_pos h1, bind_some', gd_pos h3, h4, gd_pos (by constructor <;> omega), a1, bind_some', gd_pos a2, gd_pos (by constructor <;> omega), nm_eq, Int.toNat_natCast, show (i : Int) + -1 = ((i - 1 : Nat) : Int) by omega]
      by_cases q : (sI σ 131 a) ≤ (sI σ 131 x)
      · refine ⟨i, σ, fun bb => by rw [hop, if_pos q], OXa.refl _ _, Nat.le_refl _, fun _ _ => rfl, fun j h1 h2 => by omega, fun _ _ => rfl, Or.inr (by unfold nAt; rw [a1]; exact q), fun j h1 h2 => by omega⟩
      · have o1 := OXa.pF oa σ i (some a)
        have lg : l_get la (k : Int) (pF σ oa i (some a)) = some (some x) := h7
        obtain ⟨i', σ', w1, w2, w3, w4, w5, w6, w7, w8⟩ := ord_L27 hkm hm N1 (i - 1) (pF σ oa i (some a)) h1 h2 h3 h4 h5 h6 lg h8 h9 (fun j hj => by
          obtain ⟨b, b1, b2, b3⟩ := hA j (by omega)
          exact ⟨b, by rw [sF_pF, if_neg (by omega)]; exact b1, b2, b3⟩) (by omega) (by omega)
        have nn : ∀ j, j < i → nAt (pF σ oa i (some a)) oa j = nAt σ oa j := fun j hj => by
          unfold nAt
          rw [sF_pF, if_neg (by omega)]; rfl
        refine ⟨i', σ', fun bb => by rw [hop, if_neg q]; exact w1 bb, o1.tr w2, by omega, fun j hj => by rw [w4 j hj, sF_pF, if_neg (by omega)], fun j h1 h2 => ?_, fun j hj => by rw [w6 j (by omega), sF_pF, if_neg (by omega)], ?_, fun j h1 h2 => ?_⟩
        · by_cases e : j = i
          · rw [w6 j (by omega), sF_pF, if_pos ⟨rfl, e⟩, e, a1]
          · rw [w5 j h1 (by omega), sF_pF, if_neg (by omega)]
        · rcases w7 with w7 | w7
          · exact Or.inl w7
          · by_cases e : i' = 0
            · exact Or.inl e
            · rw [nn _ (by omega)] at w7
              exact Or.inr w7
        · by_cases e : j = i - 1
          · rw [e]
            unfold nAt
            rw [a1]
            show sI σ 131 x < sI σ 131 a
            omega
          · have := w8 j h1 (by omega)
            rw [nn _ (by omega)] at this
            exact this
end Sg
