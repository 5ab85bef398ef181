set_option maxRecDepth 100000
/-! SCHEMAS, CHECKED: names, by the system -/
/-- a list got ws behind -/
def LAs (l : Nat) (ws : List Nat) (σ σ' : ST) : Prop := sc σ' = sc σ ∧ sI σ' = sI σ ∧ sR σ' = sR σ ∧ sW σ' = sW σ ∧ sE σ' = sE σ ∧ (∀ b, sA σ' b = if b = l then sA σ l ++ ws else sA σ b) ∧ sN σ' l ≤ 10 + 2 * (sA σ' l).length ∧ FR (fun b => b = l) σ σ' ∧ sS σ' + 4 * sN σ l ≤ sS σ + 4 * sN σ' l ∧ sC σ' ≤ sC σ + ws.length
section Sx
variable {I : Nat → Nat} {n : Nat} {σ σ' σ1 : ST} {l x : Nat}
theorem LAs.nil (h : sN σ l ≤ 10 + 2 * (sA σ l).length) : LAs l [] σ σ := by
  refine ⟨rfl, rfl, rfl, rfl, rfl, fun b => ?_, h, FR.refl _ _, Nat.le_refl _, Nat.le_refl _⟩
  by_cases e : b = l
  · rw [if_pos e, e, List.append_nil]
  · rw [if_neg e]
theorem LAs.cons {ws : List Nat} (h : LA l x σ σ1) (ha : sS σ1 + 4 * sN σ l ≤ sS σ + 4 * sN σ1 l) (g : LAs l ws σ1 σ') : LAs l (x :: ws) σ σ' := by
  obtain ⟨h1, h2, h3, h4, h5, h6, h7, h8, h9, h10, h11⟩ := h
  obtain ⟨g1, g2, g3, g4, g5, g6, g7, g8, g9, g10⟩ := g
  refine ⟨by rw [g1, h1], by rw [g2, h2], by rw [g3, h3], by rw [g4, h4], by rw [g5, h5], fun b => ?_, g7, h9.tr g8 (fun _ _ e => e), by omega, by rw [List.length_cons]; omega⟩
  rw [g6]
  by_cases e : b = l
  · rw [if_pos e, if_pos e, h6, if_pos rfl, List.append_assoc]; rfl
  · rw [if_neg e, if_neg e, h6, if_neg e]
theorem clash_L57 {a0 mo T p : Nat} {w : List Nat} {u1 u2 : Int} (hl : w.length ≤ 1000) (hpT : p ≠ T) : ∀ (N k : Nat) (σ : ST), sc σ mo = 7 → sR σ 99 mo = some p → sc σ p = 16 → sA σ p = w → sc σ T = 16 → (sA σ T).length ≤ 1000 + k → sN σ T ≤ 10 + 2 * (sA σ T).length → (∀ f, f ∈ w → sc σ f = 9 ∧ ∃ r, sR σ 129 f = some r ∧ sc σ r = 4) → k ≤ w.length → w.length - k < N →
    Rn id σ (fun bb => ck_namesClash_L57 bb a0 u1 u2 mo T N (k : Int) σ) (LAs T ((w.drop k).map (fun f => ad (sR σ 129 f))) σ)
  | 0, k, σ, _, _, _, _, _, _, _, _, _, h => by omega
  | N + 1, k, σ, h1, h2, h3, h4, h5, h6, h7, h8, h9, hN => by
    by_cases c : w.length ≤ k
    · refine Rn_eq (fun bb => by rw [ck_namesClash_L57, gd_pos h1, h2, bind_some', gd_pos h3, l_sz h3, bind_some', h4, gd_pos (by omega), gd_pos (by omega), if_pos (by omega)]) ?_
      rw [List.drop_of_length_le c]
      exact Rn_some (Le.refl _) (LAs.nil h7)
    · have hk : k < w.length := by omega
      obtain ⟨r, hr1, hr2⟩ := (h8 _ (mem_gd hk)).2
      have f9 := (h8 _ (mem_gd hk)).1
      have eg := l_gt h3 (i := k) (by rw [h4]; exact hk) rfl
      rw [h4] at eg
      refine Rn_eq (fun bb => by rw [ck_namesClash_L57, gd_pos h1, h2, bind_some', gd_pos h3, l_sz h3, bind_some', h4, gd_pos (by omega), gd_pos (by omega), if_neg (by omega), eg, bind_some', bind_some', gd_pos f9, gd_pos h5, hr1]) ?_
      refine Rn_bind (su := fun r : Int × ST => r.2) (rn_ladd2 h5 (Or.inl hr2) (by omega) h7) (fun y3 _ A3 => ?_)
      obtain ⟨i3, σ3⟩ := y3
      dsimp only at A3 ⊢
      obtain ⟨A3, am3⟩ := A3
      obtain ⟨g1, g2, g3, g4, g5, g6, g7, g8, g9, g10, g11⟩ := id A3
      have eA : (sA σ3 T).length = (sA σ T).length + 1 := by rw [g6, if_pos rfl, List.length_append]; rfl
      refine Rn_eq (G := fun bb => ck_namesClash_L57 bb a0 u1 u2 mo T N ((k + 1 : Nat) : Int) σ3) (fun bb => by rw [show (k : Int) + 1 = ((k + 1 : Nat) : Int) by omega]) ?_
      have ih := clash_L57 (a0 := a0) (u1 := u1) (u2 := u2) hl hpT N (k + 1) σ3 (by rw [g1]; exact h1) (by rw [g3]; exact h2) (by rw [g1]; exact h3) (by rw [g6, if_neg hpT]; exact h4) (by rw [g1]; exact h5) (by omega) (by rw [eA]; exact g8) (fun f hf => by rw [g1, g3]; exact h8 f hf) (by omega) (by omega)
      refine Rn.mono ih (fun σ' _ h => ?_)
      have h : LAs T ((w.drop (k + 1)).map (fun f => ad (sR σ3 129 f))) σ3 σ' := h
      rw [g3] at h
      have hc := LAs.cons A3 am3 h
      rw [List.drop_eq_getElem_cons hk, List.map_cons]
      have e : w[k] = w.getD k 0 := by rw [List.getD_eq_getElem?_getD, List.getElem?_eq_getElem hk]; rfl
      rw [e, hr1]; exact hc
theorem clash_L99 {a0 mo T p : Nat} {w : List Nat} {u1 u2 : Int} (hl : w.length ≤ 1000) (hpT : p ≠ T) : ∀ (N k : Nat) (σ : ST), sc σ mo = 7 → sR σ 100 mo = some p → sc σ p = 16 → sA σ p = w → sc σ T = 16 → (sA σ T).length ≤ 2000 + k → sN σ T ≤ 10 + 2 * (sA σ T).length → (∀ f, f ∈ w → sc σ f = 4) → k ≤ w.length → w.length - k < N →
    Rn id σ (fun bb => ck_namesClash_L99 bb a0 u1 u2 mo T N (k : Int) σ) (LAs T (w.drop k) σ)
  | 0, k, σ, _, _, _, _, _, _, _, _, _, h => by omega
  | N + 1, k, σ, h1, h2, h3, h4, h5, h6, h7, h8, h9, hN => by
    by_cases c : w.length ≤ k
    · refine Rn_eq (fun bb => by rw [ck_namesClash_L99, gd_pos h1, h2, bind_some', gd_pos h3, l_sz h3, bind_some', h4, gd_pos (by omega), gd_pos (by omega), if_pos (by omega)]) ?_
      rw [List.drop_of_length_le c]
      exact Rn_some (Le.refl _) (LAs.nil h7)
    · have hk : k < w.length := by omega
      have f4 := h8 _ (mem_gd hk)
      have eg := l_gt h3 (i := k) (by rw [h4]; exact hk) rfl
      rw [h4] at eg
      refine Rn_eq (fun bb => by rw [ck_namesClash_L99, gd_pos h1, h2, bind_some', gd_pos h3, l_sz h3, bind_some', h4, gd_pos (by omega), gd_pos (by omega), if_neg (by omega), eg, bind_some', bind_some', gd_pos f4, gd_pos h5]) ?_
      refine Rn_bind (su := fun r : Int × ST => r.2) (rn_ladd2 h5 (Or.inl f4) (by omega) h7) (fun y3 _ A3 => ?_)
      obtain ⟨i3, σ3⟩ := y3
      dsimp only at A3 ⊢
      obtain ⟨A3, am3⟩ := A3
      obtain ⟨g1, g2, g3, g4, g5, g6, g7, g8, g9, g10, g11⟩ := id A3
      have eA : (sA σ3 T).length = (sA σ T).length + 1 := by rw [g6, if_pos rfl, List.length_append]; rfl
      refine Rn_eq (G := fun bb => ck_namesClash_L99 bb a0 u1 u2 mo T N ((k + 1 : Nat) : Int) σ3) (fun bb => by rw [show (k : Int) + 1 = ((k + 1 : Nat) : Int) by omega]) ?_
      have ih := clash_L99 (a0 := a0) (u1 := u1) (u2 := u2) hl hpT N (k + 1) σ3 (by rw [g1]; exact h1) (by rw [g3]; exact h2) (by rw [g1]; exact h3) (by rw [g6, if_neg hpT]; exact h4) (by rw [g1]; exact h5) (by omega) (by rw [eA]; exact g8) (fun f hf => by rw [g1]; exact h8 f hf) (by omega) (by omega)
      refine Rn.mono ih (fun σ' _ h => ?_)
      have hc := LAs.cons A3 am3 h
      rw [List.drop_eq_getElem_cons hk]
      have e : w[k] = w.getD k 0 := by rw [List.getD_eq_getElem?_getD, List.getElem?_eq_getElem hk]; rfl
      rw [e]; exact hc
end Sx
