set_option maxRecDepth 100000
/-! SCHEMAS, CHECKED: types of fields, by the system -/
/-- what a field's object says of its kind -/
def KFs (σ : ST) (M : List TyM) (E : List TyE) (f : Nat) (v : Int) : Prop := (0 ≤ v ∧ v ≤ 10 ∧ sI σ 132 f = v ∧ sR σ 137 f = none ∧ sR σ 138 f = none) ∨ (v = -1 ∧ sI σ 132 f = -1 ∧ sR σ 137 f = none ∧ sR σ 138 f = none) ∨ (∃ (j : Nat) (m : TyM), v = 16 + (j : Int) ∧ M[j]? = some m ∧ sI σ 132 f = 16 ∧ sR σ 137 f = some m.1 ∧ sR σ 138 f = none) ∨ ∃ (k : Nat) (e : TyE), v = 32 + (k : Int) ∧ E[k]? = some e ∧ sI σ 132 f = 32 ∧ sR σ 137 f = none ∧ sR σ 138 f = some e.1
section Sd
variable {y n sd root a0 : Nat} {I : Nat → Nat} {σ σ' : ST} {ob : Nat → Prop} {L : Nat → Nat → List Nat} {M : List TyM} {E : List TyE} {V : List TyV} {F : List TyF} {O : List TyO} {R : List TyR} {N : List TyN}
theorem WKv_ex (p : Int) (w : List UInt8) : ∃ v, WKv I n M E p w v := by
  cases cM : fM I n M p w with
  | some m =>
    obtain ⟨j, hj⟩ := fM_at cM
    exact ⟨_, Or.inl ⟨j, m, cM, hj, rfl⟩⟩
  | none =>
    cases cE : fE I n E p w with
    | some e =>
      obtain ⟨j, hj⟩ := fE_at cE
      exact ⟨_, Or.inr (Or.inl ⟨cM, j, e, cE, hj, rfl⟩)⟩
    | none => exact ⟨_, Or.inr (Or.inr ⟨cM, cE, rfl⟩)⟩
theorem SPk_PTk : ∀ (ws : List (List UInt8)) (w : List UInt8) (p v : Int), SPk I n M E (w :: ws) (some p) v → ∃ v0, WKv I n M E p w v0 ∧ PTk I n M E ws v0 v
  | [], w, p, v, h => ⟨v, h, rfl⟩
  | w' :: ws, w, p, v, h => by
    rcases h with ⟨h1, h2⟩ | ⟨j, m, h1, h2, h3⟩
    · obtain ⟨v0, k⟩ := WKv_ex (I := I) (n := n) (M := M) (E := E) p w
      refine ⟨v0, k, Or.inl ⟨?_, h2⟩⟩
      rcases k with ⟨j, m, k1, -⟩ | ⟨-, j, e, -, -, k4⟩ | ⟨-, -, k3⟩
      · rw [h1] at k1; cases k1
      · exact Or.inr (by omega)
      · exact Or.inl k3
    · obtain ⟨v2, k1, k2⟩ := SPk_PTk ws w' (j : Int) v h3
      exact ⟨16 + (j : Int), Or.inl ⟨j, m, h1, h2, rfl⟩, Or.inr ⟨j, rfl, gq_lt h2, v2, k1, k2⟩⟩
theorem upQ_sc (h : SFr y σ I n ob L sd root M E V F O R N a0) {w : List UInt8} {p' : Int} : ∀ (c : Nat) (p : Int) (s : Nat), scA M root p = some s → upQ I n M E w c p = some p' → ∃ s', scA M root p' = some s'
  | 0, p, s, _, h => by cases h
  | c + 1, p, s, hs, hq => by
    rw [upQ] at hq
    by_cases q : (fM I n M p w).isSome = true ∨ (fE I n E p w).isSome = true
    · rw [if_pos q] at hq
      have e := Option.some.inj hq
      subst e
      exact ⟨s, hs⟩
    · rw [if_neg q] at hq
      by_cases q2 : p = -1
      · rw [if_pos q2] at hq; cases hq
      · rw [if_neg q2] at hq
        rcases scA_cases hs with ⟨e1, -⟩ | ⟨j, m, e1, e2, e3⟩
        · exact absurd e1 q2
        · obtain ⟨-, -, -, -, -, -, -, -, ⟨s', b9⟩, -⟩ := h.2.2.1.2.1 j m e2
          rw [e1, Int.toNat_natCast, e2] at hq
          exact upQ_sc h c m.2.2.2 s' b9 hq
theorem resolve_eq (h : SFr y σ I n ob L sd root M E V F O R N a0) {f : TyF} (hf : f ∈ F) (hn : n ≤ 1000) (h137 : sR σ 137 f.1 = none) (h138 : sR σ 138 f.1 = none) : ∃ σ' v, (∀ bb : Nat × Nat, ck_resolve bb (some f.1) σ = some (if v = -1 then 0 else 1, σ')) ∧ RX σ σ' ∧ (∀ x, x ≠ f.1 → sI σ' 132 x = sI σ 132 x ∧ ∀ j, sR σ' j x = sR σ j x) ∧ KOf I n M E f v ∧ KFs σ' M E f.1 v := by
  obtain ⟨m, hm, r128, m7, om⟩ := h.ms hf
  obtain ⟨H, Q, B, W, C, k1, k2, k3⟩ := id h
  obtain ⟨of, f9, -, -, -, -, -, -, -, flen, frow⟩ := B.2.2.2.1 f hf
  have f9 : sc σ f.1 = 9 := f9
  have wf := W.2.2.2.2.1 f hf
  have hl := W.1
  obtain ⟨l, l1, l2, l3, l4, l5, -⟩ := H.get (k := 139) of (by decide) f9
  have l4 : sc σ l = 16 := l4
  have l5 := l5 rfl
  have p1 := wf.2.2.2.2.1
  have bp : fPa f ≤ n + 1 := by
    have := (wf.2.2.2.2.2.1 (fPa f - 1) (by omega)).2
    omega
  have hlen : (fTx I n f).length = fPa f := by unfold fTx; rw [List.length_map, List.length_range]
  obtain ⟨r, r1, -, -⟩ := drop_at (show 0 < (L 139 f.1).length by omega)
  obtain ⟨-, -, r4, rw4⟩ := frow 0 r r1
  have rw4 : sW σ r = tx I n (fTy f) := rw4
  have kt : (tkn I n (fTy f)).1 = 1 := (wf.2.2.2.2.2.1 0 (by omega)).1
  have eg : l_get l 0 σ = some (some r) := by
    have := l_gt l4 (i := 0) (by rw [l5.1]; omega) (x := 0) rfl
    rw [this, l5.1, List.getD_eq_getElem?_getD, r1]; rfl
  have tl := tx_len kt
  have scl := ck_scalar_eq r4 rw4 (by omega)
  have sr := scK_rg (tx I n (fTy f))
  by_cases q : fPa f = 1 ∧ scK (tx I n (fTy f)) ≠ -1
  · refine ⟨pI σ 132 f.1 (scK (tx I n (fTy f))), scK (tx I n (fTy f)), fun bb => ?_, RX.pI _ _ _, fun x hx => ⟨by rw [sI_pI, if_neg (fun e => hx e.2)], fun _ => rfl⟩, Or.inl ⟨q.1, q.2, rfl⟩, Or.inl ⟨by omega, by omega, by rw [sI_pI, if_pos ⟨rfl, rfl⟩], h137, h138⟩⟩
    unfold ck_resolve
    rw [bind_some', gd_pos f9, l1, bind_some', gd_pos l4, eg, bind_some', bind_some', gd_pos r4, l_sz l4, bind_some', l5.1, flen, gd_pos (by omega), scl, gd_pos (by exact fun _ => ok_some _), vv_s, gd_pos (by exact fun _ => by omega), if_pos (by omega), bind_some', nm_eq, if_neg q.2]
  · obtain ⟨-, -, -, -, -, m98, -⟩ := B.2.1 _ m hm
    have hs : scA M root (fMs f : Int) = some m.2.1 := by rw [scA_n, hm]; rfl
    have e48 := fun bb => res_L48 h (bb := bb) (a1 := some f.1) r4 rw4 10 FU (fMs f : Int) m.2.1 hs (by omega) (by omega) (FU_gt (by decide))
    obtain ⟨σ1, v, w1, w2, w3, w4, w5, w6⟩ := res_L78 hf hn (fPa f) FU 0 (upQ I n M E (tx I n (fTy f)) 11 (fMs f : Int)) σ h (by omega) (FU_gt (by omega)) (fun p' e => upQ_sc h 11 _ _ hs e) h137 h138
    obtain ⟨t0, t1, -, hd⟩ := drop_at (show 0 < (fTx I n f).length by omega)
    have et : t0 = tx I n (fTy f) := by
      unfold fTx at t1
      rw [List.getElem?_map, List.getElem?_range (by omega)] at t1
      exact (Option.some.inj t1).symm
    subst et
    rw [hd] at w5
    have ko : KOf I n M E f v := by
      refine Or.inr ⟨q, ?_⟩
      cases cu : upQ I n M E (tx I n (fTy f)) 11 (fMs f : Int) with
      | some p =>
        rw [cu] at w5
        obtain ⟨v0, g1, g2⟩ := SPk_PTk _ _ p v w5
        exact ⟨v0, Or.inl ⟨p, rfl, g1⟩, g2⟩
      | none =>
        rw [cu] at w5
        have e : v = -1 := by
          cases hh : (fTx I n f).drop (0 + 1) with
          | nil => rw [hh] at w5; exact w5
          | cons a b => rw [hh] at w5; exact w5
        refine ⟨-1, Or.inr ⟨rfl, rfl⟩, ?_⟩
        cases (fTx I n f).drop 1 with
        | nil => exact e
        | cons a b => exact Or.inl ⟨Or.inl rfl, e⟩
    have c9 : sc σ1 f.1 = 9 := by rw [w2.1]; exact f9
    obtain ⟨v39, e39, k39⟩ : ∃ v39 : Int, (if (sR σ1 137 f.1) = none then (if (sR σ1 138 f.1) = none then (some ((-1 : Int))) else (some 32)) else (some 16)) = some v39 ∧ ((v = -1 ∧ v39 = -1) ∨ (v ≠ -1 ∧ (v39 = 16 ∨ v39 = 32) ∧ ((∃ (j : Nat) (m : TyM), v = 16 + (j : Int) ∧ M[j]? = some m ∧ v39 = 16 ∧ sR σ1 137 f.1 = some m.1 ∧ sR σ1 138 f.1 = none) ∨ ∃ (k : Nat) (e : TyE), v = 32 + (k : Int) ∧ E[k]? = some e ∧ v39 = 32 ∧ sR σ1 137 f.1 = none ∧ sR σ1 138 f.1 = some e.1))) := by
      rcases w6 with ⟨g1, g2, g3⟩ | ⟨j, m', g1, g2, g3, g4⟩ | ⟨k, e, g1, g2, g3, g4⟩
      · rw [g2, g3]
        exact ⟨-1, rfl, Or.inl ⟨g1, rfl⟩⟩
      · rw [g3, g4]
        exact ⟨16, rfl, Or.inr ⟨by omega, Or.inl rfl, Or.inl ⟨j, m', g1, g2, rfl, rfl, rfl⟩⟩⟩
      · rw [g3, g4]
        exact ⟨32, rfl, Or.inr ⟨by omega, Or.inr rfl, Or.inr ⟨k, e, g1, g2, rfl, rfl, rfl⟩⟩⟩
    have rg39 : rg v39 := by
      rcases k39 with ⟨-, e⟩ | ⟨-, e | e, -⟩ <;> omega
    refine ⟨pI σ1 132 f.1 v39, v, fun bb => ?_, w2.tr (RX.pI _ _ _), fun x hx => ⟨by rw [sI_pI, if_neg (fun e => hx e.2), w3], fun j => w4 j x hx⟩, ko, ?_⟩
    · have w1' : ck_resolve_L78 bb (some f.1) FU ((upQ I n M E (tx I n (fTy f)) 11 (fMs f : Int)).bind (scA M root)) 0 σ = some σ1 := w1 bb
      unfold ck_resolve
      rw [bind_some', gd_pos f9, l1, bind_some', gd_pos l4, eg, bind_some', bind_some', gd_pos r4, l_sz l4, bind_some', l5.1, flen, gd_pos (by omega), scl, gd_pos (by exact fun _ => ok_some _), vv_s, gd_pos (by exact fun _ => by omega), if_neg (by omega), r128, bind_some', gd_pos m7, nm_eq, m98, e48, bind_some', w1', bind_some', gd_pos c9, e39, bind_some', nm_eq, gd_pos (by exact c9), sI_pI, if_pos (show (132 : Nat) = 132 ∧ f.1 = f.1 from ⟨rfl, rfl⟩), gd_pos rg39]
      rcases k39 with ⟨g1, g2⟩ | ⟨g1, g2, -⟩
      · rw [if_pos (by omega), if_pos g1]
      · rw [if_neg (by omega), if_neg g1]
    · rcases k39 with ⟨g1, g2⟩ | ⟨g1, g2, ⟨j, m', g3, g4, g5, g6, g7⟩ | ⟨k, e, g3, g4, g5, g6, g7⟩⟩
      · rcases w6 with ⟨_, u2, u3⟩ | ⟨j, m', u1, _⟩ | ⟨k, e, u1, _⟩
        · exact Or.inr (Or.inl ⟨g1, by rw [sI_pI, if_pos ⟨rfl, rfl⟩]; exact g2, u2, u3⟩)
        · omega
        · omega
      · exact Or.inr (Or.inr (Or.inl ⟨j, m', g3, g4, by rw [sI_pI, if_pos ⟨rfl, rfl⟩]; exact g5, g6, g7⟩))
      · exact Or.inr (Or.inr (Or.inr ⟨k, e, g3, g4, by rw [sI_pI, if_pos ⟨rfl, rfl⟩]; exact g5, g6, g7⟩))
end Sd
