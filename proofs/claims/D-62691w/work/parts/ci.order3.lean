set_option maxRecDepth 100000
/-! SCHEMAS, CHECKED: fields by their numbers -/
section Si3
theorem ord_L16 {mo oa la m : Nat} {w : List Nat} (hm : m ≤ 1000) (hw : w.length = m) : ∀ (c N1 k : Nat) (q : List Nat) (σ : ST), sc σ mo = 7 → sR σ 103 mo = some oa → sc σ oa = 103 → sN σ oa = m → sR σ 99 mo = some la → sc σ la = 16 → sA σ la = w → (∀ a, a ∈ w → sc σ a = 9 ∧ rg (sI σ 131 a)) → q.Perm (w.take k) → q.Pairwise (fun a b => sI σ 131 a ≤ sI σ 131 b) → (∀ j, j < k → sF σ oa j = q[j]?) → k + c = m → c < N1 →
    ∃ (σ' : ST) (q' : List Nat), (∀ bb : Nat × Nat, mt_order_L16 bb mo N1 (k : Int) σ = some σ') ∧ OXa oa σ σ' ∧ q'.Perm w ∧ q'.Pairwise (fun a b => sI σ 131 a ≤ sI σ 131 b) ∧ ∀ j, j < m → sF σ' oa j = q'[j]?
  | c, 0, k, q, σ, _, _, _, _, _, _, _, _, _, _, _, _, h => by omega
  | 0, N1 + 1, k, q, σ, h1, h2, h3, h4, h5, h6, h7, h8, hp, hs, hF, hk, _ => by
    refine ⟨σ, q, fun bb => ?_, OXa.refl _ _, ?_, hs, fun j hj => hF j (by omega)⟩
    · rw [mt_order_L16, gd_pos h1, h2, bind_some', gd_pos h3, gd_pos (by omega), h4, gd_pos (by omega), if_pos (by omega)]
    · rw [List.take_of_length_le (by omega)] at hp; exact hp
  | c + 1, N1 + 1, k, q, σ, h1, h2, h3, h4, h5, h6, h7, h8, hp, hs, hF, hk, hN => by
    have ql : q.length = k := by rw [hp.length_eq, List.length_take]; omega
    obtain ⟨x, hx, xm, -⟩ := drop_at (show k < w.length by omega)
    have eg : l_get la (k : Int) σ = some (some x) := by
      rw [l_gt h6 (i := k) (by rw [h7]; omega) rfl, h7, List.getD_eq_getElem?_getD, hx]; rfl
    have qm : ∀ a, a ∈ q → a ∈ w := fun a ha => List.mem_of_mem_take (hp.mem_iff.mp ha)
    obtain ⟨i', σ1, w1, w2, w3, w4, w5, w6, w7, w8⟩ := ord_L27 (mo := mo) (oa := oa) (la := la) (x := x) (k := k) (m := m) (by omega) hm FU k σ h1 h2 h3 h4 h5 h6 eg (h8 x xm).1 (h8 x xm).2 (fun j hj => by
      obtain ⟨a, a1, a2, -⟩ := drop_at (show j < q.length by omega)
      exact ⟨a, by rw [hF j hj]; exact a1, h8 a (qm a a2)⟩) (Nat.le_refl _) (FU_gt (by omega))
    obtain ⟨b1, b2, b3, b4, b5, b6, b7, b8, b9, bA, bB⟩ := id w2
    have eg1 : l_get la (k : Int) σ1 = some (some x) := by
      unfold l_get at eg ⊢
      rw [b1, b5]; exact eg
    have o2 := OXa.pF oa σ1 i' (some x)
    have nA : ∀ (j a : Nat), j < k → q[j]? = some a → nAt σ oa j = sI σ 131 a := fun j a hj ha => by
      unfold nAt
      rw [hF j hj, ha]; rfl
    have hs2 : (q.take i' ++ x :: q.drop i').Pairwise (fun a b => sI σ 131 a ≤ sI σ 131 b) := by
      refine ins_sort hs (fun a ha => ?_) (fun a ha => ?_)
      · obtain ⟨j, hj⟩ := List.getElem?_of_mem ha
        rw [List.getElem?_take] at hj
        by_cases c1 : j < i'
        · rw [if_pos c1] at hj
          rcases w7 with e | e
          · omega
          · obtain ⟨b, hb, -, -⟩ := drop_at (show i' - 1 < q.length by omega)
            rw [nA (i' - 1) b (by omega) hb] at e
            have le : sI σ 131 a ≤ sI σ 131 b := by
              by_cases ej : j = i' - 1
              · rw [ej, hb] at hj
                have := Option.some.inj hj
                rw [this]; exact Int.le_refl _
              · have p := List.pairwise_iff_getElem.mp hs j (i' - 1) (gq_lt hj) (gq_lt hb) (by omega)
                rw [(List.getElem?_eq_some_iff.mp hj).2, (List.getElem?_eq_some_iff.mp hb).2] at p
                exact p
            exact Int.le_trans le e
        · rw [if_neg c1] at hj; cases hj
      · obtain ⟨j, hj⟩ := List.getElem?_of_mem ha
        rw [List.getElem?_drop] at hj
        have jl := gq_lt hj
        have := w8 (i' + j) (by omega) (by omega)
        rw [nA (i' + j) a (by omega) hj] at this
        omega
    obtain ⟨σ', q', u1, u2, u3, u4, u5⟩ := ord_L16 hm hw c N1 (k + 1) (q.take i' ++ x :: q.drop i') (pF σ1 oa i' (some x)) (by rw [← b1] at h1; exact h1) (by rw [← b3] at h2; exact h2) (by rw [← b1] at h3; exact h3) (by rw [← b6] at h4; exact h4) (by rw [← b3] at h5; exact h5) (by rw [← b1] at h6; exact h6) (by rw [← b5] at h7; exact h7) (by rw [← b1, ← b2] at h8; exact h8) (by
        refine ins_perm.trans ?_
        rw [List.take_add_one, hx]
        exact hp.append_right [x]) (by rw [← b2] at hs2; exact hs2) (fun j hj => by
        rw [ins_at (by omega), sF_pF]
        by_cases c1 : j < i'
        · rw [if_neg (by omega), if_pos c1, w4 j c1, hF j (by omega)]
        · rw [if_neg c1]
          by_cases c2 : j = i'
          · rw [if_pos ⟨rfl, c2⟩, if_pos c2]
          · rw [if_neg (fun e => c2 e.2), if_neg c2, w5 j (by omega) (by omega), hF (j - 1) (by omega)]) (by omega) (by omega)
    refine ⟨σ', q', fun bb => ?_, (w2.tr o2).tr u2, u3, ?_, u5⟩
    · rw [mt_order_L16, gd_pos h1, h2, bind_some', gd_pos h3, gd_pos (by omega), h4, gd_pos (by omega), if_neg (by omega), w1 bb, bind_some']
      dsimp only
      rw [gd_pos (by rw [b1]; exact h1), b3, h5, bind_some', gd_pos (by rw [b1]; exact h6), eg1, bind_some', bind_some', gd_pos (by rw [b1]; exact (h8 x xm).1), h2, bind_some', gd_pos (by rw [b1]; exact h3), b6, h4, gd_pos (by constructor <;> omega), nm_eq, Int.toNat_natCast, show (k : Int) + 1 = ((k + 1 : Nat) : Int) by omega]
      exact u1 bb
    · have e : sI (pF σ1 oa i' (some x)) = sI σ := b2
      rw [e] at u4; exact u4
end Si3
