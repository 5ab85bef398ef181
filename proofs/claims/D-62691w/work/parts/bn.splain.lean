set_option maxRecDepth 100000
/-! SCHEMAS, READ: a field, as the system reads it: its loops -/
section Pn
variable {y n a b K : Nat} {I : Nat → Nat}
theorem dtS_kind : ∀ (c j v : Nat), dtS I n c j = some v → ∀ q, q < v → (tkn I n (j + 1 + 2 * q)).1 = 1
  | 0, j, v, h, q, hq => by cases h
  | c + 1, j, v, h, q, hq => by
    rw [dtS] at h
    by_cases c1 : sgn I n j 46
    · rw [if_pos c1] at h
      by_cases c2 : (tkn I n (j + 1)).1 = 1
      · rw [if_pos c2] at h
        cases e : dtS I n c (j + 2) with
        | none => rw [e] at h; cases h
        | some v' =>
          rw [e] at h
          have hv : v' + 1 = v := Option.some.inj h
          by_cases q0 : q = 0
          · rw [q0]; exact c2
          · have := dtS_kind c (j + 2) v' e (q - 1) (by omega)
            rw [show j + 1 + 2 * q = j + 2 + 1 + 2 * (q - 1) by omega]; exact this
      · rw [if_neg c2] at h; cases h
    · rw [if_neg c1] at h
      have := Option.some.inj h
      omega
theorem plain_L41 (hG : GR I n K a b y) {T ty : Nat} {mo : Option Nat} : ∀ (N c j : Nat) (w : List Nat) (σ : ST), K - j ≤ c → c + 1 < N → j ≤ K → STk σ a b I n (tkn I n j) → y ≤ sZ σ → sc σ T = 16 → T < sZ σ → sA σ T = w → sN σ T ≤ 10 + 2 * w.length → j + 1 = ty + 2 * w.length → (∀ q r : Nat, w[q]? = some r → Rt y σ r (tkX I (tkn I n (ty + 2 * q)))) →
    Rn (Sum.elim (fun r : Option (Option Nat) × ST => r.2) id) σ (fun bb => sr_plain_L41 bb a mo T N σ) (fun r =>
      (∃ σ' v, r = Sum.inl (none, σ') ∧ dtS I n (c + 1) j = none ∧ FR (fun x => x = a ∨ x = T) σ σ' ∧ j + 2 * v ≤ K ∧ sS σ' + 4 * sN σ T ≤ sS σ + 50 + 8 * (w.length + v) + 10 * v + 4 * (n - (tkn I n j).2.1) ∧ sC σ' ≤ sC σ + 9 * v + 2) ∨
      ∃ σ' v w', r = Sum.inr σ' ∧ dtS I n (c + 1) j = some v ∧ STk σ' a b I n (tkn I n (j + 2 * v)) ∧ sA σ' T = w' ∧ w'.length = w.length + v ∧ sN σ' T ≤ 10 + 2 * w'.length ∧ (∀ q r : Nat, w'[q]? = some r → Rt y σ' r (tkX I (tkn I n (ty + 2 * q)))) ∧ (∀ k, sR σ' k a = sR σ k a) ∧ FR (fun x => x = a ∨ x = T) σ σ' ∧ j + 2 * v ≤ K ∧ (tkn I n j).2.1 ≤ (tkn I n (j + 2 * v)).2.1 ∧ sS σ' + 4 * sN σ T ≤ sS σ + 4 * sN σ' T + 10 * v + 4 * ((tkn I n (j + 2 * v)).2.1 - (tkn I n j).2.1) ∧ sC σ' ≤ sC σ + 9 * v)
  | 0, c, j, w, σ, _, h, _, _, _, _, _, _, _, _, _ => by omega
  | N + 1, c, j, w, σ, hc, hN, hj, st, hy, hT, hTz, hw, hcap, hty, hr => by
    obtain ⟨hD, hI, hn, hya, hby⟩ := id hG
    have hKn := hD.1
    have a6 := st.1.1
    have eI := sr_isSign_eq hI st (tkn_k I n j) (x := 46) (by omega)
    have bj := tkn_bd I n j
    by_cases q : sgn I n j 46
    case neg =>
      rw [if_neg q] at eI
      refine Rn_eq (fun bb => by rw [sr_plain_L41, gd_pos a6, eI, bind_some', gd_pos (by omega), if_pos rfl]) ?_
      refine Rn_some (Le.refl _) (Or.inr ⟨σ, 0, w, rfl, by rw [dtS, if_neg q], st, hw, rfl, hcap, hr, fun _ => rfl, FR.refl _ _, hj, Nat.le_refl _, Nat.le_add_right _ _, Nat.le_refl _⟩)
    rw [if_pos q] at eI
    have hjK : j < K := by
      by_cases e : j = K
      · rw [e] at q; have := q.1; rw [hD.2.1] at this; cases this
      · omega
    obtain ⟨σ1, n1, st1, J1⟩ := sr_next_k hI st
    refine Rn_eq (fun bb => by rw [sr_plain_L41, gd_pos a6, eI, bind_some', gd_pos (by omega), if_neg (by omega), n1 bb, bind_some', gd_pos st1.1.1]) ?_
    refine Rn_le J1.le ?_
    have j1s : sS σ1 = sS σ ∧ sC σ1 = sC σ ∧ sZ σ1 = sZ σ := ⟨J1.2.2.1, J1.2.1, J1.2.2.2.1⟩
    have F1 : FR (fun x => x = a ∨ x = T) σ σ1 := J1.1.up (fun x _ e => Or.inl e)
    refine Rn_tB (sr_name_eq hI st1) (fun σ' _ hj' => ?_) (fun rr σ2 _ hj' => ?_)
    · rcases hj' with ⟨-, q', -⟩ | ⟨qk, q'⟩
      · cases q'
      · have eσ : σ' = nX σ1 := congrArg Prod.snd q'
        subst eσ
        refine ⟨rfl, Or.inl ⟨nX σ1, 0, rfl, by rw [dtS, if_pos q, if_neg qk], F1.tr (FR.nX _ σ1) (fun _ _ e => e), hj, ?_, ?_⟩⟩
        · rw [sS_nX_]; omega
        · rw [sC_nX_]; omega
    rcases hj' with ⟨qk, qr, st2, F2, z2, rc2, rw2, s2, c2, r2⟩ | ⟨-, q'⟩
    case inr => cases q'
    have er : rr = some (sZ σ1) := Option.some.inj qr
    subst er
    dsimp only at st2 F2 z2 rc2 rw2 s2 c2 r2
    have wl := word_len qk
    have neT := st.ne hT (by decide) (by decide)
    have T1 : SameB σ σ1 T := (J1.1.2 T hTz).2 (fun e => neT.1 e.symm)
    have T2 : SameB σ1 σ2 T := (F2.2 T (by omega)).2 (fun e => neT.1 e.symm)
    have hT2 : sc σ2 T = 16 := by rw [(F2.2 T (by omega)).1, (J1.1.2 T hTz).1]; exact hT
    have hw2 : sA σ2 T = w := by rw [T2.2.1, T1.2.1]; exact hw
    have hN2 : sN σ2 T = sN σ T := by rw [T2.2.2.1, T1.2.2.1]
    have G2 : FR6 σ σ2 := (J1.f6 a6).tr (FR.f6 F2 st1.1.1)
    refine Rn_eq (fun bb => by rw [gd_pos hT2]) ?_
    have wb : w.length ≤ 1000 := by omega
    refine Rn_bind (su := fun r : Int × ST => r.2) (rn_ladd2 hT2 (Or.inl rc2) (by rw [hw2]; omega) (by rw [hw2, hN2]; exact hcap)) (fun y3 _ A3 => ?_)
    obtain ⟨i3, σ3⟩ := y3
    dsimp only at A3 ⊢
    obtain ⟨A3, am3⟩ := A3
    have ne3 := st2.ne hT2 (by decide) (by decide)
    have st3 := st2.la A3 ne3.1 ne3.2
    have z3 : sZ σ2 ≤ sZ σ3 := A3.2.2.2.2.2.2.2.2.1.1.1
    have hw3 : sA σ3 T = w ++ [sZ σ1] := by rw [A3.2.2.2.2.2.1, if_pos rfl, hw2]
    have l3 : (w ++ [sZ σ1]).length = w.length + 1 := by rw [List.length_append]; rfl
    have hN3 : sN σ3 T ≤ 10 + 2 * (w.length + 1) := by have := A3.2.2.2.2.2.2.2.1; rw [hw2] at this; exact this
    have K3 : Kp σ σ3 := G2.kp.tr A3.kp
    have Rr : Rt y σ3 (sZ σ1) (tkX I (tkn I n (j + 1))) := Rt.kp (σ := σ2) ⟨by omega, z2, rc2, rw2⟩ A3.kp
    have hr3 : ∀ q r : Nat, (w ++ [sZ σ1])[q]? = some r → Rt y σ3 r (tkX I (tkn I n (ty + 2 * q))) := fun q r h => by
      rcases gq_app h with ⟨-, h'⟩ | ⟨h', h''⟩
      · exact (hr q r h').kp K3
      · subst h' h''
        rw [← hty]; exact Rr
    have F3 : FR (fun x => x = a ∨ x = T) σ σ3 := (F1.tr (F2.up (fun x _ e => (Or.inl e : x = a ∨ x = T))) (fun _ _ e => e)).tr (A3.2.2.2.2.2.2.2.2.1.up (fun x _ e => (Or.inr e : x = a ∨ x = T))) (fun _ _ e => e)
    have r3 : ∀ k, sR σ3 k a = sR σ k a := fun k => by rw [A3.2.2.1, r2, J1.2.2.2.2]
    have cc3 : sC σ3 ≤ sC σ + 9 := by have := A3.2.2.2.2.2.2.2.2.2.2; omega
    have hK2 : j + 2 ≤ K := by
      by_cases e : j + 1 = K
      · rw [e] at qk; rw [hD.2.1] at qk; cases qk
      · omega
    have m0 : (tkn I n j).2.2 ≤ (tkn I n (j + 1)).2.1 := tkn_mono I n j
    have m1 : (tkn I n (j + 1)).2.2 ≤ (tkn I n (j + 2)).2.1 := tkn_mono I n (j + 1)
    have b1 := tkn_bd I n (j + 1)
    have b2 := tkn_bd I n (j + 2)
    obtain ⟨c, rfl⟩ : ∃ c', c = c' + 1 := ⟨c - 1, by omega⟩
    have ih := plain_L41 hG (T := T) (ty := ty) (mo := mo) N c (j + 2) (w ++ [sZ σ1]) σ3 (by omega) (by omega) hK2 st3 (by omega) (by rw [A3.1]; exact hT2) (by omega) hw3 (by rw [l3]; exact hN3) (by rw [l3]; omega) hr3
    have S3 : sS σ3 + 4 * sN σ T ≤ sS σ + 4 * sN σ3 T + 10 + 4 * ((tkn I n (j + 1)).2.2 - (tkn I n (j + 1)).2.1) := by rw [hN2] at am3; omega
    refine ih.mono (fun r _ hr => ?_)
    rcases hr with ⟨σ', v, w1, w2, w3, w4, w5, w6⟩ | ⟨σ', v, w', w1, w2, w3, w4, w5, w6, w7, w8, w9, wA, wA', wB, wC⟩
    · refine Or.inl ⟨σ', v + 1, w1, by rw [dtS, if_pos q, if_pos qk, w2]; rfl, F3.tr w3 (fun _ _ e => e), by omega, ?_, by omega⟩
      rw [l3] at w5
      omega
    · refine Or.inr ⟨σ', v + 1, w', w1, by rw [dtS, if_pos q, if_pos qk, w2]; rfl, ?_, w4, by rw [w5, l3]; omega, w6, w7, fun k => by rw [w8, r3], F3.tr w9 (fun _ _ e => e), by omega, ?_, ?_, by omega⟩
      · rw [show j + 2 * (v + 1) = j + 2 + 2 * v by omega]; exact w3
      · rw [show j + 2 * (v + 1) = j + 2 + 2 * v by omega]; omega
      · rw [show j + 2 * (v + 1) = j + 2 + 2 * v by omega]; omega
theorem plain_L82 {T X D : Nat} {mo : Option Nat} {w : List Nat} (hne : T ≠ D) (hl : w.length < 10000) : ∀ (N k : Nat) (σ : ST), sc σ T = 16 → sA σ T = w → sR σ 139 X = some D → sc σ X = 9 → sc σ D = 16 → sA σ D = w.take k → sN σ D ≤ 10 + 2 * k → k ≤ w.length → w.length - k < N → (∀ r, r ∈ w → sc σ r = 4) →
    Rn id σ (fun bb => sr_plain_L82 bb a mo T X N (k : Int) σ) (fun σ' => FR (fun x => x = D) σ σ' ∧ sc σ' = sc σ ∧ sI σ' = sI σ ∧ sR σ' = sR σ ∧ sW σ' = sW σ ∧ sA σ' D = w ∧ sN σ' D ≤ 10 + 2 * w.length ∧ sS σ' + 4 * sN σ D ≤ sS σ + 4 * sN σ' D ∧ sC σ' ≤ sC σ + (w.length - k))
  | 0, k, σ, _, _, _, _, _, _, _, _, h, _ => by omega
  | N + 1, k, σ, hT, hw, hR, hX, hD, hA, hN, hk, hf, hr => by
    by_cases c : w.length ≤ k
    · have ek : k = w.length := by omega
      refine Rn_eq (fun bb => by rw [sr_plain_L82, gd_pos hT, l_sz hT, bind_some', hw, gd_pos (by omega), gd_pos (by omega), if_pos (by omega)]) ?_
      refine Rn_some (Le.refl _) ⟨FR.refl _ _, rfl, rfl, rfl, rfl, by rw [hA, ek, List.take_length], by omega, Nat.le_refl _, Nat.le_add_right _ _⟩
    · have hk' : k < w.length := by omega
      have eg : l_get T (k : Int) σ = some (some w[k]) := by
        unfold l_get
        rw [gd_pos ⟨hT, by rw [hw]; constructor <;> omega⟩, hw, Int.toNat_natCast, List.getD_eq_getElem?_getD, List.getElem?_eq_getElem hk']; rfl
      have r4 : sc σ w[k] = 4 := hr _ (List.getElem_mem hk')
      refine Rn_eq (fun bb => by rw [sr_plain_L82, gd_pos hT, l_sz hT, bind_some', hw, gd_pos (by omega), gd_pos (by omega), if_neg (by omega), gd_pos hX, eg, bind_some', bind_some', gd_pos r4, hR, bind_some', gd_pos hD]) ?_
      have tl : (w.take k).length = k := by rw [List.length_take]; omega
      refine Rn_bind (su := fun r : Int × ST => r.2) (rn_ladd2 hD (Or.inl r4) (by rw [hA, tl]; omega) (by rw [hA, tl]; exact hN)) (fun y3 _ A3 => ?_)
      obtain ⟨i3, σ3⟩ := y3
      dsimp only at A3 ⊢
      obtain ⟨A3, am3⟩ := A3
      obtain ⟨g1, g2, g3, g4, g5, g6, g7, g8, g9, g10, g11⟩ := A3
      have eA : sA σ3 D = w.take (k + 1) := by
        rw [g6, if_pos rfl, hA, List.take_add_one, List.getElem?_eq_getElem hk']; rfl
      rw [hA, tl] at g8
      refine Rn_eq (G := fun bb => sr_plain_L82 bb a mo T X N ((k + 1 : Nat) : Int) σ3) (fun bb => by rw [show (k : Int) + 1 = ((k + 1 : Nat) : Int) by omega]) ?_
      have ih := plain_L82 hne hl (mo := mo) N (k + 1) σ3 (by rw [g1]; exact hT) (by rw [g6, if_neg hne]; exact hw) (by rw [g3]; exact hR) (by rw [g1]; exact hX) (by rw [g1]; exact hD) eA g8 (by omega) (by omega) (fun r h => by rw [g1]; exact hr r h)
      refine Rn.mono ih (fun σ' _ h => ?_)
      obtain ⟨h1, h2, h3, h4, h5, h6, h7, h8, h9⟩ := h
      have h8' : sS σ' + 4 * sN σ3 D ≤ sS σ3 + 4 * sN σ' D := h8
      have h9' : sC σ' ≤ sC σ3 + (w.length - (k + 1)) := h9
      exact ⟨g9.tr h1 (fun _ _ e => e), by rw [h2, g1], by rw [h3, g2], by rw [h4, g3], by rw [h5, g4], h6, h7, by omega, by omega⟩
end Pn
