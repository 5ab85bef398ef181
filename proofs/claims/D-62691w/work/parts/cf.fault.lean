set_option maxRecDepth 100000
/-! SCHEMAS, CHECKED: numbers and kinds, the system's loop -/
section Sf
variable {y n sd root a0 : Nat} {I : Nat → Nat} {σ σ' : ST} {ob : Nat → Prop} {L : Nat → Nat → List Nat} {M : List TyM} {E : List TyE} {V : List TyV} {F : List TyF} {O : List TyO} {R : List TyR} {N : List TyN}
theorem fault_L18 (hu : Uq M E) (hn : n ≤ 1000) (hnd : (F.map (fun f => f.1)).Nodup) : ∀ (c N1 j : Nat) (f1 f2 : Int) (A1 A2 : Prop) (σ : ST), SFr y σ I n ob L sd root M E V F O R N a0 → Gd f1 A1 → Gd f2 A2 → j + c = F.length → c < N1 → (∀ (x : Nat) (f : TyF), j ≤ x → F[x]? = some f → sR σ 137 f.1 = none ∧ sR σ 138 f.1 = none) →
    ∃ r1 r2 σ', (∀ bb : Nat × Nat, ck_fault_L18 bb a0 1 N1 f1 f2 (j : Int) σ = some (r1, r2, σ')) ∧ RX σ σ' ∧ Gd r1 (A1 ∨ ∃ x, j ≤ x ∧ x < F.length ∧ ∃ f, F[x]? = some f ∧ BNf F R f) ∧ Gd r2 (A2 ∨ ∃ x, j ≤ x ∧ x < F.length ∧ ∃ f, F[x]? = some f ∧ KOf I n M E f (-1)) ∧ (∀ (x : Nat) (f : TyF), j ≤ x → F[x]? = some f → ∃ v, KOf I n M E f v ∧ KFs σ' M E f.1 v) ∧ ∀ a, (∀ (x : Nat) (f : TyF), j ≤ x → F[x]? = some f → a ≠ f.1) → sI σ' 132 a = sI σ 132 a ∧ ∀ k, sR σ' k a = sR σ k a
  | c, 0, j, f1, f2, A1, A2, σ, _, _, _, _, h, _ => by omega
  | c, N1 + 1, j, f1, f2, A1, A2, σ, h, g1, g2, hj, hN, hno => by
    obtain ⟨l, l1, l4, l5, l6⟩ := h.flist
    obtain ⟨H, Q, B, W, C, k1, k2, k3⟩ := id h
    have hl := W.1
    have d2 : sc σ sd = 2 := B.1.2.2.1
    cases c with
    | zero =>
      refine ⟨f1, f2, σ, fun bb => ?_, RX.refl _, g1.cg (ex_no (by omega)).symm, g2.cg (ex_no (by omega)).symm, fun x f h1 h2 => by have := gq_lt h2; omega, fun _ _ => ⟨rfl, fun _ => rfl⟩⟩
      rw [ck_fault_L18, gd_pos k1, k2, bind_some', gd_pos d2, l1, bind_some', gd_pos l4, l_sz l4, bind_some', l5, gd_pos (by omega), gd_pos (by omega), if_pos (by omega)]
    | succ c =>
      obtain ⟨f, hf, fm, -⟩ := drop_at (show j < F.length by omega)
      have eg := l6 j f hf
      obtain ⟨-, f9, -⟩ := B.2.2.2.1 f fm
      obtain ⟨vn, en, gn⟩ := isNumber_eq h fm
      obtain ⟨n7, n8⟩ := hno j f (Nat.le_refl _) hf
      obtain ⟨σ1, v, w1, w2, w3, w4, w5⟩ := resolve_eq h fm hn n7 n8
      obtain ⟨v1, e1, q1⟩ : ∃ v1 : Int, (gd (rg f1) (gd (¬ (f1 = 0) → ok (l_get l (j : Int) σ)) (gd (¬ (f1 = 0) → ¬ (vo (l_get l (j : Int) σ)) = none) (gd (¬ (f1 = 0) → sc σ (ad (vo (l_get l (j : Int) σ))) = 9) (gd (¬ (f1 = 0) → ok (ck_isNumber (some (ad (vo (l_get l (j : Int) σ)))) σ)) (gd (¬ (f1 = 0) → rg (vv (ck_isNumber (some (ad (vo (l_get l (j : Int) σ)))) σ))) (if (f1 = 0) ∨ ((vv (ck_isNumber (some (ad (vo (l_get l (j : Int) σ)))) σ)) = 0) then (some 0) else (some 1)))))))) = some v1 ∧ Gd v1 (A1 ∨ BNf F R f) := by
        rw [gd_pos g1.rgv.1, eg, gd_pos (by exact fun _ => ok_some _), vo_s, gd_pos (by exact fun _ h => by cases h), show ad (some f.1) = f.1 from rfl, gd_pos (by exact fun _ => f9), en, gd_pos (by exact fun _ => ok_some _), vv_s, gd_pos (by exact fun _ => gn.rgv.1)]
        rcases g1 with ⟨e, hA⟩ | ⟨e, hA⟩
        · exact ⟨0, if_pos (Or.inl e), Or.inl ⟨rfl, Or.inl hA⟩⟩
        · rcases gn with ⟨e', hB⟩ | ⟨e', hB⟩
          · exact ⟨0, if_pos (Or.inr e'), Or.inl ⟨rfl, Or.inr hB⟩⟩
          · refine ⟨1, if_neg (by omega), Or.inr ⟨rfl, fun w => ?_⟩⟩
            rcases w with w | w
            · exact hA w
            · exact hB w
      obtain ⟨v2, e2, q2⟩ : ∃ v2 : Int, (gd (rg (if v = -1 then (0 : Int) else 1)) (gd (¬ ((if v = -1 then (0 : Int) else 1) = 0) → rg f2) (if ((if v = -1 then (0 : Int) else 1) = 0) ∨ (f2 = 0) then (some 0) else (some 1)))) = some v2 ∧ Gd v2 (A2 ∨ KOf I n M E f (-1)) := by
        rw [gd_pos (by split <;> omega), gd_pos (by exact fun _ => g2.rgv.1)]
        by_cases q : v = -1
        · rw [if_pos q]
          exact ⟨0, if_pos (Or.inl rfl), Or.inl ⟨rfl, Or.inr (by rw [← q]; exact w4)⟩⟩
        · rw [if_neg q]
          rcases g2 with ⟨e, hA⟩ | ⟨e, hA⟩
          · exact ⟨0, if_pos (Or.inr e), Or.inl ⟨rfl, Or.inl hA⟩⟩
          · refine ⟨1, if_neg (by omega), Or.inr ⟨rfl, fun w => ?_⟩⟩
            rcases w with w | w
            · exact hA w
            · exact q (KOf.u hu w4 w)
      have inj : ∀ (x : Nat) (g : TyF), j + 1 ≤ x → F[x]? = some g → f.1 ≠ g.1 := fun x g hx hg e => by
        have p := List.pairwise_iff_getElem.mp hnd
        have b1 : F[j]'(gq_lt hf) = f := (List.getElem?_eq_some_iff.mp hf).2
        have b2 : F[x]'(gq_lt hg) = g := (List.getElem?_eq_some_iff.mp hg).2
        have := p j x (by rw [List.length_map]; exact gq_lt hf) (by rw [List.length_map]; exact gq_lt hg) (by omega)
        rw [List.getElem_map, List.getElem_map, b1, b2] at this
        exact this e
      obtain ⟨r1, r2, σ', u1, u2, u3, u4, u5, u6⟩ := fault_L18 hu hn hnd c N1 (j + 1) v1 v2 _ _ σ1 (h.rx w2) q1 q2 (by omega) (by omega) (fun x g hx hg => by
        have ne := inj x g hx hg
        have := (w3 g.1 (fun e => ne e.symm)).2
        rw [this, this]
        exact hno x g (by omega) hg)
      refine ⟨r1, r2, σ', fun bb => ?_, w2.tr u2, u3.cg ?_, u4.cg ?_, fun x g hx hg => ?_, fun a ha => ?_⟩
      · rw [ck_fault_L18, gd_pos k1, k2, bind_some', gd_pos d2, l1, bind_some', gd_pos l4, l_sz l4, bind_some', l5, gd_pos (by omega), gd_pos (by omega), if_neg (by omega), e1, bind_some', eg, bind_some', bind_some', gd_pos f9, w1 bb, bind_some']
        dsimp only
        rw [e2, bind_some', show (j : Int) + 1 = ((j + 1 : Nat) : Int) by omega]
        exact u1 bb
      · have st := ex_st (A := A1) (H := fun x => ∃ f, F[x]? = some f ∧ BNf F R f) (show j < F.length by omega)
        rw [← st]
        have e : BNf F R f ↔ ∃ f, F[j]? = some f ∧ BNf F R f := by
          constructor
          · intro q; exact ⟨f, hf, q⟩
          · intro ⟨g, b1, b2⟩
            rw [hf] at b1
            have e := Option.some.inj b1
            subst e
            exact b2
        rw [← e]
      · have st := ex_st (A := A2) (H := fun x => ∃ f, F[x]? = some f ∧ KOf I n M E f (-1)) (show j < F.length by omega)
        rw [← st]
        have e : KOf I n M E f (-1) ↔ ∃ f, F[j]? = some f ∧ KOf I n M E f (-1) := by
          constructor
          · intro q; exact ⟨f, hf, q⟩
          · intro ⟨g, b1, b2⟩
            rw [hf] at b1
            have e := Option.some.inj b1
            subst e
            exact b2
        rw [← e]
      · by_cases ex : x = j
        · subst ex
          rw [hf] at hg
          have e := Option.some.inj hg
          subst e
          refine ⟨v, w4, ?_⟩
          have k := u6 f.1 inj
          unfold KFs at w5 ⊢
          rw [k.1, k.2, k.2]; exact w5
        · exact u5 x g (by omega) hg
      · have k := u6 a (fun x g hx hg => ha x g (by omega) hg)
        have k' := w3 a (ha j f (Nat.le_refl _) hf)
        exact ⟨k.1.trans k'.1, fun q => (k.2 q).trans (k'.2 q)⟩
end Sf
