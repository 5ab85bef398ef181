set_option maxRecDepth 100000
/-! JSON: a row, as the system reads it -/
def ITO (z z1 : Nat) (S : SC) (fa ma ea : Nat → Nat) (od : Nat → List Nat) (a b ra wa : Nat) (I : Nat → Nat) (n v m d : Nat) (σ : ST) (p : Nat) (T : TV (d + 1)) (ex : Nat) (o : Option (Nat × List (SV d))) (r : Option Unit × ST) : Prop := match o with
  | some e => ∃ σ' c, r = (some (), σ') ∧ WV z z1 S fa ma ea od a b ra wa I n v m d σ' e.1 (e.2.foldl (put S) T) ∧ JK σ σ' z1 a ra wa c (5 * (e.1 - p)) ∧ c + dL S e.2 + ex ≤ 8 * (e.1 - p) + 8 ∧ p ≤ e.1 ∧ e.1 ≤ n
  | none => ∃ σ', r = (none, σ') ∧ JK σ σ' z1 a ra wa (8 * (n + 1 - p) + 10005) (5 * (n + 1 - p) + 405)
section Rr
variable {z z1 : Nat} {S : SC} {fa ma ea : Nat → Nat} {od : Nat → List Nat} {a b ra wa v m : Nat} {I : Nat → Nat} {n d : Nat} {rec : Nat × Nat → Option Nat → Option Nat → Int → ST → Option (Option (Option Nat) × ST)} {dp : Int} {sp : Nat → Nat → Option (Nat × TV d)} {c k c' k' p : Nat} {σ σ1 σ2 : ST} {T : TV (d + 1)}
theorem JK.nX (σ : ST) : JK σ (nX σ) z1 a ra wa 6 1 := JG.toK ((JF.nX σ a ra).toG (wa := wa) (Nat.le_max_left _ _))
theorem jr_row_eq (h : HY z z1 S fa ma ea od a b ra wa I n d rec dp sp) (hW : WV z z1 S fa ma ea od a b ra wa I n v m d σ p T) (hp : p ≤ n) (hlen : (t1 T).length < 1000) {f : Nat} (hf : f < nF_ S) (hr : qr S f = 1) : Rn (·.2) σ (fun bb => jr_row bb (rec bb) a (some (fa f)) (some v) dp σ) (ITO z z1 S fa ma ea od a b ra wa I n v m d σ p T 16 (arrS S I n sp f (bl I n p))) := by
  have hn := hW.2.1.2.2.2.2.2.1
  have b1 := bl_ge' I n p
  have b2 := bl_le' I n p
  unfold jr_row arrS
  refine Rn_gd hW.2.1.1 ?_
  refine Rn_tB (hW.2.1.sign (c := 91) (by omega) (by omega)) (fun σ' _ hJ => ⟨rfl, ?_⟩) (fun y σ' _ hJ => ?_)
  · by_cases q : lk I n (bl I n p) = 91
    · rw [if_pos q] at hJ; cases hJ
    · rw [if_neg q] at hJ
      cases hJ
      rw [if_neg q]
      exact ⟨_, rfl, ((JK.at (z1 := z1) σ _).tr (JK.nX _)).mono (by omega) (by omega)⟩
  · by_cases q : lk I n (bl I n p) = 91
    · rw [if_pos q] at hJ
      have e2 : σ' = pI σ 210 a ((bl I n p + 1 : Nat) : Int) := congrArg Prod.snd hJ
      subst e2
      have l91 := lk_ne q (by decide)
      have hW1 := hW.at h.1 h.2.2.1 h.2.2.2.1 (q := bl I n p + 1) (by omega)
      have b3 := bl_ge' I n (bl I n p + 1)
      have b4 := bl_le' I n (bl I n p + 1)
      rw [if_pos q]
      refine Rn_gd hW1.2.1.1 ?_
      refine Rn_eq (fun bb => by rw [hW1.2.1.passes bb (c := 93) (by omega), pI_pI, pI_pI, bind_some']) ?_
      by_cases q2 : lk I n (bl I n (bl I n p + 1)) = 93
      · have l93 := lk_ne q2 (by decide)
        rw [if_pos q2, if_pos q2]
        refine Rn_eq (fun bb => by rw [gd_pos (show rg ((1 : Int), pI σ 210 a ((bl I n (bl I n p + 1) + 1 : Nat) : Int)).1 by show rg 1; omega), if_neg (show ¬ ((1 : Int), pI σ 210 a ((bl I n (bl I n p + 1) + 1 : Nat) : Int)).1 = 0 by show ¬ (1 : Int) = 0; omega)]) ?_
        exact Rn_some ⟨Nat.le_refl _, Nat.le_refl _, Nat.le_refl _⟩ ⟨_, 0, rfl, hW.at h.1 h.2.2.1 h.2.2.2.1 (by omega), (JK.at (z1 := z1) σ _).mono (by omega) (by omega), by show 0 + 0 + 16 ≤ 8 * (bl I n (bl I n p + 1) + 1 - p) + 8; omega, by show p ≤ bl I n (bl I n p + 1) + 1; omega, by show bl I n (bl I n p + 1) + 1 ≤ n; omega⟩
      · rw [if_neg q2, if_neg q2]
        obtain ⟨X, hX⟩ : ∃ X, X = pI σ 210 a ((bl I n (bl I n p + 1) : Nat) : Int) := ⟨_, rfl⟩
        have hWX : WV z z1 S fa ma ea od a b ra wa I n v m d X (bl I n (bl I n p + 1)) T := by rw [hX]; exact hW.at h.1 h.2.2.1 h.2.2.2.1 (by omega)
        have KX : JK σ X z1 a ra wa 0 0 := by rw [hX]; exact JK.at σ _
        refine Rn_eq (fun bb => by rw [← hX, gd_pos (show rg ((0 : Int), X).1 by show rg 0; omega), if_pos (show ((0 : Int), X).1 = 0 from rfl)]) ?_
        refine Rn_le (σ1 := X) (by rw [hX]; exact ⟨Nat.le_refl _, Nat.le_refl _, Nat.le_refl _⟩) ?_
        have eA : arrL S I n sp f (n + 1) (bl I n p + 1) [] = arrL S I n sp f (n + 1) (bl I n (bl I n p + 1)) [] := by rw [arrL, arrL, bl_bl]
        rw [eA, arrL_Q]
        refine Rn_bind (su := stR) (row_L h hf hr (n + 1) FU (bl I n (bl I n p + 1)) [] T X hWX (by omega) (by omega) (FU_gt (by omega)) hlen) (fun y _ hy => ?_)
        cases eq1 : arrQ S I n sp f (n + 1) (bl I n (bl I n p + 1)) [] with
        | none =>
          rw [eq1] at hy
          obtain ⟨σ', e1, K⟩ := hy
          subst e1
          exact Rn_eq (fun bb => by rw [elim_l]) (Rn_some (Le.refl _) ⟨σ', rfl, (KX.tr K).mono (by omega) (by omega)⟩)
        | some x =>
          rw [eq1] at hy
          obtain ⟨Y, ss, cr, e1, e3, hWY, K, gc, hb1, hb2⟩ := hy
          subst e1
          rw [List.nil_append] at e3
          show Rn _ _ _ (ITO z z1 S fa ma ea od a b ra wa I n v m d σ p T 16 (if lk I n x.1 = 93 then some (x.1 + 1, x.2) else none))
          refine Rn_eq (fun bb => by rw [elim_r]) ?_
          refine Rn_le (σ1 := Y) (Le.refl _) ?_
          refine Rn_gd hWY.2.1.1 ?_
          have hbx : bl I n x.1 = x.1 := by
            have : ∀ (c p : Nat) (acc : List (SV d)) (x : Nat × List (SV d)), arrQ S I n sp f c p acc = some x → bl I n x.1 = x.1 := by
              intro c
              induction c with
              | zero => intro p acc x w; cases w
              | succ c ih =>
                intro p acc x w
                rw [arrQ] at w
                cases ev : valS S I n sp f (bl I n p) with
                | none => rw [ev] at w; cases w
                | some r =>
                  rw [ev] at w
                  change (if lk I n (bl I n r.1) = 44 then arrQ S I n sp f c (bl I n r.1 + 1) (acc ++ [r.2]) else some (bl I n r.1, acc ++ [r.2])) = some x at w
                  split at w
                  · exact ih _ _ _ w
                  · cases w; exact bl_bl I n r.1
            exact this _ _ _ _ eq1
          have hsg := hWY.2.1.sign (c := 93) (by omega) (by omega)
          rw [hbx] at hsg
          refine Rn_tB hsg (fun σ' _ hJ => ⟨rfl, ?_⟩) (fun y σ' _ hJ => ?_)
          · by_cases q3 : lk I n x.1 = 93
            · rw [if_pos q3] at hJ; cases hJ
            · rw [if_neg q3] at hJ
              cases hJ
              rw [if_neg q3]
              exact ⟨_, rfl, ((KX.tr K).tr ((JK.at (z1 := z1) Y _).tr (JK.nX _))).mono (by omega) (by omega)⟩
          · by_cases q3 : lk I n x.1 = 93
            · rw [if_pos q3] at hJ
              have e4 : σ' = pI Y 210 a ((x.1 + 1 : Nat) : Int) := congrArg Prod.snd hJ
              subst e4
              have l93 := lk_ne q3 (by decide)
              rw [if_pos q3]
              refine Rn_some (Le.refl _) ⟨_, cr, rfl, ?_, ((KX.tr K).tr (JK.at (z1 := z1) Y _)).mono (by omega) (by show 0 + 5 * (x.1 - bl I n (bl I n p + 1)) + 0 ≤ 5 * (x.1 + 1 - p); omega), by show cr + dL S x.2 + 16 ≤ 8 * (x.1 + 1 - p) + 8; rw [e3]; omega, by show p ≤ x.1 + 1; omega, by show x.1 + 1 ≤ n; omega⟩
              show WV z z1 S fa ma ea od a b ra wa I n v m d _ (x.1 + 1) (x.2.foldl (put S) T)
              rw [e3]
              exact hWY.at h.1 h.2.2.1 h.2.2.2.1 (by omega)
            · rw [if_neg q3] at hJ; cases hJ
    · rw [if_neg q] at hJ; cases hJ
end Rr
