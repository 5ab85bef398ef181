set_option maxRecDepth 100000
/-! JSON: a member of an object, as the system reads it -/
section Fj
variable {z z1 : Nat} {S : SC} {fa ma ea : Nat → Nat} {od : Nat → List Nat} {a b ra wa v m : Nat} {I : Nat → Nat} {n d : Nat} {rec : Nat × Nat → Option Nat → Option Nat → Int → ST → Option (Option (Option Nat) × ST)} {dp : Int} {sp : Nat → Nat → Option (Nat × TV d)} {p : Nat} {σ : ST} {T : TV (d + 1)}
set_option maxHeartbeats 4000000 in
theorem jr_field_eq (h : HY z z1 S fa ma ea od a b ra wa I n d rec dp sp) (hW : WV z z1 S fa ma ea od a b ra wa I n v m d σ p T) (hp : p ≤ n) (hm : m < S.1) (hlen : (t1 T).length < 1000) {bt : Nat} {seen : List Nat} (hSP : SP (od m) bt seen) : Rn (·.2) σ (fun bb => jr_field bb (rec bb) a (some v) (lN bt) dp σ) (FLO (d := d) z z1 S fa ma ea od a b ra wa I n v m σ p T seen (mem1 S I n sp m p seen T)) := by
  have hn := hW.2.1.2.2.2.2.2.1
  have b1 := bl_ge' I n p
  have b2 := bl_le' I n p
  have hv11 : sc σ v = 11 := hW.2.2.choose_spec.1.1
  have h160 : sR σ 160 v = some (ma m) := hW.2.2.choose_spec.1.2.2.2.1
  have hS := h.1
  have hza := h.2.2.1
  have hz1 := h.2.2.2.1
  unfold jr_field mem1
  refine Rn_eq (fun bb => by rw [bind_some', gd_pos hv11, gd_pos hW.2.1.1]) ?_
  have hst := hW.2.1.string
  rw [show strT I n p = strX I n (bl I n p) from rfl] at hst
  refine Rn_tB hst (fun σ' _ hy => ⟨rfl, ?_⟩) (fun y Y _ hy => ?_)
  · obtain ⟨e0, g0⟩ := hy.thr
    rw [e0]
    exact ⟨σ', rfl, (JG.toK (g0.toG0 (wa := wa))).mono (by omega) (by omega)⟩
  · obtain ⟨e, e0, ey, hJY, hw, g0, gN⟩ := hy.suc
    subst ey
    have hb := strX_bd e0
    have hbl := strX_len e0
    have hsg := sg_or (e.1 - bl I n p)
    rw [e0]
    have hWY := hW.jg hS hza hz1 (g0.toG0 (wa := wa)) hJY
    have KY : JK σ Y z1 a ra wa (sg (e.1 - bl I n p)) 0 := JG.toK (g0.tok (wa := wa) gN (by omega))
    have hmm := hWY.1.2.2.2.1 m hm
    have b3 := bl_ge' I n e.1
    have b4 := bl_le' I n e.1
    refine Rn_pure h160 (Rn_gd hmm.2.1 (Rn_pure (mt_byName_eq hS hWY.1 hJY.rw.1 hw hm) ?_))
    show Rn _ _ _ (FLO (d := d) z z1 S fa ma ea od a b ra wa I n v m σ p T seen ((byN S m e.2).bind fun f => if f ∈ seen ∨ lk I n (bl I n e.1) ≠ 58 then none else (if lit I n (bl I n (bl I n e.1 + 1)) 5 then some (bl I n (bl I n e.1 + 1) + slen 5, T) else if hasO S T f = true then none else (itmS S I n sp f (bl I n (bl I n e.1 + 1))).map fun q => (q.1, q.2.foldl (put S) T)).bind fun e => some (f, e.1, e.2)))
    have hbn := byN_ok S m e.2
    have thr0 : ∃ σ1, ((none : Option Int64), nX Y) = (none, σ1) ∧ JK σ σ1 z1 a ra wa (8 * (n + 1 - p) + 10000) (5 * (n + 1 - p) + 400) := ⟨_, rfl, (KY.tr (JK.nX Y)).mono (by omega) (by omega)⟩
    cases eb : byN S m e.2 with
    | none =>
      refine Rn_eq (fun bb => by rw [gd_pos (by exact fun w => w), gd_pos (by exact fun w => absurd rfl w), if_pos (Or.inl (show Option.map fa none = none from rfl)), bind_some']) ?_
      exact Rn_must (Or.inl rfl) (fun _ => ⟨rfl, thr0⟩) (fun w => by cases w)
    | some f =>
      rw [eb] at hbn
      have hf : f < nF_ S := hbn.1
      have hne : 3 ≤ e.1 - bl I n p := by
        have nn : e.2 ≠ [] := by
          rcases hbn.2.2 with w | w
          · rw [← w]; exact (h.2.2.2.2.2.2.2.2 f hf).1
          · rw [← w.1]; exact (h.2.2.2.2.2.2.2.2 f hf).2
        have : 0 < e.2.length := List.length_pos_iff.mpr nn
        omega
      have hfm : qm S f = m := hbn.2.1
      obtain ⟨k1, k2, k3, k4, k5, k6, k7, k8, k9, k10, k11, k12, j, j1, j2, j3⟩ := hWY.1.2.1 f hf
      rw [hfm] at j2 j3
      have h50 := hmm.2.2.2.2.1
      have hbz := bit64z (b := bt) (k := j) (x := (j : Int)) (by have := hSP.1; omega) (by omega) rfl
      have hbs := hSP.2 j j2
      rw [j3] at hbs
      show Rn _ _ _ (FLO (d := d) z z1 S fa ma ea od a b ra wa I n v m σ p T seen (if f ∈ seen ∨ lk I n (bl I n e.1) ≠ 58 then none else _))
      refine Rn_eq (fun bb => by rw [show (Option.map fa (some f)) = some (fa f) from rfl, gd_pos (by exact fun w => w), show ad (some (fa f)) = fa f from rfl, gd_pos (by exact fun _ => k2), j1]) ?_
      by_cases cs : f ∈ seen
      · rw [if_pos (Or.inl cs)]
        refine Rn_eq (fun bb => by rw [if_pos (Or.inr (fun w => (hbz.mp w) (hbs.mpr cs))), bind_some']) ?_
        exact Rn_must (Or.inl rfl) (fun _ => ⟨rfl, thr0⟩) (fun w => by cases w)
      · refine Rn_eq (fun bb => by rw [if_neg (by
          rintro (w | w)
          · cases w
          · exact w (hbz.mpr (fun u => cs (hbs.mp u)))), bind_some']) ?_
        refine Rn_must (Or.inr rfl) (fun w => by cases w) (fun _ => ?_)
        have ex28 : lN bt ||| lShl 1 (j : Int) = lN (bt ||| 2 ^ j) := by
          rw [lShl_1 (by omega) rfl, lN_or (by have := hSP.1; show _ < 18446744073709551616; omega) (by
            have : 2 ^ j < 2 ^ 50 := Nat.pow_lt_pow_right (by decide) (by omega)
            show _ < 18446744073709551616; omega)]
        have hSP2 : SP (od m) (bt ||| 2 ^ j) (f :: seen) := by
          have := hSP.add (S := S) j2 h50 hmm.2.2.2.2.2.2
          rw [j3] at this
          exact this
        refine Rn_eq (fun bb => by rw [bind_some', gd_pos k2, j1, ex28, nm_eq, gd_pos hJY.1]) ?_
        refine Rn_tB (hJY.sign (c := 58) (by omega) (by omega)) (fun σ' _ hJ => ⟨rfl, ?_⟩) (fun y σ' _ hJ => ?_)
        · by_cases q : lk I n (bl I n e.1) = 58
          · rw [if_pos q] at hJ; cases hJ
          · rw [if_neg q] at hJ
            cases hJ
            rw [if_pos (Or.inr q)]
            exact ⟨_, rfl, (KY.tr ((JK.at (z1 := z1) Y _).tr (JK.nX _))).mono (by omega) (by omega)⟩
        · by_cases q : lk I n (bl I n e.1) = 58
          · rw [if_pos q] at hJ
            have e2 : σ' = pI Y 210 a ((bl I n e.1 + 1 : Nat) : Int) := congrArg Prod.snd hJ
            subst e2
            have l58 := lk_ne q (by decide)
            rw [if_neg (fun w => w.elim cs (fun u => u q))]
            have hJ2 := hJY.to (q := bl I n e.1 + 1) (by omega) rfl
            have b5 := bl_ge' I n (bl I n e.1 + 1)
            have b6 := bl_le' I n (bl I n e.1 + 1)
            have s5 : slen 5 = 4 := by decide +kernel
            refine Rn_gd hJ2.1 ?_
            refine Rn_eq (fun bb => by rw [hJ2.word bb (s := 5) (by omega), pI_pI, pI_pI, bind_some']) ?_
            obtain ⟨q', hq'⟩ : ∃ q', q' = bl I n (bl I n e.1 + 1) := ⟨_, rfl⟩
            rw [← hq'] at b5 b6 ⊢
            have hbq : bl I n q' = q' := by rw [hq', bl_bl]
            refine Rn_le (σ1 := Y) ⟨Nat.le_refl _, Nat.le_refl _, Nat.le_refl _⟩ ?_
            by_cases cl : lit I n q' 5
            · have li := lit_in (by omega) cl
              rw [if_pos cl, if_pos cl]
              refine Rn_eq (fun bb => by rw [gd_pos (show rg ((1 : Int), pI Y 210 a ((q' + slen 5 : Nat) : Int)).1 by show rg 1; omega), if_neg (show ¬ ((1 : Int), pI Y 210 a ((q' + slen 5 : Nat) : Int)).1 = 0 by show ¬ (1 : Int) = 0; omega)]) ?_
              exact Rn_some ⟨Nat.le_refl _, Nat.le_refl _, Nat.le_refl _⟩ ⟨_, _, sg (e.1 - bl I n p), rfl, hSP2, hWY.at hS hza hz1 (by omega), (KY.tr (JK.at (z1 := z1) Y _)).mono (by omega) (by omega), ⟨by show sg (e.1 - bl I n p) + dM S (d + 1) T ≤ 8 * (q' + slen 5 - p) + 8 + dM S (d + 1) T; omega, by show sg (e.1 - bl I n p) ≤ 8 * (q' + slen 5 - p); omega⟩, by show p ≤ q' + slen 5; omega, by show q' + slen 5 ≤ n; omega⟩
            · rw [if_neg cl, if_neg cl]
              obtain ⟨X, hX⟩ : ∃ X, X = pI Y 210 a ((q' : Nat) : Int) := ⟨_, rfl⟩
              have hWX : WV z z1 S fa ma ea od a b ra wa I n v m d X q' T := by rw [hX]; exact hWY.at hS hza hz1 (by omega)
              have KX : JK σ X z1 a ra wa (sg (e.1 - bl I n p)) 0 := by rw [hX]; exact KY.tr (JK.at Y _)
              have xv : sc X v = 11 := hWX.2.2.choose_spec.1.1
              have eoth := vlu_hasOther_eq hS hWX.1 hf hWX.2.2.choose_spec.1 hlen
              refine Rn_eq (fun bb => by rw [← hX, gd_pos (show rg ((0 : Int), X).1 by show rg 0; omega), if_pos (show ((0 : Int), X).1 = 0 from rfl), gd_pos (show sc ((0 : Int), X).2 v = 11 from xv), show vlu_hasOther v (some (fa f)) ((0 : Int), X).2 = _ from eoth, bind_some']) ?_
              refine Rn_le (σ1 := X) (by rw [hX]; exact ⟨Nat.le_refl _, Nat.le_refl _, Nat.le_refl _⟩) ?_
              by_cases ch : hasO S T f = true
              · rw [if_pos ch, if_pos ch]
                refine Rn_eq (fun bb => by rw [gd_pos (by omega), if_neg (by omega), bind_some']) ?_
                exact Rn_must (Or.inl rfl) (fun _ => ⟨rfl, _, rfl, (KX.tr (JK.nX X)).mono (by omega) (by omega)⟩) (fun w => by cases w)
              · rw [if_neg ch, if_neg ch]
                refine Rn_eq (fun bb => by rw [gd_pos (by omega), if_pos rfl, bind_some']) ?_
                refine Rn_must (Or.inr rfl) (fun w => by cases w) (fun _ => ?_)
                have x9 : sc X (fa f) = 9 := (hWX.1.2.1 f hf).2.1
                have x135 : sI X 135 (fa f) = qr S f := (hWX.1.2.1 f hf).2.2.2.2.2.2.2.2.1
                have r01 := (hS.2.2.2.2.1 f hf).2.2.2.2.2.2.1
                refine Rn_gd x9 (Rn_gd (by rw [x135]; omega) ?_)
                refine (itm_eq h hWX (by omega) hbq hlen hf (lN (bt ||| 2 ^ j))).mono (fun r _ hr => ?_)
                cases ei : itmS S I n sp f q' with
                | none =>
                  rw [ei] at hr
                  obtain ⟨σ', e3, K⟩ := hr
                  exact ⟨σ', e3, (KX.tr K).mono (by omega) (by omega)⟩
                | some x =>
                  rw [ei] at hr
                  obtain ⟨σ', ci, e3, hW', K, ⟨gc1, gc2⟩, hb1, hb2⟩ := hr
                  exact ⟨σ', _, sg (e.1 - bl I n p) + ci, e3, hSP2, hW', (KX.tr K).mono (Nat.le_refl _) (by show 0 + 5 * (x.1 - q') ≤ 5 * (x.1 - p); omega), ⟨by show sg (e.1 - bl I n p) + ci + dM S (d + 1) (x.2.foldl (put S) T) ≤ 8 * (x.1 - p) + 8 + dM S (d + 1) T; omega, by show sg (e.1 - bl I n p) + ci ≤ 8 * (x.1 - p); omega⟩, by show p ≤ x.1; omega, hb2⟩
          · rw [if_neg q] at hJ; cases hJ
end Fj
