set_option maxRecDepth 100000
/-! SCHEMAS, READ: the values of an enum, on both sides -/
section Sh
variable {y n a b K sd root s0 c0 : Nat} {I : Nat → Nat} {M : List TyM} {E : List TyE} {F : List TyF} {O : List TyO} {R : List TyR}
theorem enum_loop (hG : GR I n K a b y) {e x t s : Nat} {p : Int} (he : E[e]? = some (x, t, p)) (hel : e + 1 = E.length) (hs : scA M root p = some s) : ∀ (N1 N2 c i : Nat) (V : List TyV) (N : List TyN) (σ : ST) (τ : TT), K - i ≤ c → PG I n K a b y sd root s0 c0 i i M E V F O R N σ τ → c + 1 < N1 → c + 1 < N2 →
    Rn (Sum.elim (fun r : Option Unit × ST => r.2) id) σ (fun bb => sr_enumeration_L91 bb a (some s) x N1 σ) (fun r => (∃ σ', r = Sum.inl (none, σ') ∧ FL y s0 c0 σ σ' ∧ MB τ (m_readEnum_L80 (e : Int) N2 τ)) ∨ ∃ σ' τ' V' N' i', r = Sum.inr σ' ∧ m_readEnum_L80 (e : Int) N2 τ = some τ' ∧ sgn I n i' 125 ∧ i < i' ∧ FY y σ σ' ∧ TF KP τ τ' ∧ PG I n K a b y sd root s0 c0 i' (i' + 1) M E V' F O R N' σ' τ')
  | 0, N2, c, i, V, N, σ, τ, _, _, h, _ => by omega
  | N1 + 1, 0, c, i, V, N, σ, τ, _, _, _, h => by omega
  | N1 + 1, N2 + 1, c, i, V, N, σ, τ, hc, hP, f1, f2 => by
    obtain ⟨hm, ht, hst, h86, hy, hw, ⟨ob, L, H, Q, B⟩, hcn, hS, hC⟩ := hP
    have om := Om_le hG hw hm.2.2.2.1
    obtain ⟨hD, hI, hn, hya, hby⟩ := id hG
    have hi : i ≤ K := hm.2.2.2.1
    have hKn := hD.1
    have a6 : sc σ a = 6 := hst.1.1
    have haz : a < sZ σ := hst.1.2.2.2.2.2.2.2.2.2.1
    have d2 : sc σ sd = 2 := B.1.2.2.1
    have hsd := H.1 sd B.1.1
    have v40 := hw.1.2.2.1
    have e37 : tI τ 37 = (V.length : Int) := ht.1.2.2.1
    have REF := m_val_eq hD hm (e := e) (N := N2) e37 v40
    refine Rn_eq (fun bb => by rw [sr_enumeration_L91, gd_pos a6, h86, bind_some', gd_pos d2, hcn.1, gd_pos (by omega)]) ?_
    by_cases q0 : V.length = 40
    · refine Rn_eq (fun bb => by rw [if_pos (show (40 : Int) ≤ (V.length : Int) by omega), bind_some']) ?_
      exact Rn_srm0 rfl (Or.inl ⟨_, rfl, FL.make (FY.refl _ _) (by omega) (by omega), REF.2 (Or.inr q0)⟩)
    refine Rn_eq (fun bb => by rw [if_neg (show ¬ (40 : Int) ≤ (V.length : Int) by omega), bind_some', sr_must1, bind_some', tB_some, gd_pos a6, h86, bind_some', gd_pos d2, nm_eq, hcn.1]) ?_
    obtain ⟨σ1, hσ1⟩ : ∃ X, X = pI σ 20 sd ((V.length : Int) + 1) := ⟨_, rfl⟩
    rw [← hσ1]
    have F1 : FR (fun x => x = sd) σ σ1 := by rw [hσ1]; exact FR.at1 (at_pI σ 20 sd _) rfl
    have ne1 := hst.ne d2 (by decide) (by decide)
    have st1 : STk σ1 a b I n (tkn I n i) := hst.fr F1 ne1.1 ne1.2
    have H1 : HVw y σ1 ob L := by rw [hσ1]; exact H.setI 20 sd _
    have B1 : OBS y σ1 I n ob L sd root M E V F O N := B.kp (fun x hx => (H.1 x hx).2) (by rw [hσ1]; exact Kp.setI σ (by decide) sd _)
    have z1 : sZ σ1 = sZ σ := by rw [hσ1]; rfl
    have s1 : sS σ1 = sS σ := by rw [hσ1]; rfl
    have c1 : sC σ1 = sC σ := by rw [hσ1]; rfl
    have r1 : sR σ1 86 a = some sd := by rw [hσ1]; exact h86
    have Y1 : FY y σ σ1 := F1.fy hsd.1
    have N1' : CNT σ1 sd M (V ++ [(sZ σ1, i, tkN I (tkn I n (i + 2)), e)]) O R := by
      obtain ⟨k1, k2, k3, k4⟩ := hcn
      refine ⟨by rw [hσ1, sI_pI, if_pos ⟨rfl, rfl⟩, List.length_append]; rfl, by rw [hσ1, sI_pI, if_neg (by omega)]; exact k2, by rw [hσ1, sI_pI, if_neg (by omega)]; exact k3, fun j m hm => by rw [hσ1, sI_pI, if_neg (by omega)]; exact k4 j m hm⟩
    refine Rn_le F1.1 ?_
    refine Rn_eq (fun bb => by rw [gd_pos st1.1.1]) ?_
    refine Rn_tB (sr_name_eq hI st1) (fun σ' _ hj => ?_) (fun rr σ2 _ hj => ?_)
    · rcases hj with ⟨-, q, -⟩ | ⟨qk, q⟩
      · cases q
      · have eσ : σ' = nX σ1 := congrArg Prod.snd q
        subst eσ
        exact ⟨rfl, Or.inl ⟨_, rfl, FL.make Y1 (by omega) (by omega), REF.2 (Or.inl (fun w => qk w.1))⟩⟩
    rcases hj with ⟨qk, qr, st2, F2, z2, rc2, rw2, s2, c2, r2⟩ | ⟨-, q⟩
    case inr => cases q
    have er : rr = some (sZ σ1) := Option.some.inj qr
    subst er
    dsimp only at st2 F2 z2 rc2 rw2 s2 c2 r2
    have G2 : FR6 σ1 σ2 := FR.f6 F2 st1.1.1
    have wl := word_len qk
    have Y2 : FY y σ σ2 := Y1.tr (FR.fy F2 hya)
    have b0 := tkn_bd I n i
    have b1 := tkn_bd I n (i + 1)
    have b2 := tkn_bd I n (i + 2)
    have b3 := tkn_bd I n (i + 3)
    have m0 : (tkn I n i).2.2 ≤ (tkn I n (i + 1)).2.1 := tkn_mono I n i
    have m1 : (tkn I n (i + 1)).2.2 ≤ (tkn I n (i + 2)).2.1 := tkn_mono I n (i + 1)
    have m2 : (tkn I n (i + 2)).2.2 ≤ (tkn I n (i + 3)).2.1 := tkn_mono I n (i + 2)
    have m3 : (tkn I n (i + 3)).2.2 ≤ (tkn I n (i + 4)).2.1 := tkn_mono I n (i + 3)
    have H2 := H1.fr G2
    have B2 := B1.kp (fun x hx => (H1.1 x hx).2) G2.kp
    have N2' := N1'.fr H1 B1 G2
    have r86 : sR σ2 86 a = some sd := by rw [r2]; exact r1
    refine Rn_eq (fun bb => by rw [gd_pos st2.1.1]) ?_
    refine Rn_tB (sr_sign_eq hI st2 (x := 61) (by omega)) (fun σ' _ hj => ?_) (fun _ σ3 _ hj => ?_)
    · rcases hj with ⟨-, q, -⟩ | ⟨qk, q⟩
      · cases q
      · have eσ : σ' = nX σ2 := congrArg Prod.snd q
        subst eσ
        exact ⟨rfl, Or.inl ⟨_, rfl, FL.make Y2 (by omega) (by omega), REF.2 (Or.inl (fun w => qk w.2.1))⟩⟩
    rcases hj with ⟨qk2, -, st3, J3⟩ | ⟨-, q⟩
    case inr => cases q
    dsimp only at st3 J3
    have G3 : FR6 σ2 σ3 := J3.f6 st2.1.1
    have Y3 : FY y σ σ3 := Y2.tr (FR.fy J3.1 hya)
    have H3 := H2.fr G3
    have B3 := B2.kp (fun x hx => (H2.1 x hx).2) G3.kp
    have N3' := N2'.fr H2 B2 G3
    have r87 : sR σ3 86 a = some sd := by rw [J3.2.2.2.2]; exact r86
    obtain ⟨bx, bx8, -⟩ := B3.2.2.1 e (x, t, p) he
    have bx : ob x := bx
    have bx8 : sc σ3 x = 8 := bx8
    obtain ⟨la, la1, la2, la3, la4, la5, -⟩ := H3.get (k := 114) bx (by decide) bx8
    obtain ⟨lb, lb1, lb2, lb3, lb4, -, lb5⟩ := H3.get (k := 115) bx (by decide) bx8
    have la4 : sc σ3 la = 16 := la4
    have lb4 : sc σ3 lb = 102 := lb4
    have la5 := la5 rfl
    have lb5 := lb5 rfl
    have qV := Q.2.2.2 e (x, t, p) he
    have qV1 : L 114 x = (V.filter (fun v => decide (v.2.2.2 = e))).map (fun v => v.1) := qV.1
    have qV2 : L 115 x = (V.filter (fun v => decide (v.2.2.2 = e))).map (fun v => v.2.2.1) := qV.2
    have eLen : (L 114 x).length = (L 115 x).length := by rw [qV1, qV2, List.length_map, List.length_map]
    have lLen : (L 115 x).length ≤ V.length := by rw [qV2, List.length_map]; exact List.length_filter_le _ _
    refine Rn_eq (fun bb => by rw [gd_pos bx8, la1, bind_some', gd_pos la4, l_sz la4, bind_some', gd_pos st3.1.1]) ?_
    refine Rn_tB (sr_number_eq hI st3) (fun σ' _ hj => ?_) (fun num σ4 _ hj => ?_)
    · rcases hj with ⟨-, q, -⟩ | ⟨qk, q⟩
      · cases q
      · have eσ : σ' = nX σ3 := congrArg Prod.snd q
        subst eσ
        have := J3.2
        exact ⟨rfl, Or.inl ⟨_, rfl, FL.make Y3 (by omega) (by omega), REF.2 (Or.inl (fun w => qk w.2.2.1))⟩⟩
    rcases hj with ⟨qk3, qn, st4, J4⟩ | ⟨-, q⟩
    case inr => cases q
    have en : num = (tkN I (tkn I n (i + 2)) : Int) := Option.some.inj qn
    subst en
    dsimp only at st4 J4
    have G4 : FR6 σ3 σ4 := J4.f6 st3.1.1
    have Y4 : FY y σ σ4 := Y3.tr (FR.fy J4.1 hya)
    have H4 := H3.fr G4
    have B4 := B3.kp (fun x hx => (H3.1 x hx).2) G4.kp
    have N4' := N3'.fr H3 B3 G4
    have xz3 := (H3.1 x bx).2
    have sx4 := G4.sm xz3 (by rw [bx8]; decide)
    have bx84 : sc σ4 x = 8 := by rw [G4.tgE xz3]; exact bx8
    have lb14 : sR σ4 115 x = some lb := by rw [sx4.2.2.2.2.2.2.2.2.2]; exact lb1
    have la14 : sR σ4 114 x = some la := by rw [sx4.2.2.2.2.2.2.2.2.2]; exact la1
    have lb44 : sc σ4 lb = 102 := by rw [G4.tgE lb3]; exact lb4
    have lbN : sN σ4 lb = 40 := by rw [(G4.sm lb3 (by rw [lb4]; decide)).2.2.1]; exact lb5.1
    have hib : ib ((sA σ3 la).length : Int) (sN σ4 lb) := by rw [lbN, la5.1]; constructor <;> omega
    have ela : ((sA σ3 la).length : Int).toNat = (L 115 x).length := by rw [Int.toNat_natCast, la5.1]; exact eLen
    refine Rn_eq (fun bb => by rw [lb1, bind_some', gd_pos lb44, gd_pos hib, nm_eq, ela]) ?_
    have H5 := H4.arr (v := tkN I (tkn I n (i + 2))) bx (by decide) bx84 rfl lb14
    have B5 := B4.kp (fun x hx => (H4.1 x hx).2) (Kp.setE σ4 lb (L 115 x).length (tkN I (tkn I n (i + 2)) : Int))
    obtain ⟨σ5, hσ5⟩ : ∃ X, X = pE σ4 lb (L 115 x).length (tkN I (tkn I n (i + 2)) : Int) := ⟨_, rfl⟩
    rw [← hσ5] at H5 B5 ⊢
    have F5 : FR (fun x => x = lb) σ4 σ5 := by rw [hσ5]; exact FR.at1 (at_pE _ _ _ _) rfl
    have N5' : CNT σ5 sd M (V ++ [(sZ σ1, i, tkN I (tkn I n (i + 2)), e)]) O R := by rw [hσ5]; exact N4'
    have ne5 := st4.ne lb44 (by decide) (by decide)
    have st5 := st4.fr F5 ne5.1 ne5.2
    have z5 : sZ σ5 = sZ σ4 := by rw [hσ5]; rfl
    have s5 : sS σ5 = sS σ4 := by rw [hσ5]; rfl
    have c5 : sC σ5 = sC σ4 := by rw [hσ5]; rfl
    have bx85 : sc σ5 x = 8 := by rw [hσ5]; exact bx84
    have r5 : sR σ5 86 a = some sd := by rw [hσ5]; show sR σ4 86 a = _; rw [J4.2.2.2.2]; exact r87
    have la15 : sR σ5 114 x = some la := by rw [hσ5]; exact la14
    have Y5 : FY y σ σ5 := Y4.tr (F5.fy lb2)
    obtain ⟨la', ka1, ka2, ka3, ka4, ka5, -⟩ := H5.get (k := 114) bx (by decide) bx85
    have ela' : la = la' := Option.some.inj (la15.symm.trans ka1)
    subst ela'
    have ka4 : sc σ5 la = 16 := ka4
    have ka5 := ka5 rfl
    rw [updL_k (by decide)] at ka5
    have z2' : sZ σ2 ≤ sZ σ5 := by have := J3.2.2.2.1; have := J4.2.2.2.1; omega
    have rk2 : Kp σ2 σ5 := (G3.kp.tr G4.kp).tr (by rw [hσ5]; exact Kp.setE _ _ _ _)
    have Rr2 : Rt y σ2 (sZ σ1) (tkX I (tkn I n i)) := ⟨by omega, z2, rc2, rw2⟩
    have Rr5 := Rr2.kp rk2
    refine Rn_le F5.1 ?_
    refine Rn_eq (fun bb => by rw [gd_pos bx85, la15, bind_some', gd_pos ka4]) ?_
    refine Rn_bind (su := fun r : Int × ST => r.2) (rn_ladd ka4 (Or.inl Rr5.2.2.1) (by rw [ka5.1]; omega) (by rw [ka5.1]; exact ka5.2)) (fun y6 _ A6 => ?_)
    obtain ⟨i6, σ6⟩ := y6
    dsimp only at A6 ⊢
    have H6 := H5.add bx (by decide) bx85 rfl la15 A6
    have B6 := B5.kp (fun x hx => (H5.1 x hx).2) A6.kp
    have N6' := N5'.la A6
    have ne6 := st5.ne ka4 (by decide) (by decide)
    have st6 := st5.la A6 ne6.1 ne6.2
    have r6 : sR σ6 86 a = some sd := by rw [A6.2.2.1]; exact r5
    have Y6 : FY y σ σ6 := Y5.tr (FR.fy A6.2.2.2.2.2.2.2.2.1 la2)
    rw [updL_k (show (114 : Nat) ≠ 115 by decide)] at H6
    obtain ⟨os, os3⟩ := B6.sc3 hs
    obtain ⟨lc, lc1, lc2, lc3, lc4, lc5, -⟩ := H6.get (k := 35) os (by decide) os3
    have lc4 : sc σ6 lc = 16 := lc4
    have lc5 := lc5 rfl
    rw [updL_k (by decide), updL_k (by decide)] at lc5
    have l35 : (L 35 s).length ≤ 56 := by
      rw [(Q.2.1 p s hs).2.2, List.length_map]
      refine Nat.le_trans (List.length_filter_le _ _) ?_
      rw [hw.len]
      have := hw.1
      omega
    have Rr6 := Rr5.kp A6.kp
    refine Rn_eq (fun bb => by rw [bind_some', gd_pos os3, lc1, bind_some', gd_pos lc4]) ?_
    refine Rn_bind (su := fun r : Int × ST => r.2) (rn_ladd lc4 (Or.inl Rr6.2.2.1) (by rw [lc5.1]; omega) (by rw [lc5.1]; exact lc5.2)) (fun y7 _ A7 => ?_)
    obtain ⟨i7, σ7⟩ := y7
    dsimp only at A7 ⊢
    have H7 := H6.add os (by decide) os3 rfl lc1 A7
    have B7 := B6.kp (fun x hx => (H6.1 x hx).2) A7.kp
    have N7' := N6'.la A7
    have ne7 := st6.ne lc4 (by decide) (by decide)
    have st7 := st6.la A7 ne7.1 ne7.2
    have r7 : sR σ7 86 a = some sd := by rw [A7.2.2.1]; exact r6
    have Y7 : FY y σ σ7 := Y6.tr (FR.fy A7.2.2.2.2.2.2.2.2.1 lc2)
    rw [updL_k (show (35 : Nat) ≠ 114 by decide), updL_k (show (35 : Nat) ≠ 115 by decide)] at H7
    have Rr7 := Rr6.kp A7.kp
    have cs6 : sS σ6 ≤ sS σ5 + 90 ∧ sC σ6 ≤ sC σ5 + 1 := by
      obtain ⟨-, -, -, -, -, -, -, -, -, w1, w2⟩ := A6
      rw [ka5.1] at w1
      exact ⟨by omega, w2⟩
    have cs7 : sS σ7 ≤ sS σ6 + 122 ∧ sC σ7 ≤ sC σ6 + 1 := by
      obtain ⟨-, -, -, -, -, -, -, -, -, w1, w2⟩ := A7
      rw [lc5.1] at w1
      exact ⟨by omega, w2⟩
    have j3s : sS σ3 = sS σ2 ∧ sC σ3 = sC σ2 := ⟨J3.2.2.1, J3.2.1⟩
    have j4s : sS σ4 = sS σ3 ∧ sC σ4 = sC σ3 := ⟨J4.2.2.1, J4.2.1⟩
    have T7 : sS σ7 ≤ sS σ + 222 + 4 * ((tkn I n i).2.2 - (tkn I n i).2.1) ∧ sC σ7 ≤ sC σ + 10 := by omega
    refine Rn_eq (fun bb => by rw [gd_pos st7.1.1]) ?_
    refine Rn_tB (sr_sign_eq hI st7 (x := 59) (by omega)) (fun σ' _ hj => ?_) (fun _ σ8 _ hj => ?_)
    · rcases hj with ⟨-, q, -⟩ | ⟨qk, q⟩
      · cases q
      · have eσ : σ' = nX σ7 := congrArg Prod.snd q
        subst eσ
        exact ⟨rfl, Or.inl ⟨_, rfl, FL.make Y7 (by omega) (by omega), REF.2 (Or.inl (fun w => qk w.2.2.2))⟩⟩
    rcases hj with ⟨qk8, -, st8, J8⟩ | ⟨-, q⟩
    case inr => cases q
    dsimp only at st8 J8
    have G8 : FR6 σ7 σ8 := J8.f6 st7.1.1
    have Y8 : FY y σ σ8 := Y7.tr (FR.fy J8.1 hya)
    have H8 := H7.fr G8
    have B8 := B7.kp (fun x hx => (H7.1 x hx).2) G8.kp
    have N8' := N7'.fr H7 B7 G8
    have r8 : sR σ8 86 a = some sd := by rw [J8.2.2.2.2]; exact r7
    have Rr8 := Rr7.kp G8.kp
    have j8s : sS σ8 = sS σ7 ∧ sC σ8 = sC σ7 := ⟨J8.2.2.1, J8.2.1⟩
    obtain ⟨τ1, eR, hm1, U1⟩ := REF.1 ⟨qk, qk2, qk3, qk8⟩ (by omega)
    have hi4 : i + 4 ≤ K := hm1.2.2.2.1
    have TK : TF KP τ τ1 := U1.1.kp (by decide) (by decide)
    have P8 : PG I n K a b y sd root s0 c0 (i + 4) (i + 4) M E (V ++ [(sZ σ1, i, tkN I (tkn I n (i + 2)), e)]) F O R (N ++ [(sZ σ1, i, p)]) σ8 τ1 := by
      refine ⟨hm1, ht.addV U1 _, st8, r8, by have := Y8.1.1; omega, hw.addV he rfl (by omega) hel (tkN_lt qk3) qk (by omega), ⟨ob, _, H8, Q.addV he rfl hs (fun j e' h1 h2 => B.einj he h1 h2) (fun p' s' h1 h2 => B.sinj H hs h1 h2), ?_⟩, N8', ?_, ?_⟩
      · obtain ⟨w1, w2, w3, w4, w5, w6, w7, w8⟩ := B8
        refine OBS.cg (L := L) ⟨w1, w2, w3, w4, w5, fun v hv => ?_, w7, fun w hv => ?_⟩ (fun x _ => by rw [updL_k (by decide), updL_k (by decide), updL_k (by decide)])
        · rcases List.mem_append.mp hv with q | q
          · exact w6 v q
          · rw [List.mem_singleton.mp q]; exact Rr8
        · rcases List.mem_append.mp hv with q | q
          · exact w8 w q
          · rw [List.mem_singleton.mp q]; exact Rr8
      · unfold Om at hS ⊢
        rw [List.length_append]
        simp only [List.length_singleton]
        omega
      · unfold Oc at hC ⊢
        rw [List.length_append]
        simp only [List.length_singleton]
        omega
    have eI := sr_isSign_eq hI st8 (tkn_k I n (i + 4)) (x := 125) (by omega)
    by_cases qe : sgn I n (i + 4) 125
    · rw [if_pos qe] at eI
      refine Rn_eq (fun bb => by rw [gd_pos st8.1.1, eI, bind_some', gd_pos (by omega), if_neg (by omega)]) ?_
      obtain ⟨τ2, e2, h2, F2'⟩ := mT hD hm1 sx_15 (by decide) qe
      refine Rn_some (Le.refl _) (Or.inr ⟨σ8, τ2, (V ++ [(sZ σ1, i, tkN I (tkn I n (i + 2)), e)]), (N ++ [(sZ σ1, i, p)]), i + 4, rfl, ?_, qe, by omega, Y8, TK.tr (F2'.mono (by decide)) (fun _ u => u), ?_⟩)
      · rw [eR, e2, bind_some']
        dsimp only
        rw [gd_pos (by omega), gd_pos (by exact fun q => by cases q), if_neg (fun q => by cases q.1)]
      · obtain ⟨p1, p2, p3⟩ := P8
        exact ⟨h2, p2.tf F2', p3⟩
    · rw [if_neg qe] at eI
      refine Rn_eq (fun bb => by rw [gd_pos st8.1.1, eI, bind_some', gd_pos (by omega), if_pos rfl]) ?_
      have eT := mTn hm1 sx_15 (by decide) qe
      have e14 : tI τ1 14 = 0 := hm1.2.2.2.2.2
      have eR2 : m_readEnum_L80 (e : Int) (N2 + 1) τ = m_readEnum_L80 (e : Int) N2 τ1 := by
        rw [eR, eT, bind_some']
        dsimp only
        rw [e14, gd_pos (by omega), gd_pos (by exact fun q => by omega), if_pos ⟨rfl, rfl⟩]
      rw [eR2]
      have ih := enum_loop hG he hel hs N1 N2 (c - 1) (i + 4) (V ++ [(sZ σ1, i, tkN I (tkn I n (i + 2)), e)]) (N ++ [(sZ σ1, i, p)]) σ8 τ1 (kf1 hc hi4 (by decide)) P8 (kf2 hc hi4 (by decide) f1) (kf2 hc hi4 (by decide) f2)
      refine ih.mono (fun r _ hr => ?_)
      rcases hr with ⟨σ', w1, w2, w3⟩ | ⟨σ', τ', V', N', i', w1, w2, w3, w4, w5, w6, w7⟩
      · exact Or.inl ⟨σ', w1, FL.tr Y8 w2, MB.tk TK w3⟩
      · exact Or.inr ⟨σ', τ', V', N', i', w1, w2, w3, Nat.lt_of_le_of_lt (Nat.le_add_right i 4) w4, Y8.tr w5, TK.tr w6 (fun _ u => u), w7⟩
end Sh
