set_option maxRecDepth 100000
/-! SCHEMAS, READ: an enum, on both sides -/
section Sk
variable {y n a b K sd root s0 c0 i s : Nat} {p : Int} {I : Nat → Nat} {M : List TyM} {E : List TyE} {V : List TyV} {F : List TyF} {O : List TyO} {R : List TyR} {N : List TyN} {σ σ' : ST} {τ : TT}
theorem wd31 : slen 31 ≤ 100 ∧ ∀ j, j < slen 31 → sch 31 j < 128 := by decide +kernel
theorem hk8 : ∀ k, k ∈ HK → 8 = k / 16 + 1 → k = 114 ∨ k = 115 := by decide
theorem enum_eq (hG : GR I n K a b y) (hP : PG I n K a b y sd root s0 c0 i i M E V F O R N σ τ) (hwd : wrd I n i 31) (hs : scA M root p = some s) (hp : -1 ≤ p ∧ p < (M.length : Int)) :
    Rn (fun r : Option Unit × ST => r.2) σ (fun bb => sr_enumeration bb a (some s) σ) (fun r => (r.1 = none ∧ FL y s0 c0 σ r.2 ∧ MB τ (m_readEnum p τ)) ∨ ∃ τ' E' V' N' i', r.1 = some () ∧ m_readEnum p τ = some τ' ∧ i < i' ∧ FY y σ r.2 ∧ TF KP τ τ' ∧ PG I n K a b y sd root s0 c0 i' i' M E' V' F O R N' r.2 τ') := by
  obtain ⟨hm, ht, hst, h86, hy, hw, ⟨ob, L, H, Q, B⟩, hcn, hS, hC⟩ := hP
  have om := Om_le hG hw hm.2.2.2.1
  obtain ⟨hD, hI, hn, hya, hby⟩ := id hG
  have hi : i ≤ K := hm.2.2.2.1
  have hKn := hD.1
  have e6 := hw.1.2.1
  have e36 : tI τ 36 = (E.length : Int) := ht.1.2.1
  have REF := m_enumH_eq hD hm (show (tkn I n i).1 ≠ 0 by have := hwd.1; omega) (p := p) e36 e6
  unfold sr_enumeration
  refine Rn_gd hst.1.1 ?_
  refine Rn_tB (sr_word_eq hI hst (u := 31) wd31.1 wd31.2) (fun σ' _ hj => ?_) (fun _ σ1 _ hj => ?_)
  · rcases hj with ⟨-, q, -⟩ | ⟨qk, q⟩
    · cases q
    · exact absurd hwd qk
  rcases hj with ⟨-, -, st1, J1⟩ | ⟨-, q⟩
  case inr => cases q
  dsimp only at st1 J1
  have G1 : FR6 σ σ1 := J1.f6 hst.1.1
  have Y1 : FY y σ σ1 := FR.fy J1.1 hya
  have H1 := H.fr G1
  have B1 := B.kp (fun x hx => (H.1 x hx).2) G1.kp
  have C1 := hcn.fr H B G1
  have r1 : sR σ1 86 a = some sd := by rw [J1.2.2.2.2]; exact h86
  have j1s : sS σ1 = sS σ ∧ sC σ1 = sC σ ∧ sZ σ1 = sZ σ := ⟨J1.2.2.1, J1.2.1, J1.2.2.2.1⟩
  have d2 : sc σ1 sd = 2 := B1.1.2.2.1
  obtain ⟨la, la1, la2, la3, la4, la5, -⟩ := H1.get (k := 18) B1.1.1 (by decide) d2
  have la4 : sc σ1 la = 16 := la4
  have la5 := la5 rfl
  have eL : (L 18 sd).length = E.length := by rw [Q.1.2.1, List.length_map]
  refine Rn_eq (fun bb => by rw [gd_pos st1.1.1, r1, bind_some', gd_pos d2, la1, bind_some', gd_pos la4, l_sz la4, bind_some', la5.1, eL, gd_pos (by omega)]) ?_
  by_cases q6 : E.length = 6
  · refine Rn_eq (fun bb => by rw [if_pos (show (6 : Int) ≤ ((E.length : Nat) : Int) by omega), bind_some']) ?_
    exact Rn_srm0 rfl (Or.inl ⟨rfl, FL.make Y1 (by omega) (by omega), REF.2 (Or.inr q6)⟩)
  refine Rn_eq (fun bb => by rw [if_neg (show ¬ (6 : Int) ≤ ((E.length : Nat) : Int) by omega), bind_some', sr_must1, bind_some', tB_some]) ?_
  refine Rn_nO ?_
  have F2 : ∀ W, FR W σ1 (nO σ1 8 4) := fun W => FR.nO W σ1 8 4
  obtain ⟨σ2, hσ2⟩ : ∃ A, A = nO σ1 8 4 := ⟨_, rfl⟩
  have z2 : sZ σ2 = sZ σ1 + 1 := by rw [hσ2]; rfl
  have s2 : sS σ2 = sS σ1 + 4 := by rw [hσ2]; rfl
  have c2 : sC σ2 = sC σ1 + 1 := by rw [hσ2]; rfl
  have x2 : sc σ2 (sZ σ1) = 8 := by rw [hσ2, sc_nO_, if_pos rfl]
  rw [← hσ2] at F2 ⊢
  have G2 : FR6 σ1 σ2 := F2 _
  have st2 := st1.fr (F2 (fun _ => False)) (fun h => h) (fun h => h)
  have H2 := H1.fr G2
  have B2 := B1.kp (fun x hx => (H1.1 x hx).2) G2.kp
  have d2' : sc σ2 sd = 2 := B2.1.2.2.1
  have az1 : a < sZ σ1 := st1.1.2.2.2.2.2.2.2.2.2.1
  have r2 : sR σ2 86 a = some sd := by rw [hσ2, sR_nO_, if_neg (by omega)]; exact r1
  obtain ⟨la', ka1, ka2, ka3, ka4, ka5, -⟩ := H2.get (k := 18) B2.1.1 (by decide) d2'
  have ka4 : sc σ2 la' = 16 := ka4
  have ka5 := ka5 rfl
  refine Rn_eq (fun bb => by rw [gd_pos st2.1.1, r2, bind_some', gd_pos d2', ka1, bind_some', gd_pos ka4, l_sz ka4, bind_some', ka5.1, eL]) ?_
  refine Rn_tB (sr_name_eq hI st2) (fun σ' _ hj => ?_) (fun rr σ3 _ hj => ?_)
  · rcases hj with ⟨-, q, -⟩ | ⟨qk, q⟩
    · cases q
    · have eσ : σ' = nX σ2 := congrArg Prod.snd q
      subst eσ
      exact ⟨rfl, Or.inl ⟨rfl, FL.make (Y1.tr (F2 _)) (by omega) (by omega), REF.2 (Or.inl (fun w => qk w.1))⟩⟩
  rcases hj with ⟨qk, qr, st3, F3, z3, rc3, rw3, s3, c3, r3⟩ | ⟨-, q⟩
  case inr => cases q
  have er : rr = some (sZ σ2) := Option.some.inj qr
  subst er
  dsimp only at st3 F3 z3 rc3 rw3 s3 c3 r3
  have G3 : FR6 σ2 σ3 := FR.f6 F3 st2.1.1
  have wl := word_len qk
  have x3 : sc σ3 (sZ σ1) = 8 := by rw [G3.tgE (by omega)]; exact x2
  refine Rn_bind (su := id) (et_init_eq x3 (by omega)) (fun σ4 _ hE4 => ?_)
  have hE4 : EtI (sZ σ1) ((E.length : Nat) : Int) (some (sZ σ2)) σ3 σ4 := hE4
  obtain ⟨F4, x4, k114, k115, i112, r113, ⟨u1, u2, u3⟩, ⟨u4, u5, u5'⟩, z4, s4, c4⟩ := hE4
  show Rn _ σ4 _ _
  have G13 : FR6 σ1 σ3 := G2.tr G3
  have G4 : FR6 σ1 σ4 := FR.tr G13 F4 (fun x hx e => by omega)
  have st4 := st3.fr F4 (by omega) (by have := st1.1.2.2.2.2.2.2.2.2.2.2; omega)
  have Y4 : FY y σ σ4 := Y1.tr (FR.tr (FY.tr (F2 _) (FR.fy F3 hya)) (F4.fy (y := y) (by have := j1s.2.2; omega)) (fun _ _ e => e))
  have H4 : HVw y σ4 (fun x => ob x ∨ x = sZ σ1) (lowL L (sZ σ1)) := by
    refine HVw.new H1 G4 (by have := j1s.2.2; omega) (fun x hx => by omega) (fun x k hx hk hc => ?_) (fun x x' k k' hx hx' hk hk' hc hc' e => ?_) (fun k x hx => lowL_l hx) (fun k x hx => lowL_h (by omega))
    · subst hx
      rw [x4] at hc
      rcases hk8 k hk hc with e | e <;> subst e
      · exact ⟨sZ σ3, k114, by omega, by omega, u1, fun _ => ⟨u2, by omega⟩, fun h => by cases h⟩
      · exact ⟨sZ σ3 + 1, k115, by omega, by omega, u4, fun h => (by cases h), fun _ => ⟨u5, fun q => by rw [u5']⟩⟩
    · subst hx
      have hx' : x' = sZ σ1 := hx'
      subst hx'
      rw [x4] at hc hc'
      rcases hk8 k hk hc with e1 | e1 <;> rcases hk8 k' hk' hc' with e2 | e2 <;> subst e1 <;> subst e2
      · exact ⟨rfl, rfl⟩
      · rw [k114, k115] at e; have := Option.some.inj e; omega
      · rw [k114, k115] at e; have := Option.some.inj e; omega
      · exact ⟨rfl, rfl⟩
  have hlow := B1.low H1 (Nat.le_refl _)
  have B4 : OBS y σ4 I n (fun x => ob x ∨ x = sZ σ1) (lowL L (sZ σ1)) sd root M E V F O N := ((B1.kp (fun x hx => (H1.1 x hx).2) G4.kp).cg (fun x hx => lowL_l (H1.1 x hx).2)).mo (fun x hx => Or.inl hx)
  have C4 := C1.fr H1 B1 G4
  have Q4 := Q.low hlow
  have r4 : sR σ4 86 a = some sd := by
    rw [((F4.2 a (by omega)).2 (by omega)).2.2.2.2.2.2.2.2.2, r3]; exact r2
  have Rr3 : Rt y σ3 (sZ σ2) (tkX I (tkn I n (i + 1))) := ⟨by have := j1s.2.2; omega, z3, rc3, rw3⟩
  have Rr4 : Rt y σ4 (sZ σ2) (tkX I (tkn I n (i + 1))) := by
    obtain ⟨w1, w2, w3, w4⟩ := Rr3
    exact ⟨w1, by omega, by rw [(F4.2 _ w2).1]; exact w3, by rw [((F4.2 _ w2).2 (by omega)).1]; exact w4⟩
  have d4 : sc σ4 sd = 2 := B4.1.2.2.1
  obtain ⟨lb, lb1, lb2, lb3, lb4, lb5, -⟩ := H4.get (k := 18) B4.1.1 (by decide) d4
  have lb4 : sc σ4 lb = 16 := lb4
  have lb5 := lb5 rfl
  rw [lowL_l hlow.1] at lb5
  refine Rn_eq (fun bb => by rw [gd_pos st4.1.1, r4, bind_some', gd_pos d4, lb1, bind_some', gd_pos lb4]) ?_
  refine Rn_bind (su := fun r : Int × ST => r.2) (rn_ladd lb4 (Or.inr (Or.inr (Or.inl x4))) (by rw [lb5.1]; omega) (by rw [lb5.1]; exact lb5.2)) (fun y5 _ A5 => ?_)
  obtain ⟨i5, σ5⟩ := y5
  dsimp only at A5 ⊢
  have H5 := H4.add B4.1.1 (by decide) d4 rfl lb1 A5
  have B5 := B4.kp (fun x hx => (H4.1 x hx).2) A5.kp
  have C5 := C4.la A5
  have ne5 := st4.ne lb4 (by decide) (by decide)
  have st5 := st4.la A5 ne5.1 ne5.2
  have r5 : sR σ5 86 a = some sd := by rw [A5.2.2.1]; exact r4
  have Y5 : FY y σ σ5 := Y4.tr (FR.fy A5.2.2.2.2.2.2.2.2.1 lb2)
  have Rr5 := Rr4.kp A5.kp
  have x5 : sc σ5 (sZ σ1) = 8 := by rw [A5.1]; exact x4
  have sl := hlow.2.1 p s hs
  obtain ⟨os5, os35⟩ := B5.sc3 hs
  obtain ⟨lc, lc1, lc2, lc3, lc4, lc5, -⟩ := H5.get (k := 34) os5 (by decide) os35
  have lc4 : sc σ5 lc = 16 := lc4
  have lc5 := lc5 rfl
  rw [updL_k (by decide), lowL_l sl] at lc5
  have l34 : (L 34 s).length ≤ 6 := by
    rw [(Q.2.1 p s hs).2.1, List.length_map]
    exact Nat.le_trans (List.length_filter_le _ _) e6
  refine Rn_eq (fun bb => by rw [bind_some', gd_pos os35, lc1, bind_some', gd_pos lc4]) ?_
  refine Rn_bind (su := fun r : Int × ST => r.2) (rn_ladd lc4 (Or.inr (Or.inr (Or.inl x5))) (by rw [lc5.1]; omega) (by rw [lc5.1]; exact lc5.2)) (fun y6 _ A6 => ?_)
  obtain ⟨i6, σ6⟩ := y6
  dsimp only at A6 ⊢
  have H6 := H5.add os5 (by decide) os35 rfl lc1 A6
  have B6 := B5.kp (fun x hx => (H5.1 x hx).2) A6.kp
  have C6 := C5.la A6
  have ne6 := st5.ne lc4 (by decide) (by decide)
  have st6 := st5.la A6 ne6.1 ne6.2
  have r6 : sR σ6 86 a = some sd := by rw [A6.2.2.1]; exact r5
  have Y6 : FY y σ σ6 := Y5.tr (FR.fy A6.2.2.2.2.2.2.2.2.1 lc2)
  have Rr6 := Rr5.kp A6.kp
  have x6 : sc σ6 (sZ σ1) = 8 := by rw [A6.1]; exact x5
  have r113' : sR σ6 113 (sZ σ1) = some (sZ σ2) := by rw [A6.2.2.1, A5.2.2.1]; exact r113
  obtain ⟨os6, os36⟩ := B6.sc3 hs
  obtain ⟨ld, ld1, ld2, ld3, ld4, ld5, -⟩ := H6.get (k := 35) os6 (by decide) os36
  have ld4 : sc σ6 ld = 16 := ld4
  have ld5 := ld5 rfl
  rw [updL_k (by decide), updL_k (by decide), lowL_l sl] at ld5
  have l35 : (L 35 s).length ≤ 56 := by
    rw [(Q.2.1 p s hs).2.2, List.length_map]
    refine Nat.le_trans (List.length_filter_le _ _) ?_
    rw [hw.len]
    have := hw.1
    omega
  refine Rn_eq (fun bb => by rw [gd_pos os36, gd_pos x6, ld1, bind_some', gd_pos ld4, r113']) ?_
  refine Rn_bind (su := fun r : Int × ST => r.2) (rn_ladd ld4 (Or.inl Rr6.2.2.1) (by rw [ld5.1]; omega) (by rw [ld5.1]; exact ld5.2)) (fun y7 _ A7 => ?_)
  obtain ⟨i7, σ7⟩ := y7
  dsimp only at A7 ⊢
  have H7 := H6.add os6 (by decide) os36 rfl ld1 A7
  have B7 := B6.kp (fun x hx => (H6.1 x hx).2) A7.kp
  have C7 := C6.la A7
  have ne7 := st6.ne ld4 (by decide) (by decide)
  have st7 := st6.la A7 ne7.1 ne7.2
  have r7 : sR σ7 86 a = some sd := by rw [A7.2.2.1]; exact r6
  have Y7 : FY y σ σ7 := Y6.tr (FR.fy A7.2.2.2.2.2.2.2.2.1 ld2)
  have Rr7 := Rr6.kp A7.kp
  have cs5 : sS σ5 ≤ sS σ4 + 22 ∧ sC σ5 ≤ sC σ4 + 1 := by
    obtain ⟨-, -, -, -, -, -, -, -, -, w1, w2⟩ := A5
    rw [lb5.1] at w1
    exact ⟨by omega, w2⟩
  have cs6 : sS σ6 ≤ sS σ5 + 22 ∧ sC σ6 ≤ sC σ5 + 1 := by
    obtain ⟨-, -, -, -, -, -, -, -, -, w1, w2⟩ := A6
    rw [lc5.1] at w1
    exact ⟨by omega, w2⟩
  have cs7 : sS σ7 ≤ sS σ6 + 122 ∧ sC σ7 ≤ sC σ6 + 1 := by
    obtain ⟨-, -, -, -, -, -, -, -, -, w1, w2⟩ := A7
    rw [ld5.1] at w1
    exact ⟨by omega, w2⟩
  have b0 := tkn_bd I n i
  have b1 := tkn_bd I n (i + 1)
  have b2 := tkn_bd I n (i + 2)
  have m0 : (tkn I n i).2.2 ≤ (tkn I n (i + 1)).2.1 := tkn_mono I n i
  have m1 : (tkn I n (i + 1)).2.2 ≤ (tkn I n (i + 2)).2.1 := tkn_mono I n (i + 1)
  have m2 : (tkn I n (i + 2)).2.2 ≤ (tkn I n (i + 3)).2.1 := tkn_mono I n (i + 2)
  have T7 : sS σ7 ≤ sS σ + 223 + 4 * ((tkn I n (i + 1)).2.2 - (tkn I n (i + 1)).2.1) ∧ sC σ7 ≤ sC σ + 16 := by omega
  refine Rn_eq (fun bb => by rw [gd_pos st7.1.1]) ?_
  refine Rn_tB (sr_sign_eq hI st7 (x := 123) (by omega)) (fun σ' _ hj => ?_) (fun _ σ8 _ hj => ?_)
  · rcases hj with ⟨-, q, -⟩ | ⟨qk, q⟩
    · cases q
    · have eσ : σ' = nX σ7 := congrArg Prod.snd q
      subst eσ
      exact ⟨rfl, Or.inl ⟨rfl, FL.make Y7 (by omega) (by omega), REF.2 (Or.inl (fun w => qk w.2))⟩⟩
  rcases hj with ⟨qk8, -, st8, J8⟩ | ⟨-, q⟩
  case inr => cases q
  dsimp only at st8 J8
  have G8 : FR6 σ7 σ8 := J8.f6 st7.1.1
  have Y8 : FY y σ σ8 := Y7.tr (FR.fy J8.1 hya)
  have r8 : sR σ8 86 a = some sd := by rw [J8.2.2.2.2]; exact r7
  have j8s : sS σ8 = sS σ7 ∧ sC σ8 = sC σ7 := ⟨J8.2.2.1, J8.2.1⟩
  obtain ⟨τ1, eR, hm1, U1⟩ := REF.1 ⟨qk, qk8⟩ (by omega)
  have hi4 : i + 3 ≤ K := hm1.2.2.2.1
  have TK : TF KP τ τ1 := U1.1.kp (by decide) (by decide)
  have lE : (E ++ [(sZ σ1, i + 1, p)]).length = E.length + 1 := by rw [List.length_append]; rfl
  rw [updL_k (show (34 : Nat) ≠ 18 by decide)] at H6
  rw [updL_k (show (34 : Nat) ≠ 18 by decide), updL_k (show (35 : Nat) ≠ 34 by decide), updL_k (show (35 : Nat) ≠ 18 by decide)] at H7
  have hob : (fun x => ob x ∨ x = sZ σ1) (sZ σ1) := Or.inr rfl
  have P8 : PG I n K a b y sd root s0 c0 (i + 3) (i + 3) M (E ++ [(sZ σ1, i + 1, p)]) V F O R (N ++ [(sZ σ2, i + 1, p)]) σ8 τ1 := by
    refine ⟨hm1, ht.addE U1 _, st8, r8, by have := Y8.1.1; omega, hw.addE (by omega) hp qk (by omega), ⟨_, _, H7.fr G8, Q4.addE hs (fun p' s' h1 h2 => B.sinj H hs h1 h2) (fun v hv => (hw.2.2.2.1 v hv).1) (lowL_h (by omega)) (lowL_h (by omega)), ?_⟩, C7.fr H7 B7 G8, ?_, ?_⟩
    · refine OBS.cg (L := lowL L (sZ σ1)) ?_ (fun x _ => by rw [updL_k (by decide), updL_k (by decide), updL_k (by decide)])
      refine OBS.addE (B7.kp (fun x hx => (H7.1 x hx).2) G8.kp) hob ?_ ?_ ?_ (Rr7.kp G8.kp)
      · rw [G8.tgE (H7.1 _ hob).2, A7.1]; exact x6
      · rw [(G8.sm (H7.1 _ hob).2 (by rw [A7.1, x6]; decide)).2.2.2.2.2.2.2.1, A7.2.1, A6.2.1, A5.2.1]; exact i112
      · rw [(G8.sm (H7.1 _ hob).2 (by rw [A7.1, x6]; decide)).2.2.2.2.2.2.2.2.2, A7.2.2.1]; exact r113'
    · unfold Om at hS ⊢
      rw [lE]
      omega
    · unfold Oc at hC ⊢
      rw [lE]
      omega
  have LP := enum_loop hG (gq_new E (sZ σ1, i + 1, p)) lE.symm hs FU FU K (i + 3) V _ σ8 τ1 (by omega) P8 (FU_gt (by omega)) (FU_gt (by omega))
  refine Rn_bind (su := Sum.elim (fun r : Option Unit × ST => r.2) id) LP (fun r9 _ h9 => ?_)
  rcases h9 with ⟨σ', w1, w2, w3⟩ | ⟨σ9, τ', V', N', i', w1, w2, w3, w4, w5, w6, w7⟩
  · subst w1
    refine Rn_some (Le.refl _) (Or.inl ⟨rfl, FL.tr Y8 w2, ?_⟩)
    rw [eR]; exact MB.tk TK w3
  · subst w1
    show Rn (fun r : Option Unit × ST => r.2) σ9 (fun bb => gd (sc σ9 a = 6) (Option.bind (sr_next bb a σ9) fun y67 => some ((some (), y67)))) _
    obtain ⟨v1, v2, v3, v4, v5, v6, v7, v8, v9, vA⟩ := w7
    obtain ⟨Z, q1, q2, q3⟩ := sr_next_k hI v3
    refine Rn_eq (G := fun bb => some ((some () : Option Unit), Z)) (fun bb => by rw [gd_pos v3.1.1, q1 bb, bind_some']) ?_
    have GZ : FR6 σ9 Z := q3.f6 v3.1.1
    obtain ⟨ob9, L9, H9, Q9, B9⟩ := v7
    have mm := tkn_mono I n i'
    have bb' := tkn_bd I n i'
    refine Rn_some q3.le (Or.inr ⟨τ', _, V', N', i' + 1, rfl, by rw [eR]; exact w2, by omega, (Y8.tr w5).tr (FR.fy q3.1 hya), TK.tr w6 (fun _ u => u), v1, v2, q2, by rw [q3.2.2.2.2]; exact v4, by have := q3.2.2.2.1; show y ≤ sZ Z; omega, v6, ⟨ob9, L9, H9.fr GZ, Q9, B9.kp (fun x hx => (H9.1 x hx).2) GZ.kp⟩, v8.fr H9 B9 GZ, ?_, ?_⟩)
    · show sS Z ≤ _
      rw [q3.2.2.1]
      unfold Om at v9 ⊢
      omega
    · show sC Z ≤ _
      rw [q3.2.1]
      unfold Oc at vA ⊢
      omega
end Sk
