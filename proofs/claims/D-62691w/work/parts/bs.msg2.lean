set_option maxRecDepth 100000
/-! SCHEMAS, READ: messages, on both sides -/
section Mt
variable {y n a b K sd root s0 c0 i ms d : Nat} {I : Nat → Nat} {M : List TyM} {E : List TyE} {V : List TyV} {F : List TyF} {O : List TyO} {R : List TyR} {N : List TyN} {σ σ' : ST} {τ : TT} {m : TyM}
theorem hk7 : ∀ k, k ∈ HK → 7 = k / 16 + 1 → k = 98 ∨ k = 99 ∨ k = 100 ∨ k = 101 := by decide
theorem hk3 : ∀ k, k ∈ HK → 3 = k / 16 + 1 → k = 33 ∨ k = 34 ∨ k = 35 := by decide
theorem CNT.addM (h : CNT σ sd M V O R) {X S t : Nat} {p : Int} (h0 : sI σ 102 X = 0) (hR : ∀ r, r ∈ R → r.2 < M.length) : CNT σ sd (M ++ [(X, S, t, p)]) V O R := by
  obtain ⟨h1, h2, h3, h4⟩ := h
  refine ⟨h1, h2, h3, fun j m hm => ?_⟩
  rcases gq_app hm with ⟨-, q⟩ | ⟨q, q'⟩
  · exact h4 j m q
  · subst q q'
    rw [fil0 (fun r hr => by have := hR r hr; simp; omega)]; exact h0
set_option maxHeartbeats 4000000 in
theorem msgb_eq (hG : GR I n K a b y) {recS : Nat × Nat → Option Nat → Option Nat → Int → ST → Option (Option Unit × ST)} {recM : Int → Int → TT → Option TT} (hd1 : d ≤ 100) (hrec : d ≤ 6 → MsC I n K a b y sd root s0 c0 (d + 1) recS recM) : MsC I n K a b y sd root s0 c0 d (fun bb => sr_messageb bb (recS bb)) (m_readMessageb recM) := by
  intro i M E V F O R N σ τ p s hP hwd hs hp1 hp2
  obtain ⟨hm, ht, hst, h86, hy, hw, ⟨ob, L, H, Q, B⟩, hcn, hS, hC⟩ := hP
  have om := Om_le hG hw hm.2.2.2.1
  obtain ⟨hD, hI, hn, hya, hby⟩ := id hG
  have hi : i ≤ K := hm.2.2.2.1
  have hKn := hD.1
  have m10 := hw.1.1
  have e35 : tI τ 35 = (M.length : Int) := ht.1.1
  have REF := m_msgH_eq hD hm (show (tkn I n i).1 ≠ 0 by have := hwd.1; omega) (rec := recM) (d := d) hd1 (p := p) e35 m10
  have wd30 := wdA 30 (by decide)
  dsimp only
  unfold sr_messageb
  refine Rn_eq (fun bb => by rw [bind_some', gd_pos hst.1.1]) ?_
  refine Rn_tB (sr_word_eq hI hst (u := 30) wd30.1 wd30.2) (fun σ' _ hj => ?_) (fun _ σ1 _ hj => ?_)
  · rcases hj with ⟨-, q, -⟩ | ⟨qk, q⟩
    · cases q
    · exact absurd hwd qk
  rcases hj with ⟨-, -, st1, J1⟩ | ⟨-, q⟩
  case inr => cases q
  dsimp only at st1 J1
  have G1 : FR6 σ σ1 := J1.f6 hst.1.1
  have Y1 : FY y σ σ1 := FR.fy J1.1 hya
  have H1 := H.fr G1
  have B1 := B.kp (fun x hx => (H.1 x hx).2) G1.kp
  have C1 := hcn.fr H B G1
  have r1 : sR σ1 86 a = some sd := by rw [J1.2.2.2.2]; exact h86
  have j1s : sS σ1 = sS σ ∧ sC σ1 = sC σ ∧ sZ σ1 = sZ σ := ⟨J1.2.2.1, J1.2.1, J1.2.2.2.1⟩
  have d2 : sc σ1 sd = 2 := B1.1.2.2.1
  by_cases hd : 6 < d
  · have hd' : (6 : Int) < (d : Int) := by omega
    refine Rn_eq (fun bb => by rw [gd_pos (by omega), gd_pos (by exact fun h => absurd hd' h), gd_pos (by exact fun h => absurd hd' h), gd_pos (by exact fun h => absurd hd' h), gd_pos (by exact fun h => absurd hd' h), gd_pos (by exact fun h => absurd hd' h), gd_pos (by exact fun h => absurd hd' h), gd_pos (by exact fun h => absurd hd' h), if_pos (Or.inl hd'), bind_some', gd_pos st1.1.1]) ?_
    exact Rn_srm0 rfl (Or.inl ⟨rfl, FL.make Y1 (by omega) (by omega), REF.2 (Or.inr (Or.inr hd))⟩)
  have hd' : ¬ (6 : Int) < (d : Int) := by omega
  obtain ⟨la, la1, la2, la3, la4, la5, -⟩ := H1.get (k := 17) B1.1.1 (by decide) d2
  have la4 : sc σ1 la = 16 := la4
  have la5 := la5 rfl
  have eL : (L 17 sd).length = M.length := by rw [Q.1.1, List.length_map]
  refine Rn_eq (fun bb => by rw [gd_pos (by omega), gd_pos (by exact fun _ => st1.1.1), r1, show ad (some sd) = sd from rfl, gd_pos (by exact fun _ h => by cases h), gd_pos (by exact fun _ => d2), la1, show ad (some la) = la from rfl, gd_pos (by exact fun _ h => by cases h), gd_pos (by exact fun _ => la4), l_sz la4, gd_pos (by exact fun _ => ok_some _), vv_s, la5.1, eL, gd_pos (by exact fun _ => by omega)]) ?_
  by_cases q10 : M.length = 10
  · refine Rn_eq (fun bb => by rw [if_pos (Or.inr (show (10 : Int) ≤ ((M.length : Nat) : Int) by omega)), bind_some', gd_pos st1.1.1]) ?_
    exact Rn_srm0 rfl (Or.inl ⟨rfl, FL.make Y1 (by omega) (by omega), REF.2 (Or.inr (Or.inl q10))⟩)
  refine Rn_eq (fun bb => by rw [if_neg (show ¬ ((6 : Int) < (d : Int) ∨ (10 : Int) ≤ ((M.length : Nat) : Int)) by omega), bind_some', gd_pos st1.1.1, sr_must1, bind_some', tB_some]) ?_
  refine Rn_nO ?_
  have F2 : ∀ W, FR W σ1 (nO σ1 7 8) := fun W => FR.nO W σ1 7 8
  obtain ⟨σ2, hσ2⟩ : ∃ A, A = nO σ1 7 8 := ⟨_, rfl⟩
  have z2 : sZ σ2 = sZ σ1 + 1 := by rw [hσ2]; rfl
  have s2 : sS σ2 = sS σ1 + 8 := by rw [hσ2]; rfl
  have c2 : sC σ2 = sC σ1 + 1 := by rw [hσ2]; rfl
  have x2 : sc σ2 (sZ σ1) = 7 := by rw [hσ2, sc_nO_, if_pos rfl]
  have i2 : sI σ2 102 (sZ σ1) = 0 := by rw [hσ2, sI_nO_, if_pos rfl]
  have az1 : a < sZ σ1 := st1.1.2.2.2.2.2.2.2.2.2.1
  have bz1 : b < sZ σ1 := st1.1.2.2.2.2.2.2.2.2.2.2
  have r2 : sR σ2 86 a = some sd := by rw [hσ2, sR_nO_, if_neg (by omega)]; exact r1
  rw [← hσ2] at F2 ⊢
  have G2 : FR6 σ1 σ2 := F2 _
  have st2 := st1.fr (F2 (fun _ => False)) (fun h => h) (fun h => h)
  have H2 := H1.fr G2
  have B2 := B1.kp (fun x hx => (H1.1 x hx).2) G2.kp
  have d2' : sc σ2 sd = 2 := B2.1.2.2.1
  obtain ⟨la', ka1, ka2, ka3, ka4, ka5, -⟩ := H2.get (k := 17) B2.1.1 (by decide) d2'
  have ka4 : sc σ2 la' = 16 := ka4
  have ka5 := ka5 rfl
  refine Rn_eq (fun bb => by rw [gd_pos st2.1.1, r2, bind_some', gd_pos d2', ka1, bind_some', gd_pos ka4, l_sz ka4, bind_some', ka5.1, eL]) ?_
  refine Rn_tB (sr_name_eq hI st2) (fun σ' _ hj => ?_) (fun rr σ3 _ hj => ?_)
  · rcases hj with ⟨-, q, -⟩ | ⟨qk, q⟩
    · cases q
    · have eσ : σ' = nX σ2 := congrArg Prod.snd q
      subst eσ
      exact ⟨rfl, Or.inl ⟨rfl, FL.make (Y1.tr (F2 _)) (by omega) (by omega), REF.2 (Or.inl (fun w => qk w.1))⟩⟩
  rcases hj with ⟨qk, qr, st3, F3, z3, rc3, rw3, s3, c3, r3⟩ | ⟨-, q⟩
  case inr => cases q
  have er : rr = some (sZ σ2) := Option.some.inj qr
  subst er
  dsimp only at st3 F3 z3 rc3 rw3 s3 c3 r3
  have wl := word_len qk
  have G3 : FR6 σ2 σ3 := FR.f6 F3 st2.1.1
  have x3 : sc σ3 (sZ σ1) = 7 := by rw [G3.tgE (by omega)]; exact x2
  have i3 : sI σ3 102 (sZ σ1) = 0 := by rw [(G3.sm (by omega) (by rw [x2]; decide)).2.2.2.2.2.2.2.1]; exact i2
  refine Rn_bind (su := id) (mt_init_eq x3 (by omega)) (fun σ4 _ hE4 => ?_)
  have hE4 : MtI (sZ σ1) ((M.length : Nat) : Int) (some (sZ σ2)) (some s) σ3 σ4 := hE4
  obtain ⟨F4, x4, k99, k100, k101, k103, k98, i96, r97, i102, ⟨u1, u2, u3⟩, ⟨u4, u5, u6⟩, ⟨u7, u8, u8'⟩, u9, ⟨t1, t2, t3, t4, t5⟩, t6, z4, s4, c4⟩ := hE4
  show Rn _ σ4 _ _
  have G13 : FR6 σ1 σ3 := G2.tr G3
  have G4 : FR6 σ1 σ4 := FR.tr G13 F4 (fun x hx e => by omega)
  have st4 := st3.fr F4 (by omega) (by omega)
  have Y4 : FY y σ σ4 := Y1.tr (FR.tr (FY.tr (F2 _) (FR.fy F3 hya)) (F4.fy (y := y) (by have := j1s.2.2; omega)) (fun _ _ e => e))
  have v0 := t6 0 (by decide)
  have v1 := t6 1 (by decide)
  have v2 := t6 2 (by decide)
  have val : ∀ x k, (x = sZ σ1 ∨ x = sZ σ3 + 4) → k ∈ HK → sc σ4 x = k / 16 + 1 → ∃ q, sR σ4 k x = some (sZ σ3 + q) ∧ ((x = sZ σ1 ∧ ((k = 98 ∧ q = 4) ∨ (k = 99 ∧ q = 0) ∨ (k = 100 ∧ q = 1) ∨ (k = 101 ∧ q = 2))) ∨ (x = sZ σ3 + 4 ∧ ((k = 33 ∧ q = 5) ∨ (k = 34 ∧ q = 6) ∨ (k = 35 ∧ q = 7)))) := fun x k hx hk hc => by
    rcases hx with e | e <;> subst e
    · rw [x4] at hc
      rcases hk7 k hk hc with e | e | e | e <;> subst e
      · exact ⟨4, k98, Or.inl ⟨rfl, Or.inl ⟨rfl, rfl⟩⟩⟩
      · exact ⟨0, k99, Or.inl ⟨rfl, Or.inr (Or.inl ⟨rfl, rfl⟩)⟩⟩
      · exact ⟨1, k100, Or.inl ⟨rfl, Or.inr (Or.inr (Or.inl ⟨rfl, rfl⟩))⟩⟩
      · exact ⟨2, k101, Or.inl ⟨rfl, Or.inr (Or.inr (Or.inr ⟨rfl, rfl⟩))⟩⟩
    · rw [t1] at hc
      rcases hk3 k hk hc with e | e | e <;> subst e
      · exact ⟨5, t2, Or.inr ⟨rfl, Or.inl ⟨rfl, rfl⟩⟩⟩
      · exact ⟨6, t3, Or.inr ⟨rfl, Or.inr (Or.inl ⟨rfl, rfl⟩)⟩⟩
      · exact ⟨7, t4, Or.inr ⟨rfl, Or.inr (Or.inr ⟨rfl, rfl⟩)⟩⟩
  have H4 : HVw y σ4 (fun x => ob x ∨ (x = sZ σ1 ∨ x = sZ σ3 + 4)) (lowL L (sZ σ1)) := by
    refine HVw.new H1 G4 (by have := j1s.2.2; omega) (fun x hx => by omega) (fun x k hx hk hc => ?_) (fun x x' k k' hx hx' hk hk' hc hc' e => ?_) (fun k x hx => lowL_l hx) (fun k x hx => lowL_h (by omega))
    · obtain ⟨q, e1, e2⟩ := val x k hx hk hc
      refine ⟨sZ σ3 + q, e1, by omega, by omega, ?_⟩
      rcases e2 with ⟨e3, ⟨e4, e5⟩ | ⟨e4, e5⟩ | ⟨e4, e5⟩ | ⟨e4, e5⟩⟩ | ⟨e3, ⟨e4, e5⟩ | ⟨e4, e5⟩ | ⟨e4, e5⟩⟩ <;> subst e4 <;> subst e5
      · exact ⟨t1, fun h => (by cases h), fun h => (by cases h)⟩
      · exact ⟨u1, fun _ => ⟨u2, by show sN σ4 (sZ σ3) ≤ 10; omega⟩, fun h => (by cases h)⟩
      · exact ⟨u4, fun _ => ⟨u5, by omega⟩, fun h => (by cases h)⟩
      · exact ⟨u7, fun h => (by cases h), fun _ => ⟨u8, fun q => by rw [u8']⟩⟩
      · exact ⟨v0.1, fun _ => ⟨v0.2.1, by have := v0.2.2; show sN σ4 (sZ σ3 + 5) ≤ 10; exact Nat.le_trans (Nat.le_of_eq this) (by decide)⟩, fun h => (by cases h)⟩
      · exact ⟨v1.1, fun _ => ⟨v1.2.1, by have := v1.2.2; exact Nat.le_trans (Nat.le_of_eq this) (by decide)⟩, fun h => (by cases h)⟩
      · exact ⟨v2.1, fun _ => ⟨v2.2.1, by have := v2.2.2; exact Nat.le_trans (Nat.le_of_eq this) (by decide)⟩, fun h => (by cases h)⟩
    · obtain ⟨q, e1, e2⟩ := val x k hx hk hc
      obtain ⟨q', e1', e2'⟩ := val x' k' hx' hk' hc'
      rw [e1, e1'] at e
      have eq := Option.some.inj e
      clear hx hx' hk hk' hc hc' e1 e1' e val t6
      constructor <;> omega
  have hlow := B1.low H1 (Nat.le_refl _)
  have B4 : OBS y σ4 I n (fun x => ob x ∨ (x = sZ σ1 ∨ x = sZ σ3 + 4)) (lowL L (sZ σ1)) sd root M E V F O N := ((B1.kp (fun x hx => (H1.1 x hx).2) G4.kp).cg (fun x hx => lowL_l (H1.1 x hx).2)).mo (fun x hx => Or.inl hx)
  have C4 := C1.fr H1 B1 G4
  have Q4 := Q.low hlow
  have r4 : sR σ4 86 a = some sd := by
    rw [((F4.2 a (by omega)).2 (by omega)).2.2.2.2.2.2.2.2.2, r3]; exact r2
  have Rr4 : Rt y σ4 (sZ σ2) (tkX I (tkn I n (i + 1))) := by
    exact ⟨by have := j1s.2.2; omega, by omega, by rw [(F4.2 _ z3).1]; exact rc3, by rw [((F4.2 _ z3).2 (by omega)).1]; exact rw3⟩
  have d4 : sc σ4 sd = 2 := B4.1.2.2.1
  obtain ⟨lb, lb1, lb2, lb3, lb4, lb5, -⟩ := H4.get (k := 17) B4.1.1 (by decide) d4
  have lb4 : sc σ4 lb = 16 := lb4
  have lb5 := lb5 rfl
  rw [lowL_l hlow.1] at lb5
  have oX : (fun x => ob x ∨ (x = sZ σ1 ∨ x = sZ σ3 + 4)) (sZ σ1) := Or.inr (Or.inl rfl)
  have oS : (fun x => ob x ∨ (x = sZ σ1 ∨ x = sZ σ3 + 4)) (sZ σ3 + 4) := Or.inr (Or.inr rfl)
  refine Rn_eq (fun bb => by rw [gd_pos st4.1.1, r4, bind_some', gd_pos d4, lb1, bind_some', gd_pos lb4]) ?_
  refine Rn_bind (su := fun r : Int × ST => r.2) (rn_ladd lb4 (Or.inr (Or.inl x4)) (by rw [lb5.1]; omega) (by rw [lb5.1]; exact lb5.2)) (fun y5 _ A5 => ?_)
  obtain ⟨i5, σ5⟩ := y5
  dsimp only at A5 ⊢
  have H5 := H4.add B4.1.1 (by decide) d4 rfl lb1 A5
  have B5 := B4.kp (fun x hx => (H4.1 x hx).2) A5.kp
  have C5 := C4.la A5
  have ne5 := st4.ne lb4 (by decide) (by decide)
  have st5 := st4.la A5 ne5.1 ne5.2
  have r5 : sR σ5 86 a = some sd := by rw [A5.2.2.1]; exact r4
  have Y5 : FY y σ σ5 := Y4.tr (FR.fy A5.2.2.2.2.2.2.2.2.1 lb2)
  have Rr5 := Rr4.kp A5.kp
  have x5 : sc σ5 (sZ σ1) = 7 := by rw [A5.1]; exact x4
  have sl := hlow.2.1 p s hs
  obtain ⟨os5, os35⟩ := B5.sc3 hs
  obtain ⟨lc, lc1, lc2, lc3, lc4, lc5, -⟩ := H5.get (k := 33) os5 (by decide) os35
  have lc4 : sc σ5 lc = 16 := lc4
  have lc5 := lc5 rfl
  rw [updL_k (by decide), lowL_l sl] at lc5
  have l33 : (L 33 s).length ≤ 9 := by
    rw [(Q.2.1 p s hs).1, List.length_map]
    refine Nat.le_trans (List.length_filter_le _ _) ?_
    omega
  refine Rn_eq (fun bb => by rw [bind_some', gd_pos os35, lc1, bind_some', gd_pos lc4]) ?_
  refine Rn_bind (su := fun r : Int × ST => r.2) (rn_ladd lc4 (Or.inr (Or.inl x5)) (by rw [lc5.1]; omega) (by rw [lc5.1]; exact lc5.2)) (fun y6 _ A6 => ?_)
  obtain ⟨i6, σ6⟩ := y6
  dsimp only at A6 ⊢
  have H6 := H5.add os5 (by decide) os35 rfl lc1 A6
  have B6 := B5.kp (fun x hx => (H5.1 x hx).2) A6.kp
  have C6 := C5.la A6
  have ne6 := st5.ne lc4 (by decide) (by decide)
  have st6 := st5.la A6 ne6.1 ne6.2
  have r6 : sR σ6 86 a = some sd := by rw [A6.2.2.1]; exact r5
  have Y6 : FY y σ σ6 := Y5.tr (FR.fy A6.2.2.2.2.2.2.2.2.1 lc2)
  have Rr6 := Rr5.kp A6.kp
  have x6 : sc σ6 (sZ σ1) = 7 := by rw [A6.1]; exact x5
  have r97' : sR σ6 97 (sZ σ1) = some (sZ σ2) := by rw [A6.2.2.1, A5.2.2.1]; exact r97
  obtain ⟨os6, os36⟩ := B6.sc3 hs
  obtain ⟨ld, ld1, ld2, ld3, ld4, ld5, -⟩ := H6.get (k := 35) os6 (by decide) os36
  have ld4 : sc σ6 ld = 16 := ld4
  have ld5 := ld5 rfl
  rw [updL_k (by decide), updL_k (by decide), lowL_l sl] at ld5
  have l35 : (L 35 s).length ≤ 56 := by
    rw [(Q.2.1 p s hs).2.2, List.length_map]
    refine Nat.le_trans (List.length_filter_le _ _) ?_
    rw [hw.len]
    have := hw.1
    omega
  refine Rn_eq (fun bb => by rw [gd_pos os36, gd_pos x6, ld1, bind_some', gd_pos ld4, r97']) ?_
  refine Rn_bind (su := fun r : Int × ST => r.2) (rn_ladd ld4 (Or.inl Rr6.2.2.1) (by rw [ld5.1]; omega) (by rw [ld5.1]; exact ld5.2)) (fun y7 _ A7 => ?_)
  obtain ⟨i7, σ7⟩ := y7
  dsimp only at A7 ⊢
  have H7 := H6.add os6 (by decide) os36 rfl ld1 A7
  have B7 := B6.kp (fun x hx => (H6.1 x hx).2) A7.kp
  have C7 := C6.la A7
  have ne7 := st6.ne ld4 (by decide) (by decide)
  have st7 := st6.la A7 ne7.1 ne7.2
  have r7 : sR σ7 86 a = some sd := by rw [A7.2.2.1]; exact r6
  have Y7 : FY y σ σ7 := Y6.tr (FR.fy A7.2.2.2.2.2.2.2.2.1 ld2)
  have Rr7 := Rr6.kp A7.kp
  have cs5 : sS σ5 ≤ sS σ4 + 30 ∧ sC σ5 ≤ sC σ4 + 1 := by
    obtain ⟨-, -, -, -, -, -, -, -, -, w1, w2⟩ := A5
    rw [lb5.1] at w1
    exact ⟨by omega, w2⟩
  have cs6 : sS σ6 ≤ sS σ5 + 28 ∧ sC σ6 ≤ sC σ5 + 1 := by
    obtain ⟨-, -, -, -, -, -, -, -, -, w1, w2⟩ := A6
    rw [lc5.1] at w1
    exact ⟨by omega, w2⟩
  have cs7 : sS σ7 ≤ sS σ6 + 122 ∧ sC σ7 ≤ sC σ6 + 1 := by
    obtain ⟨-, -, -, -, -, -, -, -, -, w1, w2⟩ := A7
    rw [ld5.1] at w1
    exact ⟨by omega, w2⟩
  have b0 := tkn_bd I n i
  have b1 := tkn_bd I n (i + 1)
  have b2 := tkn_bd I n (i + 2)
  have m0 : (tkn I n i).2.2 ≤ (tkn I n (i + 1)).2.1 := tkn_mono I n i
  have m1 : (tkn I n (i + 1)).2.2 ≤ (tkn I n (i + 2)).2.1 := tkn_mono I n (i + 1)
  have m2 : (tkn I n (i + 2)).2.2 ≤ (tkn I n (i + 3)).2.1 := tkn_mono I n (i + 2)
  have T7 : sS σ7 ≤ sS σ + 247 + 4 * ((tkn I n (i + 1)).2.2 - (tkn I n (i + 1)).2.1) ∧ sC σ7 ≤ sC σ + 20 := by
    clear val t6 v0 v1 v2
    omega
  clear val t6 v0 v1 v2 cs5 cs6 cs7 s2 s3 s4 c2 c3 c4
  refine Rn_eq (fun bb => by rw [gd_pos st7.1.1]) ?_
  refine Rn_tB (sr_sign_eq hI st7 (x := 123) (by omega)) (fun σ' _ hj => ?_) (fun _ σ8 _ hj => ?_)
  · rcases hj with ⟨-, q, -⟩ | ⟨qk, q⟩
    · cases q
    · have eσ : σ' = nX σ7 := congrArg Prod.snd q
      subst eσ
      exact ⟨rfl, Or.inl ⟨rfl, FL.make Y7 (by omega) (by omega), REF.2 (Or.inl (fun w => qk w.2))⟩⟩
  rcases hj with ⟨qk8, -, st8, J8⟩ | ⟨-, q⟩
  case inr => cases q
  dsimp only at st8 J8
  have G8 : FR6 σ7 σ8 := J8.f6 st7.1.1
  have Y8 : FY y σ σ8 := Y7.tr (FR.fy J8.1 hya)
  have r8 : sR σ8 86 a = some sd := by rw [J8.2.2.2.2]; exact r7
  have j8s : sS σ8 = sS σ7 ∧ sC σ8 = sC σ7 := ⟨J8.2.2.1, J8.2.1⟩
  obtain ⟨τ1, eR, hm1, U1⟩ := REF.1 ⟨qk, qk8⟩ (by omega) (by omega)
  have hi4 : i + 3 ≤ K := hm1.2.2.2.1
  have TK : TF KP τ τ1 := U1.1.kp (by decide) (by decide)
  have lM : (M ++ [(sZ σ1, sZ σ3 + 4, i + 1, p)]).length = M.length + 1 := by rw [List.length_append]; rfl
  rw [updL_k (show (33 : Nat) ≠ 17 by decide)] at H6
  rw [updL_k (show (33 : Nat) ≠ 17 by decide), updL_k (show (35 : Nat) ≠ 33 by decide), updL_k (show (35 : Nat) ≠ 17 by decide)] at H7
  have xz := (H7.1 _ oX).2
  have sz := (H7.1 _ oS).2
  have rX8 : ∀ k, sR σ8 k (sZ σ1) = sR σ4 k (sZ σ1) := fun k => by rw [(G8.sm xz (by rw [A7.1, x6]; decide)).2.2.2.2.2.2.2.2.2, A7.2.2.1, A6.2.2.1, A5.2.2.1]
  have iX8 : ∀ k, sI σ8 k (sZ σ1) = sI σ4 k (sZ σ1) := fun k => by rw [(G8.sm xz (by rw [A7.1, x6]; decide)).2.2.2.2.2.2.2.1, A7.2.1, A6.2.1, A5.2.1]
  have sS3 : sc σ7 (sZ σ3 + 4) = 3 := by rw [A7.1, A6.1, A5.1]; exact t1
  have rS8 : ∀ k, sR σ8 k (sZ σ3 + 4) = sR σ4 k (sZ σ3 + 4) := fun k => by rw [(G8.sm sz (by rw [sS3]; decide)).2.2.2.2.2.2.2.2.2, A7.2.2.1, A6.2.2.1, A5.2.2.1]
  have P8 : PG I n K a b y sd root s0 c0 (i + 3) (i + 3) (M ++ [(sZ σ1, sZ σ3 + 4, i + 1, p)]) E V F O R (N ++ [(sZ σ2, i + 1, p)]) σ8 τ1 := by
    refine ⟨hm1, ht.addM U1 _ _, st8, r8, by have := Y8.1.1; omega, hw.addM (by omega) ⟨hp1, hp2⟩ qk (by omega), ⟨_, _, H7.fr G8, Q4.addM hw hs hp2 (fun p' s' h1 h2 => B.sinj H hs h1 h2) (by omega) ⟨lowL_h (by omega), lowL_h (by omega), lowL_h (by omega)⟩ ⟨lowL_h (by omega), lowL_h (by omega), lowL_h (by omega)⟩, ?_⟩, (C7.fr H7 B7 G8).addM ?_ (fun r hr => (hw.2.2.2.2.2.2.1 r hr).1), ?_, ?_⟩
    · refine OBS.cg (L := lowL L (sZ σ1)) ?_ (fun x _ => by rw [updL_k (by decide), updL_k (by decide), updL_k (by decide)])
      refine OBS.addM (R := R) (B7.kp (fun x hx => (H7.1 x hx).2) G8.kp) hw hs oX oS ?_ ?_ ?_ (Rr7.kp G8.kp) ?_ ?_ ?_ ⟨sZ σ3 + 3, ?_, ?_, ?_, ?_⟩
      · rw [G8.tgE xz, A7.1]; exact x6
      · rw [iX8]; exact i96
      · rw [rX8]; exact r97
      · rw [rX8]; exact k98
      · rw [G8.tgE sz]; exact sS3
      · rw [rS8]; exact t5
      · rw [rX8]; exact k103
      · have := j1s.2.2; omega
      · have := G8.1.1; omega
      · rw [G8.tgE (by omega), A7.1, A6.1, A5.1]; exact u9
    · rw [iX8, i102]; exact i3
    · unfold Om at hS ⊢
      rw [lM]
      omega
    · unfold Oc at hC ⊢
      rw [lM]
      omega
  have LP := msg_loop hG (hrec (by omega)) (m := (sZ σ1, sZ σ3 + 4, i + 1, p)) FU FU K (i + 3) _ E V F O R _ σ8 τ1 (by omega) P8 (gq_new M _) (FU_gt (by omega)) (FU_gt (by omega))
  refine Rn_bind (su := Sum.elim (fun r : Option Unit × ST => r.2) id) LP (fun r9 _ h9 => ?_)
  rcases h9 with ⟨σ', w1, w2, w3⟩ | ⟨σ9, τ', M', E', V', F', O', R', N', i', w1, w2, w3, w4, w5, w6, ⟨A, wA⟩, w7⟩
  · subst w1
    refine Rn_some (Le.refl _) (Or.inl ⟨rfl, FL.tr Y8 w2, ?_⟩)
    rw [eR]; exact MB.tk TK w3
  · subst w1
    show Rn (fun r : Option Unit × ST => r.2) σ9 (fun bb => gd (sc σ9 a = 6) (Option.bind (sr_next bb a σ9) fun y67 => some ((some (), y67)))) _
    obtain ⟨v1, v2, v3, v4, v5, v6, v7, v8, v9, vA⟩ := w7
    obtain ⟨Z, q1, q2, q3⟩ := sr_next_k hI v3
    refine Rn_eq (G := fun bb => some ((some () : Option Unit), Z)) (fun bb => by rw [gd_pos v3.1.1, q1 bb, bind_some']) ?_
    have GZ : FR6 σ9 Z := q3.f6 v3.1.1
    obtain ⟨ob9, L9, H9, Q9, B9⟩ := v7
    have mm := tkn_mono I n i'
    have bb' := tkn_bd I n i'
    refine Rn_some q3.le (Or.inr ⟨τ', M', E', V', F', O', R', N', i' + 1, rfl, by rw [eR]; exact w2, by omega, (Y8.tr w5).tr (FR.fy q3.1 hya), TK.tr w6 (fun _ u => u), ⟨_, by rw [wA, List.append_assoc]⟩, v1, v2, q2, by rw [q3.2.2.2.2]; exact v4, by have := q3.2.2.2.1; show y ≤ sZ Z; omega, v6, ⟨ob9, L9, H9.fr GZ, Q9, B9.kp (fun x hx => (H9.1 x hx).2) GZ.kp⟩, v8.fr H9 B9 GZ, ?_, ?_⟩)
    · show sS Z ≤ _
      rw [q3.2.2.1]
      unfold Om at v9 ⊢
      omega
    · show sC Z ≤ _
      rw [q3.2.1]
      unfold Oc at vA ⊢
      omega
theorem msg_all (hG : GR I n K a b y) : ∀ (k n1 n2 d : Nat), d + k = 7 → k < n1 → k < n2 → MsC I n K a b y sd root s0 c0 d (fun bb => sr_message bb n1) (m_readMessage n2)
  | k, 0, n2, d, _, h, _ => by omega
  | k, n1 + 1, 0, d, _, _, h => by omega
  | 0, n1 + 1, n2 + 1, d, hd, _, _ => msgb_eq hG (recS := fun bb => sr_message bb n1) (recM := m_readMessage n2) (by omega) (fun h => by omega)
  | k + 1, n1 + 1, n2 + 1, d, hd, h1, h2 => msgb_eq hG (recS := fun bb => sr_message bb n1) (recM := m_readMessage n2) (by omega) (fun _ => msg_all hG k n1 n2 (d + 1) (by omega) (by omega) (by omega))
end Mt
