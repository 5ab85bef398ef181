set_option maxRecDepth 100000
/-! SCHEMAS, READ: oneofs and reserved numbers, on both sides -/
section Pq
variable {y n a b K sd root s0 c0 i ms : Nat} {I : Nat → Nat} {M : List TyM} {E : List TyE} {V : List TyV} {F : List TyF} {O : List TyO} {R : List TyR} {N : List TyN} {σ σ' : ST} {τ : TT} {m : TyM}
theorem wd32 : slen 32 ≤ 100 ∧ ∀ j, j < slen 32 → sch 32 j < 128 := by decide +kernel
theorem oneof_eq (hG : GR I n K a b y) (hP : PG I n K a b y sd root s0 c0 i i M E V F O R N σ τ) (hwd : wrd I n i 32) (hms : M[ms]? = some m) :
    Rn (fun r : Option Unit × ST => r.2) σ (fun bb => sr_oneof bb a (some m.1) σ) (fun r => (r.1 = none ∧ FL y s0 c0 σ r.2 ∧ MB τ (m_readOneof (ms : Int) τ)) ∨ ∃ τ' F' O' i', r.1 = some () ∧ m_readOneof (ms : Int) τ = some τ' ∧ i < i' ∧ FY y σ r.2 ∧ TF KP τ τ' ∧ PG I n K a b y sd root s0 c0 i' i' M E V F' O' R N r.2 τ') := by
  obtain ⟨hm, ht, hst, h86, hy, hw, ⟨ob, L, H, Q, B⟩, hcn, hS, hC⟩ := hP
  have om := Om_le hG hw hm.2.2.2.1
  obtain ⟨hD, hI, hn, hya, hby⟩ := id hG
  have hi : i ≤ K := hm.2.2.2.1
  have hKn := hD.1
  have o12 := hw.1.2.2.2.2.1
  have e39 : tI τ 39 = (O.length : Int) := ht.1.2.2.2.2.1
  have REF := m_oneofH_eq hD hm (show (tkn I n i).1 ≠ 0 by have := hwd.1; omega) (p := (ms : Int)) e39 o12
  unfold sr_oneof
  refine Rn_gd hst.1.1 ?_
  refine Rn_tB (sr_word_eq hI hst (u := 32) wd32.1 wd32.2) (fun σ' _ hj => ?_) (fun _ σ1 _ hj => ?_)
  · rcases hj with ⟨-, q, -⟩ | ⟨qk, q⟩
    · cases q
    · exact absurd hwd qk
  rcases hj with ⟨-, -, st1, J1⟩ | ⟨-, q⟩
  case inr => cases q
  dsimp only at st1 J1
  have G1 : FR6 σ σ1 := J1.f6 hst.1.1
  have Y1 : FY y σ σ1 := FR.fy J1.1 hya
  have H1 := H.fr G1
  have B1 := B.kp (fun x hx => (H.1 x hx).2) G1.kp
  have C1 := hcn.fr H B G1
  have r1 : sR σ1 86 a = some sd := by rw [J1.2.2.2.2]; exact h86
  have j1s : sS σ1 = sS σ ∧ sC σ1 = sC σ ∧ sZ σ1 = sZ σ := ⟨J1.2.2.1, J1.2.1, J1.2.2.2.1⟩
  have d2 : sc σ1 sd = 2 := B1.1.2.2.1
  refine Rn_eq (fun bb => by rw [gd_pos st1.1.1, r1, bind_some', gd_pos d2, C1.2.1, gd_pos (by omega)]) ?_
  by_cases q12 : O.length = 12
  · refine Rn_eq (fun bb => by rw [if_pos (show (12 : Int) ≤ ((O.length : Nat) : Int) by omega), bind_some']) ?_
    exact Rn_srm0 rfl (Or.inl ⟨rfl, FL.make Y1 (by omega) (by omega), REF.2 (Or.inr q12)⟩)
  obtain ⟨om1, om2, om7, -⟩ := B1.2.1 ms m hms
  refine Rn_eq (fun bb => by rw [if_neg (show ¬ (12 : Int) ≤ ((O.length : Nat) : Int) by omega), bind_some', sr_must1, bind_some', tB_some, gd_pos st1.1.1, r1, bind_some', gd_pos d2, nm_eq, nm_eq, C1.2.1, bind_some']) ?_
  obtain ⟨σ2, hσ2⟩ : ∃ X, X = pI σ1 21 sd ((O.length : Int) + 1) := ⟨_, rfl⟩
  rw [← hσ2]
  have hsd := H1.1 sd B1.1.1
  have F2 : FR (fun x => x = sd) σ1 σ2 := by rw [hσ2]; exact FR.at1 (at_pI σ1 21 sd _) rfl
  have ne2 := st1.ne d2 (by decide) (by decide)
  have st2 : STk σ2 a b I n (tkn I n (i + 1)) := st1.fr F2 ne2.1 ne2.2
  have H2 : HVw y σ2 ob L := by rw [hσ2]; exact H1.setI 21 sd _
  have B2 : OBS y σ2 I n ob L sd root M E V F O N := B1.kp (fun x hx => (H1.1 x hx).2) (by rw [hσ2]; exact Kp.setI σ1 (by decide) sd _)
  have z2 : sZ σ2 = sZ σ1 := by rw [hσ2]; rfl
  have s2 : sS σ2 = sS σ1 := by rw [hσ2]; rfl
  have c2 : sC σ2 = sC σ1 := by rw [hσ2]; rfl
  have r2 : sR σ2 86 a = some sd := by rw [hσ2]; exact r1
  have Y2 : FY y σ σ2 := Y1.tr (F2.fy hsd.1)
  have C2 : CNT σ2 sd M V (O ++ [(sZ σ2, i + 1, ms)]) R := by
    obtain ⟨k1, k2, k3, k4⟩ := C1
    refine ⟨by rw [hσ2, sI_pI, if_neg (by omega)]; exact k1, by rw [hσ2, sI_pI, if_pos ⟨rfl, rfl⟩, List.length_append]; rfl, by rw [hσ2, sI_pI, if_neg (by omega)]; exact k3, fun j m hm => by rw [hσ2, sI_pI, if_neg (by omega)]; exact k4 j m hm⟩
  have om72 : sc σ2 m.1 = 7 := by rw [hσ2]; exact om7
  refine Rn_le F2.1 ?_
  refine Rn_eq (fun bb => by rw [gd_pos om72, gd_pos st2.1.1]) ?_
  refine Rn_tB (sr_name_eq hI st2) (fun σ' _ hj => ?_) (fun rr σ3 _ hj => ?_)
  · rcases hj with ⟨-, q, -⟩ | ⟨qk, q⟩
    · cases q
    · have eσ : σ' = nX σ2 := congrArg Prod.snd q
      subst eσ
      exact ⟨rfl, Or.inl ⟨rfl, FL.make Y2 (by omega) (by omega), REF.2 (Or.inl (fun w => qk w.1))⟩⟩
  rcases hj with ⟨qk, qr, st3, F3, z3, rc3, rw3, s3, c3, r3⟩ | ⟨-, q⟩
  case inr => cases q
  have er : rr = some (sZ σ2) := Option.some.inj qr
  subst er
  dsimp only at st3 F3 z3 rc3 rw3 s3 c3 r3
  have wl := word_len qk
  have G3 : FR6 σ2 σ3 := FR.f6 F3 st2.1.1
  have Y3 : FY y σ σ3 := Y2.tr (FR.fy F3 hya)
  have H3 := H2.fr G3
  have B3 := B2.kp (fun x hx => (H2.1 x hx).2) G3.kp
  have C3 := C2.fr H2 B2 G3
  have r3' : sR σ3 86 a = some sd := by rw [r3]; exact r2
  obtain ⟨la, la1, la2, la3, la4, la5, -⟩ := H2.get (k := 100) om1 (by decide) om72
  have la4 : sc σ2 la = 16 := la4
  have la5 := la5 rfl
  have om73 : sc σ3 m.1 = 7 := by rw [G3.tgE (H2.1 _ om1).2]; exact om72
  have ka1 : sR σ3 100 m.1 = some la := by rw [(G3.sm (H2.1 _ om1).2 (by rw [om72]; decide)).2.2.2.2.2.2.2.2.2]; exact la1
  have ka4 : sc σ3 la = 16 := by rw [G3.tgE la3]; exact la4
  have kas := G3.sm la3 (by rw [la4]; decide)
  have ka5 : sA σ3 la = L 100 m.1 := by rw [kas.2.1]; exact la5.1
  have ka6 : sN σ3 la ≤ 10 + 2 * (L 100 m.1).length := by rw [kas.2.2.1]; exact la5.2
  have l100 : (L 100 m.1).length ≤ 11 := by
    rw [(Q.2.2.1 ms m hms).2.1, List.length_map]
    refine Nat.le_trans (List.length_filter_le _ _) ?_
    omega
  refine Rn_eq (fun bb => by rw [la1, bind_some', gd_pos ka4]) ?_
  refine Rn_bind (su := fun r : Int × ST => r.2) (rn_ladd ka4 (Or.inl rc3) (by rw [ka5]; omega) (by rw [ka5]; exact ka6)) (fun y4 _ A4 => ?_)
  obtain ⟨i4, σ4⟩ := y4
  dsimp only at A4 ⊢
  have H4 := H3.add om1 (by decide) om73 rfl ka1 A4
  have B4 := B3.kp (fun x hx => (H3.1 x hx).2) A4.kp
  have C4 := C3.la A4
  have ne4 := st3.ne ka4 (by decide) (by decide)
  have st4 := st3.la A4 ne4.1 ne4.2
  have r4 : sR σ4 86 a = some sd := by rw [A4.2.2.1]; exact r3'
  have Y4 : FY y σ σ4 := Y3.tr (FR.fy A4.2.2.2.2.2.2.2.2.1 la2)
  have Rr4 : Rt y σ4 (sZ σ2) (tkX I (tkn I n (i + 1))) := Rt.kp (σ := σ3) ⟨by omega, z3, rc3, rw3⟩ A4.kp
  have cs4 : sS σ4 ≤ sS σ3 + 32 ∧ sC σ4 ≤ sC σ3 + 1 := by
    obtain ⟨-, -, -, -, -, -, -, -, -, w1, w2⟩ := A4
    rw [ka5] at w1
    exact ⟨by omega, w2⟩
  have b0 := tkn_bd I n i
  have b1 := tkn_bd I n (i + 1)
  have b2 := tkn_bd I n (i + 2)
  have m0 : (tkn I n i).2.2 ≤ (tkn I n (i + 1)).2.1 := tkn_mono I n i
  have m1 : (tkn I n (i + 1)).2.2 ≤ (tkn I n (i + 2)).2.1 := tkn_mono I n (i + 1)
  have m2 : (tkn I n (i + 2)).2.2 ≤ (tkn I n (i + 3)).2.1 := tkn_mono I n (i + 2)
  refine Rn_eq (fun bb => by rw [gd_pos st4.1.1]) ?_
  refine Rn_tB (sr_sign_eq hI st4 (x := 123) (by omega)) (fun σ' _ hj => ?_) (fun _ σ8 _ hj => ?_)
  · rcases hj with ⟨-, q, -⟩ | ⟨qk, q⟩
    · cases q
    · have eσ : σ' = nX σ4 := congrArg Prod.snd q
      subst eσ
      exact ⟨rfl, Or.inl ⟨rfl, FL.make Y4 (by omega) (by omega), REF.2 (Or.inl (fun w => qk w.2))⟩⟩
  rcases hj with ⟨qk8, -, st8, J8⟩ | ⟨-, q⟩
  case inr => cases q
  dsimp only at st8 J8
  have G8 : FR6 σ4 σ8 := J8.f6 st4.1.1
  have Y8 : FY y σ σ8 := Y4.tr (FR.fy J8.1 hya)
  have r8 : sR σ8 86 a = some sd := by rw [J8.2.2.2.2]; exact r4
  have j8s : sS σ8 = sS σ4 ∧ sC σ8 = sC σ4 := ⟨J8.2.2.1, J8.2.1⟩
  obtain ⟨τ1, eR, hm1, U1⟩ := REF.1 ⟨qk, qk8⟩ (by omega)
  have hi4 : i + 3 ≤ K := hm1.2.2.2.1
  have TK : TF KP τ τ1 := U1.1.kp (by decide) (by decide)
  have lO : (O ++ [(sZ σ2, i + 1, ms)]).length = O.length + 1 := by rw [List.length_append]; rfl
  have P8 : PG I n K a b y sd root s0 c0 (i + 3) (i + 3) M E V F (O ++ [(sZ σ2, i + 1, ms)]) R N σ8 τ1 := by
    refine ⟨hm1, ht.addO U1 _, st8, r8, by have := Y8.1.1; omega, hw.addO (by omega) ⟨gq_lt hms, qk, by show i + 1 ≤ n; omega⟩, ⟨_, _, H4.fr G8, Q.addO hms rfl (fun j m' h1 h2 => B.minj hms h1 h2), ?_⟩, C4.fr H4 B4 G8, ?_, ?_⟩
    · exact OBS.cg (L := L) (OBS.addO (B4.kp (fun x hx => (H4.1 x hx).2) G8.kp) (Rr4.kp G8.kp)) (fun x _ => by rw [updL_k (by decide)])
    · unfold Om at hS ⊢
      rw [lO]
      omega
    · unfold Oc at hC ⊢
      rw [lO]
      omega
  have LP := oneof_loop hG hms (gq_new O (sZ σ2, i + 1, ms)) FU FU K (i + 3) F σ8 τ1 (by omega) P8 (FU_gt (by omega)) (FU_gt (by omega))
  refine Rn_bind (su := Sum.elim (fun r : Option Unit × ST => r.2) id) LP (fun r9 _ h9 => ?_)
  rcases h9 with ⟨σ', w1, w2, w3⟩ | ⟨σ9, τ', F', i', w1, w2, w3, w4, w5, w6, w7⟩
  · subst w1
    refine Rn_some (Le.refl _) (Or.inl ⟨rfl, FL.tr Y8 w2, ?_⟩)
    rw [eR]; exact MB.tk TK w3
  · subst w1
    show Rn (fun r : Option Unit × ST => r.2) σ9 (fun bb => gd (sc σ9 a = 6) (Option.bind (sr_next bb a σ9) fun y67 => some ((some (), y67)))) _
    obtain ⟨v1, v2, v3, v4, v5, v6, v7, v8, v9, vA⟩ := w7
    obtain ⟨Z, q1, q2, q3⟩ := sr_next_k hI v3
    refine Rn_eq (G := fun bb => some ((some () : Option Unit), Z)) (fun bb => by rw [gd_pos v3.1.1, q1 bb, bind_some']) ?_
    have GZ : FR6 σ9 Z := q3.f6 v3.1.1
    obtain ⟨ob9, L9, H9, Q9, B9⟩ := v7
    have mm := tkn_mono I n i'
    have bb' := tkn_bd I n i'
    refine Rn_some q3.le (Or.inr ⟨τ', F', _, i' + 1, rfl, by rw [eR]; exact w2, by omega, (Y8.tr w5).tr (FR.fy q3.1 hya), TK.tr w6 (fun _ u => u), v1, v2, q2, by rw [q3.2.2.2.2]; exact v4, by have := q3.2.2.2.1; show y ≤ sZ Z; omega, v6, ⟨ob9, L9, H9.fr GZ, Q9, B9.kp (fun x hx => (H9.1 x hx).2) GZ.kp⟩, v8.fr H9 B9 GZ, ?_, ?_⟩)
    · show sS Z ≤ _
      rw [q3.2.2.1]
      unfold Om at v9 ⊢
      omega
    · show sC Z ≤ _
      rw [q3.2.1]
      unfold Oc at vA ⊢
      omega
theorem res_loop (hG : GR I n K a b y) (hms : M[ms]? = some m) : ∀ (N1 N2 c j : Nat) (R : List TyR) (σ : ST) (τ : TT), K - j ≤ c → PG I n K a b y sd root s0 c0 j (j + 1) M E V F O R N σ τ → c + 1 < N1 → c + 1 < N2 →
    Rn (Sum.elim (fun r : Option Unit × ST => r.2) id) σ (fun bb => sr_reserve_L0 bb a (some m.1) N1 σ) (fun r => (∃ σ' τ', r = Sum.inl (none, σ') ∧ FL y s0 c0 σ σ' ∧ m_readReserved_L10 (ms : Int) N2 τ = some (Sum.inl τ') ∧ BAD τ τ') ∨ ∃ σ' τ' R' j', r = Sum.inr σ' ∧ m_readReserved_L10 (ms : Int) N2 τ = some (Sum.inr τ') ∧ j < j' ∧ FY y σ σ' ∧ TF KP τ τ' ∧ PG I n K a b y sd root s0 c0 j' j' M E V F O R' N σ' τ')
  | 0, N2, c, j, R, σ, τ, _, _, h, _ => by omega
  | N1 + 1, 0, c, j, R, σ, τ, _, _, _, h => by omega
  | N1 + 1, N2 + 1, c, j, R, σ, τ, hc, hP, f1, f2 => by
    obtain ⟨hm, ht, hst, h86, hy, hw, ⟨ob, L, H, Q, B⟩, hcn, hS, hC⟩ := hP
    obtain ⟨hD, hI, hn, hya, hby⟩ := id hG
    have hj1 : j + 1 ≤ K := hm.2.2.2.1
    have om := Om_le (i := j) hG hw (by omega)
    have hKn := hD.1
    have r30 := hw.1.2.2.2.2.2
    have e40 : tI τ 40 = (R.length : Int) := ht.1.2.2.2.2.2
    have REF := m_res_eq hD hm (u := (ms : Int)) (N := N2) e40 r30
    obtain ⟨σ1, n1, st1, J1⟩ := sr_next_k hI hst
    have G1 : FR6 σ σ1 := J1.f6 hst.1.1
    have Y1 : FY y σ σ1 := FR.fy J1.1 hya
    have H1 := H.fr G1
    have B1 := B.kp (fun x hx => (H.1 x hx).2) G1.kp
    have C1 := hcn.fr H B G1
    have r1 : sR σ1 86 a = some sd := by rw [J1.2.2.2.2]; exact h86
    have j1s : sS σ1 = sS σ ∧ sC σ1 = sC σ ∧ sZ σ1 = sZ σ := ⟨J1.2.2.1, J1.2.1, J1.2.2.2.1⟩
    have d2 : sc σ1 sd = 2 := B1.1.2.2.1
    refine Rn_eq (fun bb => by rw [sr_reserve_L0, gd_pos hst.1.1, n1 bb, bind_some', gd_pos st1.1.1, r1, bind_some', gd_pos d2, C1.2.2.1, gd_pos (by omega)]) ?_
    refine Rn_le J1.le ?_
    by_cases q30 : R.length = 30
    · refine Rn_eq (fun bb => by rw [if_pos (show (30 : Int) ≤ ((R.length : Nat) : Int) by omega), bind_some']) ?_
      obtain ⟨τ', e1, e2⟩ := REF.2 (Or.inr q30)
      exact Rn_srm0 rfl (Or.inl ⟨_, τ', rfl, FL.make Y1 (by omega) (by omega), e1, e2⟩)
    obtain ⟨om1, om2, om7, -⟩ := B1.2.1 ms m hms
    refine Rn_eq (fun bb => by rw [if_neg (show ¬ (30 : Int) ≤ ((R.length : Nat) : Int) by omega), bind_some', sr_must1, bind_some', tB_some, gd_pos st1.1.1, r1, bind_some', gd_pos d2, nm_eq, C1.2.2.1, bind_some']) ?_
    obtain ⟨σ2, hσ2⟩ : ∃ X, X = pI σ1 22 sd ((R.length : Int) + 1) := ⟨_, rfl⟩
    rw [← hσ2]
    have hsd := H1.1 sd B1.1.1
    have F2 : FR (fun x => x = sd) σ1 σ2 := by rw [hσ2]; exact FR.at1 (at_pI σ1 22 sd _) rfl
    have ne2 := st1.ne d2 (by decide) (by decide)
    have st2 : STk σ2 a b I n (tkn I n (j + 1)) := st1.fr F2 ne2.1 ne2.2
    have H2 : HVw y σ2 ob L := by rw [hσ2]; exact H1.setI 22 sd _
    have B2 : OBS y σ2 I n ob L sd root M E V F O N := B1.kp (fun x hx => (H1.1 x hx).2) (by rw [hσ2]; exact Kp.setI σ1 (by decide) sd _)
    have s2 : sS σ2 = sS σ1 := by rw [hσ2]; rfl
    have c2 : sC σ2 = sC σ1 := by rw [hσ2]; rfl
    have r2 : sR σ2 86 a = some sd := by rw [hσ2]; exact r1
    have Y2 : FY y σ σ2 := Y1.tr (F2.fy hsd.1)
    have om72 : sc σ2 m.1 = 7 := by rw [hσ2]; exact om7
    have i2 : ∀ k x, k ≠ 22 → sI σ2 k x = sI σ1 k x := fun k x hk => by rw [hσ2, sI_pI, if_neg (fun e => hk e.1)]
    have i22 : sI σ2 22 sd = ((R.length + 1 : Nat) : Int) := by rw [hσ2, sI_pI, if_pos ⟨rfl, rfl⟩]; omega
    refine Rn_le F2.1 ?_
    refine Rn_eq (fun bb => by rw [gd_pos om72, gd_pos st2.1.1]) ?_
    refine Rn_tB (sr_number_eq hI st2) (fun σ' _ hj => ?_) (fun num σ3 _ hj => ?_)
    · rcases hj with ⟨-, q, -⟩ | ⟨qk, q⟩
      · cases q
      · have eσ : σ' = nX σ2 := congrArg Prod.snd q
        subst eσ
        obtain ⟨τ', e1, e2⟩ := REF.2 (Or.inl qk)
        exact ⟨rfl, Or.inl ⟨_, τ', rfl, FL.make Y2 (by omega) (by omega), e1, e2⟩⟩
    rcases hj with ⟨qk3, qn, st3, J3⟩ | ⟨-, q⟩
    case inr => cases q
    have en : num = (tkN I (tkn I n (j + 1)) : Int) := Option.some.inj qn
    subst en
    dsimp only at st3 J3
    have st3 : STk σ3 a b I n (tkn I n (j + 2)) := st3
    have G3 : FR6 σ2 σ3 := J3.f6 st2.1.1
    have Y3 : FY y σ σ3 := Y2.tr (FR.fy J3.1 hya)
    have H3 := H2.fr G3
    have B3 := B2.kp (fun x hx => (H2.1 x hx).2) G3.kp
    have r3 : sR σ3 86 a = some sd := by rw [J3.2.2.2.2]; exact r2
    have j3s : sS σ3 = sS σ2 ∧ sC σ3 = sC σ2 := ⟨J3.2.2.1, J3.2.1⟩
    obtain ⟨lb, lb1, lb2, lb3, lb4, -, lb5⟩ := H2.get (k := 101) om1 (by decide) om72
    have lb4 : sc σ2 lb = 102 := lb4
    have lb5 := lb5 rfl
    have om73 : sc σ3 m.1 = 7 := by rw [G3.tgE (H2.1 _ om1).2]; exact om72
    have lb13 : sR σ3 101 m.1 = some lb := by rw [(G3.sm (H2.1 _ om1).2 (by rw [om72]; decide)).2.2.2.2.2.2.2.2.2]; exact lb1
    have lb43 : sc σ3 lb = 102 := by rw [G3.tgE lb3]; exact lb4
    have lbN : sN σ3 lb = 30 := by rw [(G3.sm lb3 (by rw [lb4]; decide)).2.2.1]; exact lb5.1
    have eL : (L 101 m.1).length = (R.filter (fun r => decide (r.2 = ms))).length := by rw [(Q.2.2.1 ms m hms).2.2, List.length_map]
    have lL : (L 101 m.1).length ≤ R.length := by rw [eL]; exact List.length_filter_le _ _
    have e102 : sI σ2 102 m.1 = ((L 101 m.1).length : Int) := by rw [i2 102 _ (by decide), eL]; exact C1.2.2.2 ms m hms
    have hib : ib (((L 101 m.1).length : Nat) : Int) (sN σ3 lb) := by rw [lbN]; constructor <;> omega
    refine Rn_eq (fun bb => by rw [lb1, bind_some', gd_pos lb43, e102, gd_pos hib, nm_eq, Int.toNat_natCast]) ?_
    have H4 := H3.arr (v := tkN I (tkn I n (j + 1))) om1 (by decide) om73 rfl lb13
    have B4 := B3.kp (fun x hx => (H3.1 x hx).2) (Kp.setE σ3 lb (L 101 m.1).length (tkN I (tkn I n (j + 1)) : Int))
    obtain ⟨σ4, hσ4⟩ : ∃ X, X = pE σ3 lb (L 101 m.1).length (tkN I (tkn I n (j + 1)) : Int) := ⟨_, rfl⟩
    rw [← hσ4] at H4 B4 ⊢
    have F4 : FR (fun x => x = lb) σ3 σ4 := by rw [hσ4]; exact FR.at1 (at_pE _ _ _ _) rfl
    have ne4 := st3.ne lb43 (by decide) (by decide)
    have st4 := st3.fr F4 ne4.1 ne4.2
    have om74 : sc σ4 m.1 = 7 := by rw [hσ4]; exact om73
    have i4 : sI σ4 = sI σ3 := by rw [hσ4]; rfl
    have Y4 : FY y σ σ4 := Y3.tr (F4.fy lb2)
    refine Rn_le F4.1 ?_
    refine Rn_pI om74 ?_
    have H5 := H4.setI 102 m.1 (sI σ4 102 m.1 + 1)
    have B5 := B4.kp (fun x hx => (H4.1 x hx).2) (Kp.setI σ4 (j := 102) (by decide) m.1 (sI σ4 102 m.1 + 1))
    have F5 : FR (fun x => x = m.1) σ4 (pI σ4 102 m.1 (sI σ4 102 m.1 + 1)) := FR.at1 (at_pI _ _ _ _) rfl
    have ne5 := st4.ne om74 (by decide) (by decide)
    have st5 := st4.fr F5 ne5.1 ne5.2
    obtain ⟨σ5, hσ5⟩ : ∃ X, X = pI σ4 102 m.1 (sI σ4 102 m.1 + 1) := ⟨_, rfl⟩
    have r5 : sR σ5 86 a = some sd := by rw [hσ5, hσ4]; exact r3
    have j5s : sS σ5 = sS σ3 ∧ sC σ5 = sC σ3 ∧ sZ σ5 = sZ σ3 := by rw [hσ5, hσ4]; exact ⟨rfl, rfl, rfl⟩
    have i3 : ∀ k x, x < sZ σ2 → sc σ2 x ≠ 6 → sI σ3 k x = sI σ2 k x := fun k x hx hn => (G3.sm hx hn).2.2.2.2.2.2.2.1 k
    have sd2 : sc σ2 sd ≠ 6 := by rw [B2.1.2.2.1]; decide
    have C5 : CNT σ5 sd M V O (R ++ [(tkN I (tkn I n (j + 1)), ms)]) := by
      obtain ⟨k1, k2, k3, k4⟩ := C1
      have sdz := (H2.1 sd B2.1.1).2
      refine ⟨?_, ?_, ?_, fun q m' hm' => ?_⟩
      · rw [hσ5, sI_pI, if_neg (by omega), i4, i3 _ _ sdz sd2, i2 _ _ (by decide)]; exact k1
      · rw [hσ5, sI_pI, if_neg (by omega), i4, i3 _ _ sdz sd2, i2 _ _ (by decide)]; exact k2
      · rw [hσ5, sI_pI, if_neg (by omega), i4, i3 _ _ sdz sd2, i22, List.length_append]; rfl
      · obtain ⟨v1, v2, v7, -⟩ := B2.2.1 q m' hm'
        by_cases e : q = ms
        · subst e
          rw [hms] at hm'
          have e1 : m = m' := Option.some.inj hm'
          subst e1
          rw [hσ5, sI_pI, if_pos ⟨rfl, rfl⟩, i4, i3 _ _ (H2.1 _ v1).2 (by rw [v7]; decide), e102, ft_p (by simp), List.length_append, eL]; rfl
        · have ne : m'.1 ≠ m.1 := fun w => e (B.minj hms hm' w)
          rw [hσ5, sI_pI, if_neg (fun w => ne w.2), i4, i3 _ _ (H2.1 _ v1).2 (by rw [v7]; decide), i2 _ _ (by decide), ft_n (by simp; exact fun w => e w.symm)]; exact k4 q m' hm'
    rw [← hσ5] at H5 B5 F5 st5 ⊢
    have Y5 : FY y σ σ5 := Y4.tr (F5.fy (H4.1 _ om1).1)
    obtain ⟨τ1, eR, hm1, U1⟩ := REF.1 qk3 (by omega)
    have hj2 : j + 2 ≤ K := hm1.2.2.2.1
    have TK : TF KP τ τ1 := U1.1.kp (by decide) (by decide)
    have b0 := tkn_bd I n j
    have b1 := tkn_bd I n (j + 1)
    have m0 : (tkn I n j).2.2 ≤ (tkn I n (j + 1)).2.1 := tkn_mono I n j
    have m1 : (tkn I n (j + 1)).2.2 ≤ (tkn I n (j + 2)).2.1 := tkn_mono I n (j + 1)
    have P5 : PG I n K a b y sd root s0 c0 (j + 2) (j + 2) M E V F O (R ++ [(tkN I (tkn I n (j + 1)), ms)]) N σ5 τ1 := by
      refine ⟨hm1, ht.addR U1, st5, r5, by have := Y5.1.1; omega, hw.addR (by omega) ⟨gq_lt hms, tkN_lt qk3⟩, ⟨_, _, H5, Q.addR hms rfl (fun j m' h1 h2 => B.minj hms h1 h2), ?_⟩, C5, ?_, ?_⟩
      · exact B5.cg (fun x _ => by rw [updL_k (by decide)])
      · unfold Om at hS ⊢
        omega
      · unfold Oc at hC ⊢
        omega
    have eI := sr_isSign_eq hI st5 (tkn_k I n (j + 2)) (x := 44) (by omega)
    by_cases qe : sgn I n (j + 2) 44
    · rw [if_pos qe] at eI
      refine Rn_eq (fun bb => by rw [gd_pos st5.1.1, eI, bind_some', gd_pos (by omega), if_neg (by omega)]) ?_
      obtain ⟨τ2, e2, h2, F2'⟩ := mT hD hm1 sx_20 (by decide) qe
      have eR2 : m_readReserved_L10 (ms : Int) (N2 + 1) τ = m_readReserved_L10 (ms : Int) N2 τ2 := by
        rw [eR, e2, bind_some']
        dsimp only
        rw [gd_pos (by omega), if_neg (by omega)]
      rw [eR2]
      have ih := res_loop hG hms N1 N2 (c - 1) (j + 2) _ σ5 τ2 (kf1 hc hj2 (by decide)) ⟨h2, P5.2.1.tf F2', P5.2.2⟩ (kf2 hc hj2 (by decide) f1) (kf2 hc hj2 (by decide) f2)
      have TK2 : TF KP τ τ2 := TK.tr (F2'.mono (by decide)) (fun _ u => u)
      refine ih.mono (fun r _ hr => ?_)
      rcases hr with ⟨σ', τ', w1, w2, w3, w4⟩ | ⟨σ', τ', R', i', w1, w2, w3, w5, w6, w7⟩
      · exact Or.inl ⟨σ', τ', w1, FL.tr Y5 w2, w3, BAD.tk TK2 w4⟩
      · exact Or.inr ⟨σ', τ', R', i', w1, w2, by omega, Y5.tr w5, TK2.tr w6 (fun _ u => u), w7⟩
    · rw [if_neg qe] at eI
      refine Rn_eq (fun bb => by rw [gd_pos st5.1.1, eI, bind_some', gd_pos (by omega), if_pos rfl]) ?_
      have eT := mTn hm1 sx_20 (by decide) qe
      refine Rn_some (Le.refl _) (Or.inr ⟨σ5, τ1, _, j + 2, rfl, ?_, by omega, Y5, TK, P5⟩)
      rw [eR, eT, bind_some']
      dsimp only
      rw [gd_pos (by omega), if_pos rfl]
theorem reserve_eq (hG : GR I n K a b y) (hP : PG I n K a b y sd root s0 c0 i i M E V F O R N σ τ) (hk : (tkn I n i).1 ≠ 0) (hms : M[ms]? = some m) :
    Rn (fun r : Option Unit × ST => r.2) σ (fun bb => sr_reserve bb a (some m.1) σ) (fun r => (r.1 = none ∧ FL y s0 c0 σ r.2 ∧ MB τ (m_readReserved (ms : Int) τ)) ∨ ∃ τ' R' i', r.1 = some () ∧ m_readReserved (ms : Int) τ = some τ' ∧ i < i' ∧ FY y σ r.2 ∧ TF KP τ τ' ∧ PG I n K a b y sd root s0 c0 i' i' M E V F O R' N r.2 τ') := by
  obtain ⟨hD, hI, hn, hya, hby⟩ := id hG
  obtain ⟨hm, ht, hP'⟩ := id hP
  have hKn := hD.1
  have e13 : tI τ 13 = (i : Int) := hm.2.2.2.2.1
  have F1 : TF [13, 14] τ (uI τ 13 ((i : Int) + 1)) := (TF.refl _ _).uI (by decide) _
  have LP := res_loop hG hms FU FU K i R σ (uI τ 13 ((i : Int) + 1)) (by omega) ⟨hm.step hD hk, ht.tf F1, hP'⟩ (FU_gt (by omega)) (FU_gt (by omega))
  have F1' : TF KP τ (uI τ 13 ((i : Int) + 1)) := F1.mono (by decide)
  unfold sr_reserve
  refine Rn_bind (su := Sum.elim (fun r : Option Unit × ST => r.2) id) LP (fun r9 _ h9 => ?_)
  rcases h9 with ⟨σ', τ', w1, w2, w3, w4⟩ | ⟨σ9, τ', R', j, w1, w2, w4, w5, w6, w7⟩
  · subst w1
    refine Rn_some (Le.refl _) (Or.inl ⟨rfl, w2, τ', ?_, BAD.tr F1 w4⟩)
    unfold m_readReserved
    rw [nm_eq, e13, w3, bind_some']; rfl
  · subst w1
    show Rn (fun r : Option Unit × ST => r.2) σ9 (fun bb => gd (sc σ9 a = 6) (Option.bind (sr_sign bb a 59 σ9) (tB (fun z => (none, z)) fun y7 σ8 => some ((some (), σ8))))) _
    obtain ⟨v1, v2, v3, v4, v5, v6, v7, v8, v9, vA⟩ := w7
    have om := Om_le hG v6 v1.2.2.2.1
    have eM : m_readReserved (ms : Int) τ = Option.bind (m_sign 12 τ') fun y6 => some y6 := by
      unfold m_readReserved
      rw [nm_eq, e13, w2, bind_some']; rfl
    refine Rn_gd v3.1.1 ?_
    refine Rn_tB (sr_sign_eq hI v3 (x := 59) (by omega)) (fun σ' _ hj => ?_) (fun _ Z _ hj => ?_)
    · rcases hj with ⟨-, q, -⟩ | ⟨qk, q⟩
      · cases q
      · have eσ : σ' = nX σ9 := congrArg Prod.snd q
        subst eσ
        obtain ⟨τ2, e2, b2⟩ := mGn v1 sx_12 (by decide) qk
        exact ⟨rfl, Or.inl ⟨rfl, FL.make w5 (by omega) (by omega), τ2, by rw [eM, e2, bind_some'], BAD.tk F1' (BAD.tk w6 b2)⟩⟩
    rcases hj with ⟨qk, -, q2, q3⟩ | ⟨-, q⟩
    case inr => cases q
    dsimp only at q2 q3
    obtain ⟨τ2, e2, h2, F2⟩ := mG hD v1 sx_12 (by decide) qk
    have GZ : FR6 σ9 Z := q3.f6 v3.1.1
    obtain ⟨ob9, L9, H9, Q9, B9⟩ := v7
    have mm := tkn_mono I n j
    have bb' := tkn_bd I n j
    refine Rn_some (Le.refl _) (Or.inr ⟨τ2, R', j + 1, rfl, by rw [eM, e2, bind_some'], by omega, FY.tr w5 (FR.fy q3.1 hya), (F1'.tr w6 (fun _ u => u)).tr (F2.mono (by decide)) (fun _ u => u), h2, v2.tf F2, q2, by rw [q3.2.2.2.2]; exact v4, by have := q3.2.2.2.1; show y ≤ sZ Z; omega, v6, ⟨ob9, L9, H9.fr GZ, Q9, B9.kp (fun x hx => (H9.1 x hx).2) GZ.kp⟩, v8.fr H9 B9 GZ, ?_, ?_⟩)
    · show sS Z ≤ _
      rw [q3.2.2.1]
      unfold Om at v9 ⊢
      omega
    · show sC Z ≤ _
      rw [q3.2.1]
      unfold Oc at vA ⊢
      omega
end Pq
