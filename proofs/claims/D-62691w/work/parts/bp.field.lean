set_option maxRecDepth 100000
/-! SCHEMAS, READ: fields, on both sides -/
section Pp
variable {y n a b K sd root s0 c0 i ms : Nat} {I : Nat → Nat} {M : List TyM} {E : List TyE} {V : List TyV} {F : List TyF} {O : List TyO} {R : List TyR} {N : List TyN} {σ σ' : ST} {τ : TT} {m : TyM}
theorem fdlS_inv {w : Nat} (h : fdlS I n i = some w) : (tkn I n i).1 = 1 ∧ dtS I n (n + 1) (i + 1) = some w ∧ (tkn I n (i + 1 + 2 * w)).1 = 1 ∧ (tkn I n (i + 3 + 2 * w)).1 = 2 := by
  unfold fdlS at h
  by_cases q : (tkn I n i).1 = 1
  · rw [if_pos q] at h
    cases e : dtS I n (n + 1) (i + 1) with
    | none => rw [e] at h; cases h
    | some v =>
      rw [e] at h
      change (if (tkn I n (i + 1 + 2 * v)).1 = 1 ∧ sgn I n (i + 2 + 2 * v) 61 ∧ (tkn I n (i + 3 + 2 * v)).1 = 2 ∧ sgn I n (i + 4 + 2 * v) 59 then some v else none) = some w at h
      by_cases q2 : (tkn I n (i + 1 + 2 * v)).1 = 1 ∧ sgn I n (i + 2 + 2 * v) 61 ∧ (tkn I n (i + 3 + 2 * v)).1 = 2 ∧ sgn I n (i + 4 + 2 * v) 59
      · rw [if_pos q2] at h
        have e := Option.some.inj h
        subst e
        exact ⟨q, rfl, q2.1, q2.2.2.1⟩
      · rw [if_neg q2] at h; cases h
  · rw [if_neg q] at h; cases h
/-- a field that was read is in order -/
theorem PW.fld (hw : PW I n M E V F O R N) (hf : F.length < 50) (hm : M[ms]? = some m) {w X : Nat} {on re pr : Int} (hs : fdlS I n i = some w) (hi : i + 5 + 2 * w ≤ n) (h1 : re = 0 ∨ re = 1) (h2 : pr = 0 ∨ pr = 1) (h3 : on = -1 ∨ ((∃ o, 0 ≤ on ∧ O[on.toNat]? = some o ∧ o.2.2 = ms) ∧ re = 0)) : PW I n M E V (F ++ [(X, i, 1 + w, i + 1 + 2 * w, tkN I (tkn I n (i + 3 + 2 * w)), ms, on, re, pr)]) O R N := by
  obtain ⟨e1, e2, e3, e4⟩ := fdlS_inv hs
  refine hw.addF hf ⟨gq_lt hm, tkN_lt e4, e3, ?_, ?_, fun q hq => ⟨?_, ?_⟩, h1, h2, h3⟩
  · show i + 1 + 2 * w ≤ n
    omega
  · show 1 ≤ 1 + w
    omega
  · show (tkn I n (i + 2 * q)).1 = 1
    have hq : q < 1 + w := hq
    cases q with
    | zero => exact e1
    | succ q =>
      have := dtS_kind _ _ _ e2 q (by omega)
      rw [show i + 2 * (q + 1) = i + 1 + 1 + 2 * q by omega]; exact this
  · show i + 2 * q ≤ n
    have hq : q < 1 + w := hq
    omega
theorem fieldc_eq (hG : GR I n K a b y) (hP : PG I n K a b y sd root s0 c0 i i M E V F O R N σ τ) (hms : M[ms]? = some m) {re pr : Int} (hre : re = 0 ∨ re = 1) (hpr : pr = 0 ∨ pr = 1) :
    Rn (fun r : Option Unit × ST => r.2) σ (fun bb => Option.bind (sr_plain bb a (some m.1) σ) (tB (fun z => (none, z)) fun y14 σ15 => Option.bind y14 fun p16 => gd (sc σ15 p16 = 9) (gd (zb re) (nm (pI σ15 135 p16 re) fun σ20 => gd (sc σ20 p16 = 9) (gd (zb pr) (nm (pI σ20 136 p16 pr) fun σ23 => some ((some (), σ23)))))))) (fun r => (r.1 = none ∧ FL y s0 c0 σ r.2 ∧ MB τ (m_readField (ms : Int) (-1) re pr τ)) ∨ ∃ τ' F' i', r.1 = some () ∧ m_readField (ms : Int) (-1) re pr τ = some τ' ∧ i < i' ∧ FY y σ r.2 ∧ TF KP τ τ' ∧ PG I n K a b y sd root s0 c0 i' i' M E V F' O R N r.2 τ') := by
  obtain ⟨hm, ht, hst, h86, hy, hw, ⟨ob, L, H, Q, B⟩, hcn, hS, hC⟩ := hP
  have hD := hG.1
  have f50 := hw.1.2.2.2.1
  have e38 : tI τ 38 = (F.length : Int) := ht.1.2.2.2.1
  have zr : zb re := hre
  have zp : zb pr := hpr
  have REF := m_readField_eq hD hm (a1 := (ms : Int)) (a2 := -1) zr zp e38 f50
  refine Rn_tB (plain_eq hG hw hst h86 hy H Q B hcn hS hC hm.2.2.2.1 hms) (fun σ' _ hj => ?_) (fun rr σ1 _ hj => ?_)
  · rcases hj with ⟨-, q1, q2⟩ | ⟨w, X, ob', L', q, -⟩
    · exact ⟨rfl, Or.inl ⟨rfl, q1, REF.2 q2⟩⟩
    · cases q
  rcases hj with ⟨q, -⟩ | ⟨w, X, ob', L', q, q1, q2, q3, Y1, st1, r1, H1, Q1, B1, oX, X1, hXF, C1, s1, c1⟩
  · cases q
  have er : rr = some X := Option.some.inj q
  subst er
  dsimp only at Y1 st1 r1 H1 Q1 B1 X1 C1 s1 c1
  have x9 : sc σ1 X = 9 := X1.1
  refine Rn_eq (G := fun bb => some ((some () : Option Unit), pI (pI σ1 135 X re) 136 X pr)) (fun bb => by rw [bind_some', gd_pos x9, gd_pos zr, nm_eq, gd_pos (by exact x9), gd_pos zp, nm_eq]) ?_
  obtain ⟨τ', eR, hm1, U1⟩ := REF.1 w q1 q2
  have F2 : FR (fun x => x = X) σ1 (pI (pI σ1 135 X re) 136 X pr) := FR.t1 (FR.at1 (at_pI _ _ _ _) rfl) (FR.at1 (at_pI _ _ _ _) rfl)
  have ne := st1.ne x9 (by decide) (by decide)
  have lF : (F ++ [(X, i, 1 + w, i + 1 + 2 * w, tkN I (tkn I n (i + 3 + 2 * w)), ms, (-1 : Int), re, pr)]).length = F.length + 1 := by rw [List.length_append]; rfl
  refine Rn_some ⟨Nat.le_refl _, Nat.le_refl _, Nat.le_refl _⟩ (Or.inr ⟨τ', _, i + 5 + 2 * w, rfl, eR, by omega, Y1.tr (FR.fy F2 (H1.1 _ oX).1), U1.1.kp (by decide) (by decide), hm1, ht.addF U1 X, st1.fr F2 ne.1 ne.2, r1, by have := Y1.1.1; show y ≤ sZ σ1; omega, hw.fld q2 hms q1 (by have := hD.1; omega) hre hpr (Or.inl rfl), ⟨ob', L', (H1.setI _ _ _).setI _ _ _, Q1.cgF _ _ _, ?_⟩, (C1.setX (by decide) _).setX (by decide) _, ?_, ?_⟩)
  · exact ((B1.setX (k := 135) (by decide) hXF re).setX (k := 136) (by decide) hXF pr).addF oX ((X1.set5 re).set6 pr) hXF
  · show sS σ1 ≤ _
    unfold Om at s1 ⊢
    rw [lF]; omega
  · show sC σ1 ≤ _
    unfold Oc at c1 ⊢
    rw [lF]; omega
/-- the fields of a oneof -/
theorem oneof_loop (hG : GR I n K a b y) {e t r : Nat} (hms : M[ms]? = some m) (ho : O[e]? = some (r, t, ms)) : ∀ (N1 N2 c i : Nat) (F : List TyF) (σ : ST) (τ : TT), K - i ≤ c → PG I n K a b y sd root s0 c0 i i M E V F O R N σ τ → c + 1 < N1 → c + 1 < N2 →
    Rn (Sum.elim (fun r : Option Unit × ST => r.2) id) σ (fun bb => sr_oneof_L66 bb a (some m.1) (e : Int) N1 σ) (fun r => (∃ σ', r = Sum.inl (none, σ') ∧ FL y s0 c0 σ σ' ∧ MB τ (m_readOneof_L80 (ms : Int) (e : Int) N2 τ)) ∨ ∃ σ' τ' F' i', r = Sum.inr σ' ∧ m_readOneof_L80 (ms : Int) (e : Int) N2 τ = some τ' ∧ sgn I n i' 125 ∧ i < i' ∧ FY y σ σ' ∧ TF KP τ τ' ∧ PG I n K a b y sd root s0 c0 i' (i' + 1) M E V F' O R N σ' τ')
  | 0, N2, c, i, F, σ, τ, _, _, h, _ => by omega
  | N1 + 1, 0, c, i, F, σ, τ, _, _, _, h => by omega
  | N1 + 1, N2 + 1, c, i, F, σ, τ, hc, hP, f1, f2 => by
    obtain ⟨hm, ht, hst, h86, hy, hw, ⟨ob, L, H, Q, B⟩, hcn, hS, hC⟩ := hP
    obtain ⟨hD, hI, hn, hya, hby⟩ := id hG
    have f50 := hw.1.2.2.2.1
    have e38 : tI τ 38 = (F.length : Int) := ht.1.2.2.2.1
    have REF := m_readField_eq hD hm (a1 := (ms : Int)) (a2 := (e : Int)) (a3 := 0) (a4 := 0) (by decide) (by decide) e38 f50
    have hO12 := hw.1.2.2.2.2.1
    have heL := gq_lt ho
    refine Rn_eq (fun bb => by rw [sr_oneof_L66, gd_pos hst.1.1]) ?_
    refine Rn_tB (plain_eq hG hw hst h86 hy H Q B hcn hS hC hm.2.2.2.1 hms) (fun σ' _ hj => ?_) (fun rr σ1 _ hj => ?_)
    · rcases hj with ⟨-, q1, q2⟩ | ⟨w, X, ob', L', q, -⟩
      · refine ⟨rfl, Or.inl ⟨_, rfl, q1, ?_⟩⟩
        rw [m_readOneof_L80]
        obtain ⟨τ1, e1, b1⟩ := REF.2 q2
        rw [e1, bind_some']
        refine MB_takes b1 ?_
        dsimp only
        rw [b1.1, gd_pos (by omega), gd_pos (by exact fun _ => by omega), if_neg (fun q => by cases q.2)]
        exact MB_ret b1
      · cases q
    rcases hj with ⟨q, -⟩ | ⟨w, X, ob', L', q, q1, q2, q3, Y1, st1, r1, H1, Q1, B1, oX, X1, hXF, C1, s1, c1⟩
    · cases q
    have er : rr = some X := Option.some.inj q
    subst er
    dsimp only at Y1 st1 r1 H1 Q1 B1 X1 C1 s1 c1
    have x9 : sc σ1 X = 9 := X1.1
    obtain ⟨τ1, eR, hm1, U1⟩ := REF.1 w q1 q2
    have F2 : FR (fun x => x = X) σ1 (pI σ1 133 X (e : Int)) := FR.at1 (at_pI _ _ _ _) rfl
    have ne := st1.ne x9 (by decide) (by decide)
    have lF : (F ++ [(X, i, 1 + w, i + 1 + 2 * w, tkN I (tkn I n (i + 3 + 2 * w)), ms, (e : Int), (0 : Int), (0 : Int))]).length = F.length + 1 := by rw [List.length_append]; rfl
    have st2 := st1.fr F2 ne.1 ne.2
    have Y2 := Y1.tr (FR.fy F2 (H1.1 _ oX).1)
    have TK : TF KP τ τ1 := U1.1.kp (by decide) (by decide)
    have P2 : PG I n K a b y sd root s0 c0 (i + 5 + 2 * w) (i + 5 + 2 * w) M E V (F ++ [(X, i, 1 + w, i + 1 + 2 * w, tkN I (tkn I n (i + 3 + 2 * w)), ms, (e : Int), (0 : Int), (0 : Int))]) O R N (pI σ1 133 X (e : Int)) τ1 := by
      refine ⟨hm1, ht.addF U1 X, st2, r1, by have := Y1.1.1; show y ≤ sZ σ1; omega, hw.fld q2 hms q1 (by have := hD.1; omega) (Or.inl rfl) (Or.inl rfl) (Or.inr ⟨⟨(r, t, ms), by omega, by rw [Int.toNat_natCast]; exact ho, rfl⟩, rfl⟩), ⟨ob', L', H1.setI _ _ _, Q1.cgF _ _ _, ?_⟩, C1.setX (by decide) _, ?_, ?_⟩
      · exact (B1.setX (k := 133) (by decide) hXF (e : Int)).addF oX (X1.set3 (e : Int)) hXF
      · show sS σ1 ≤ _
        unfold Om at s1 ⊢
        rw [lF]; omega
      · show sC σ1 ≤ _
        unfold Oc at c1 ⊢
        rw [lF]; omega
    refine Rn_eq (fun bb => by rw [bind_some', gd_pos x9, nm_eq]) ?_
    refine Rn_le (σ1 := pI σ1 133 X (e : Int)) ⟨Nat.le_refl _, Nat.le_refl _, Nat.le_refl _⟩ ?_
    obtain ⟨σ2, hσ2⟩ : ∃ A, A = pI σ1 133 X (e : Int) := ⟨_, rfl⟩
    rw [← hσ2] at st2 P2 Y2 F2 ⊢
    have eI := sr_isSign_eq hI st2 (tkn_k I n _) (x := 125) (by omega)
    have hiw : i + (5 + 2 * w) ≤ K := by omega
    by_cases qe : sgn I n (i + 5 + 2 * w) 125
    · rw [if_pos qe] at eI
      refine Rn_eq (fun bb => by rw [gd_pos st2.1.1, eI, bind_some', gd_pos (by omega), if_neg (by omega)]) ?_
      obtain ⟨τ2, e2, h2, F2'⟩ := mT hD hm1 sx_15 (by decide) qe
      refine Rn_some (Le.refl _) (Or.inr ⟨σ2, τ2, _, i + 5 + 2 * w, rfl, ?_, qe, by omega, Y2, TK.tr (F2'.mono (by decide)) (fun _ u => u), h2, P2.2.1.tf F2', P2.2.2⟩)
      rw [m_readOneof_L80, eR, bind_some', e2, bind_some']
      dsimp only
      rw [gd_pos (by omega), gd_pos (by exact fun q => by cases q), if_neg (fun q => by cases q.1)]
    · rw [if_neg qe] at eI
      refine Rn_eq (fun bb => by rw [gd_pos st2.1.1, eI, bind_some', gd_pos (by omega), if_pos rfl]) ?_
      have eT := mTn hm1 sx_15 (by decide) qe
      have e14 : tI τ1 14 = 0 := hm1.2.2.2.2.2
      have eR2 : m_readOneof_L80 (ms : Int) (e : Int) (N2 + 1) τ = m_readOneof_L80 (ms : Int) (e : Int) N2 τ1 := by
        rw [m_readOneof_L80, eR, bind_some', eT, bind_some']
        dsimp only
        rw [e14, gd_pos (by omega), gd_pos (by exact fun q => by omega), if_pos ⟨rfl, rfl⟩]
      rw [eR2]
      have ih := oneof_loop hG hms ho N1 N2 (c - 1) (i + 5 + 2 * w) _ σ2 τ1 (by rw [Nat.add_assoc]; exact kf1 hc hiw (by omega)) P2 (kf2 hc hiw (by omega) f1) (kf2 hc hiw (by omega) f2)
      refine ih.mono (fun r _ hr => ?_)
      rcases hr with ⟨σ', w1, w2, w3⟩ | ⟨σ', τ', F', i', w1, w2, w3, w4, w5, w6, w7⟩
      · exact Or.inl ⟨σ', w1, FL.tr Y2 w2, MB.tk TK w3⟩
      · exact Or.inr ⟨σ', τ', F', i', w1, w2, w3, by omega, Y2.tr w5, TK.tr w6 (fun _ u => u), w7⟩
end Pp
