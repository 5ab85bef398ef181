set_option maxRecDepth 100000
/-! SCHEMAS, READ: a whole schema, on both sides -/
section Rd
variable {y n a b K sd root s0 c0 i : Nat} {I : Nat → Nat} {M : List TyM} {E : List TyE} {V : List TyV} {F : List TyF} {O : List TyO} {R : List TyR} {N : List TyN} {σ σ' : ST} {τ τ0 : TT}
theorem m_sch_bad {N : Nat} (h : BAD τ0 τ) : MB τ0 (m_readSchema_L77 (N + 1) τ) := by
  rw [m_readSchema_L77, h.1, gd_pos (by omega), gd_pos (by exact fun q => by cases q), gd_pos (by exact fun q => by cases q), if_neg (fun q => by cases q.1)]
  exact MB_ret h
theorem Rn_sfl0 {X : Type} {st : X → ST} {K : X → Prop} {thr : ST → X} {G : Nat × Nat → Unit → ST → Option X} (h1 : st (thr (nX σ)) = nX σ) (h2 : K (thr (nX σ))) : Rn st σ (fun bb => Option.bind (s_fail bb σ) (tB thr (G bb))) K := by
  refine ⟨thr (nX σ), by rw [h1]; exact (FR.nX (fun _ => True) σ).1, h2, fun bb hf => ?_⟩
  rw [h1] at hf
  show Option.bind (s_fail bb σ) (tB thr (G bb)) = _
  unfold s_fail
  rw [gd_pos (show rm bb σ 6 from ⟨hf.1, hf.2⟩)]
  rfl
theorem sch_loop (hG : GR I n K a b y) : ∀ (N1 N2 c i : Nat) (M : List TyM) (E : List TyE) (V : List TyV) (F : List TyF) (O : List TyO) (R : List TyR) (N : List TyN) (σ : ST) (τ : TT), K - i ≤ c → PG I n K a b y sd root s0 c0 i i M E V F O R N σ τ → c + 1 < N1 → c + 1 < N2 →
    Rn (Sum.elim (fun r : Option (Option Nat) × ST => r.2) id) σ (fun bb => sr_read_L40 bb a N1 σ) (fun r => (∃ σ', r = Sum.inl (none, σ') ∧ FL y s0 c0 σ σ' ∧ MB τ (m_readSchema_L77 N2 τ)) ∨ ∃ σ' τ' M' E' V' F' O' R' N' i', r = Sum.inr σ' ∧ m_readSchema_L77 N2 τ = some τ' ∧ FY y σ σ' ∧ TF KP τ τ' ∧ PG I n K a b y sd root s0 c0 i' i' M' E' V' F' O' R' N' σ' τ')
  | 0, N2, c, i, M, E, V, F, O, R, N, σ, τ, _, _, h, _ => by omega
  | N1 + 1, 0, c, i, M, E, V, F, O, R, N, σ, τ, _, _, _, h => by omega
  | N1 + 1, N2 + 1, c, i, M, E, V, F, O, R, N, σ, τ, hc, hP, f1, f2 => by
    obtain ⟨hD, hI, hn, hya, hby⟩ := id hG
    obtain ⟨hm, ht, hst, h86, hy, hw, ⟨ob, L, H, Q, B⟩, hcn, hS, hC⟩ := id hP
    have om := Om_le hG hw hm.2.2.2.1
    have hi : i ≤ K := hm.2.2.2.1
    have hKn := hD.1
    have a6 := hst.1.1
    have e14 : tI τ 14 = 0 := hm.2.2.2.2.2
    have e13 : tI τ 13 = (i : Int) := hm.2.2.2.2.1
    have e9 := (hm.2.2.1 i hi).1
    have e83 : sI σ 83 a = ((tkn I n i).1 : Int) := hst.2.1
    have kk := tkn_k I n i
    have ib13 : ib (i : Int) 1001 := by constructor <;> omega
    have rk : rg ((rkd (tkn I n i).1 : Nat) : Int) := by unfold rkd; split; omega; split <;> omega
    by_cases q0 : (tkn I n i).1 = 0
    · refine Rn_eq (fun bb => by rw [sr_read_L40, gd_pos a6, e83, gd_pos (by omega), if_pos (by omega)]) ?_
      refine Rn_some (Le.refl _) (Or.inr ⟨σ, τ, M, E, V, F, O, R, N, i, rfl, ?_, FY.refl _ _, TF.refl _ _, hP⟩)
      rw [m_readSchema_L77, e14, e13, Int.toNat_natCast, e9, gd_pos (by omega), gd_pos (by exact fun _ => ib13), gd_pos (by exact fun _ => rk), if_neg (fun q => q.2 (by rw [q0]; rfl))]
    have nk : ¬ ((rkd (tkn I n i).1 : Nat) : Int) = 4 := by
      unfold rkd
      rw [if_neg q0]
      split <;> omega
    have step : ∀ (A : Nat × Nat → Option (Option Unit × ST)) (X : Option TT), m_readSchema_L77 (N2 + 1) τ = (Option.bind X fun z => m_readSchema_L77 N2 z) →
        Rn (fun r : Option Unit × ST => r.2) σ A (fun r => (r.1 = none ∧ FL y s0 c0 σ r.2 ∧ MB τ X) ∨ ∃ τ' M' E' V' F' O' R' N' i', r.1 = some () ∧ X = some τ' ∧ i < i' ∧ FY y σ r.2 ∧ TF KP τ τ' ∧ PG I n K a b y sd root s0 c0 i' i' M' E' V' F' O' R' N' r.2 τ') →
        Rn (Sum.elim (fun r : Option (Option Nat) × ST => r.2) id) σ (fun bb => Option.bind (A bb) (tB (fun z => Sum.inl ((none, z))) fun _ σ' => sr_read_L40 bb a N1 σ')) (fun r => (∃ σ', r = Sum.inl (none, σ') ∧ FL y s0 c0 σ σ' ∧ MB τ (m_readSchema_L77 (N2 + 1) τ)) ∨ ∃ σ' τ' M' E' V' F' O' R' N' i', r = Sum.inr σ' ∧ m_readSchema_L77 (N2 + 1) τ = some τ' ∧ FY y σ σ' ∧ TF KP τ τ' ∧ PG I n K a b y sd root s0 c0 i' i' M' E' V' F' O' R' N' σ' τ') := by
      intro A X eX hA
      refine Rn_tB hA (fun σ' _ hj => ?_) (fun _ σ1 _ hj => ?_)
      · rcases hj with ⟨-, q1, τb, q2, q3⟩ | ⟨τ', M', E', V', F', O', R', N', i', q, -⟩
        · obtain ⟨N2, rfl⟩ : ∃ N', N2 = N' + 1 := ⟨N2 - 1, by omega⟩
          refine ⟨rfl, Or.inl ⟨_, rfl, q1, ?_⟩⟩
          rw [eX, q2, bind_some']
          exact m_sch_bad q3
        · cases q
      · rcases hj with ⟨q, -⟩ | ⟨τ', M', E', V', F', O', R', N', i', -, q1, q2, q3, q4, q6⟩
        · cases q
        rw [eX, q1, bind_some']
        have hi' := q6.le
        have hii : i + (i' - i) ≤ K := by omega
        have ih := sch_loop hG N1 N2 (c - 1) i' M' E' V' F' O' R' N' σ1 τ' (by rw [show i' = i + (i' - i) by omega]; exact kf1 hc hii (by omega)) q6 (kf2 hc hii (by omega) f1) (kf2 hc hii (by omega) f2)
        refine ih.mono (fun r _ hr => ?_)
        rcases hr with ⟨σ', w1, w2, w3⟩ | ⟨σ', τ2, M2, E2, V2, F2, O2, R2, N2', i2, w1, w2, w5, w6, w8⟩
        · exact Or.inl ⟨σ', w1, FL.tr q3 w2, MB.tk q4 w3⟩
        · exact Or.inr ⟨σ', τ2, M2, E2, V2, F2, O2, R2, N2', i2, w1, w2, FY.tr q3 w5, q4.tr w6 (fun _ u => u), w8⟩
    have s1 := isWordE hst (u := 30) (by decide)
    have s2 := isWordE hst (u := 31) (by decide)
    have l1 := looksE hm (u := 13) (u' := 30) (by decide)
    have l2 := looksE hm (u := 16) (u' := 31) (by decide)
    have d2 : sc σ sd = 2 := B.1.2.2.1
    have r16 : sR σ 16 sd = some root := B.1.2.2.2.1
    have cnd : tI τ 14 = 0 ∧ ¬ (tA τ 9 (tI τ 13).toNat) = 4 := by rw [e13, Int.toNat_natCast, e9]; exact ⟨e14, nk⟩
    have g1 : rg (tI τ 14) := by rw [e14]; omega
    have g2 : tI τ 14 = 0 → ib (tI τ 13) 1001 := fun _ => by rw [e13]; exact ib13
    have g3 : tI τ 14 = 0 → rg (tA τ 9 (tI τ 13).toNat) := fun _ => by rw [e13, Int.toNat_natCast, e9]; exact rk
    by_cases w1 : wrd I n i 30
    · rw [if_pos w1] at s1 l1
      refine Rn_eq (fun bb => by rw [sr_read_L40, gd_pos a6, e83, gd_pos (by omega), if_neg (by omega), s1, bind_some', gd_pos (by omega), if_neg (by omega), h86, bind_some', gd_pos d2, r16]) ?_
      refine step _ (m_readMessage 12 (-1) 1 τ) ?_ ?_
      · rw [m_readSchema_L77, gd_pos g1, gd_pos g2, gd_pos g3, if_pos cnd, l1, bind_some', gd_pos (by omega), if_neg (by omega)]
      · refine Rn.mono (msg_all hG 6 12 12 1 (by decide) (by decide) (by decide) i M E V F O R N σ τ (-1) root hP w1 rfl (by decide) (by omega)) (fun r _ h => ?_)
        rcases h with q | ⟨τ', M', E', V', F', O', R', N', i', q1, q2, q3, q4, q5, -, q6⟩
        · exact Or.inl q
        · exact Or.inr ⟨τ', M', E', V', F', O', R', N', i', q1, q2, q3, q4, q5, q6⟩
    rw [if_neg w1] at s1 l1
    by_cases w2 : wrd I n i 31
    · rw [if_pos w2] at s2 l2
      refine Rn_eq (fun bb => by rw [sr_read_L40, gd_pos a6, e83, gd_pos (by omega), if_neg (by omega), s1, bind_some', gd_pos (by omega), if_pos rfl, s2, bind_some', gd_pos (by omega), if_neg (by omega), h86, bind_some', gd_pos d2, r16]) ?_
      refine step _ (m_readEnum (-1) τ) ?_ ?_
      · rw [m_readSchema_L77, gd_pos g1, gd_pos g2, gd_pos g3, if_pos cnd, l1, bind_some', gd_pos (by omega), if_pos rfl, l2, bind_some', gd_pos (by omega), if_neg (by omega)]
      · refine Rn.mono (enum_eq hG hP w2 (p := -1) (s := root) rfl ⟨by decide, by omega⟩) (fun r _ h => ?_)
        rcases h with q | ⟨τ', E', V', N', i', q1, q2, q3, q4, q5, q6⟩
        · exact Or.inl q
        · exact Or.inr ⟨τ', M, E', V', F, O, R, N', i', q1, q2, q3, q4, q5, q6⟩
    rw [if_neg w2] at s2 l2
    refine Rn_eq (fun bb => by rw [sr_read_L40, gd_pos a6, e83, gd_pos (by omega), if_neg (by omega), s1, bind_some', gd_pos (by omega), if_pos rfl, s2, bind_some', gd_pos (by omega), if_pos rfl]) ?_
    refine Rn_sfl0 rfl (Or.inl ⟨_, rfl, FL.make (FY.refl _ _) (by omega) (by omega), ?_⟩)
    rw [m_readSchema_L77, gd_pos g1, gd_pos g2, gd_pos g3, if_pos cnd, l1, bind_some', gd_pos (by omega), if_pos rfl, l2, bind_some', gd_pos (by omega), if_pos rfl, nm_eq]
    obtain ⟨N2, rfl⟩ : ∃ N', N2 = N' + 1 := ⟨N2 - 1, by omega⟩
    exact m_sch_bad (BAD.i0 (TF.refl _ _))
/-- how a schema begins -/
abbrev bgC (I : Nat → Nat) (n : Nat) : Prop := wrd I n 0 28 ∧ sgn I n 1 61 ∧ sgn I n 2 34 ∧ wrd I n 3 29 ∧ sgn I n 4 34 ∧ sgn I n 5 59
theorem sx_10 : sx 10 = [34] := by decide +kernel
theorem MRd.z14 (h : MRd τ I n K i) : MRd (uI τ 14 0) I n K i := ⟨h.1, h.2.1, h.2.2.1, h.2.2.2.1, by rw [tI_uI, if_neg (by decide)]; exact h.2.2.2.2.1, by rw [tI_uI, if_pos rfl]⟩
theorem m_rs_eq (hD : KD I n K) (h8 : T8 τ I n) (hT : ∀ j, j ≤ K → TTk I n τ j) :
    (bgC I n → ∃ τ1, m_readSchema τ = m_readSchema_L77 FU τ1 ∧ MRd τ1 I n K 6 ∧ TF [13, 14] τ τ1) ∧ (¬ bgC I n → MB τ (m_readSchema τ)) := by
  unfold m_readSchema
  rw [nm_eq, nm_eq]
  have F0 : TF [13, 14] τ (uI (uI τ 13 0) 14 0) := ((TF.refl _ _).uI (by decide) _).uI (by decide) _
  have h0 : MRd (uI (uI τ 13 0) 14 0) I n K 0 := ⟨h8, hD.1, hT, Nat.zero_le _, by rw [tI_uI, if_neg (by decide), tI_uI, if_pos rfl]; rfl, by rw [tI_uI, if_pos rfl]⟩
  obtain ⟨X0, hX0⟩ : ∃ X, X = uI (uI τ 13 0) 14 0 := ⟨_, rfl⟩
  rw [← hX0] at F0 h0 ⊢
  obtain ⟨a1, a2, a3, a4⟩ := wdB (8, 28) (by decide)
  obtain ⟨b1, b2, b3, b4⟩ := wdB (11, 29) (by decide)
  have e1 := m_takes_wd h0 a1 a2 a3 a4
  have e1 : m_takes 8 X0 = some (if wrd I n 0 28 then (1, uI X0 13 (((0 : Nat) : Int) + 1)) else (0, X0)) := e1
  have tail2 : ∀ Y, BAD τ Y → MB τ (Option.bind (m_sign 10 Y) fun y23 => Option.bind (m_sign 12 y23) fun y24 => m_readSchema_L77 FU y24) := fun Y hY => by
    refine MB_sign hY (fun Y1 h1 => ?_)
    refine MB_sign h1 (fun Y2 h2 => ?_)
    exact m_sch_bad (N := 999999) h2
  have tail1 : ∀ Y, BAD τ Y → MB τ (Option.bind (gd (rg (tI Y 14)) (if (tI Y 14) = 0 then (Option.bind (m_takes 11 Y) fun y59 => gd (rg y59.1) (if y59.1 = 0 then (some ((1, y59.2))) else (some ((0, y59.2))))) else (some ((1, Y))))) fun (v17 : Int × TT) => gd (zb v17.1) (nm (uI v17.2 14 v17.1) fun τ22 => Option.bind (m_sign 10 τ22) fun y23 => Option.bind (m_sign 12 y23) fun y24 => m_readSchema_L77 FU y24)) := fun Y hY => by
    rw [hY.1, gd_pos (by omega), if_neg (by omega), bind_some']
    dsimp only
    rw [gd_pos (by decide), nm_eq]
    exact tail2 _ hY.u
  by_cases q0 : wrd I n 0 28
  case neg =>
    refine ⟨fun q => absurd q.1 q0, fun _ => ?_⟩
    rw [e1, if_neg q0, bind_some']
    dsimp only
    rw [gd_pos (by omega), if_pos rfl, bind_some', gd_pos (by decide), nm_eq]
    refine MB_sign (BAD.i0 F0) (fun Y1 h1 => ?_)
    refine MB_sign h1 (fun Y2 h2 => ?_)
    exact tail1 Y2 h2
  rw [e1, if_pos q0, bind_some']
  dsimp only
  rw [gd_pos (by omega), if_neg (by omega), bind_some', gd_pos (by decide), nm_eq]
  have h1 := (h0.step hD (by have := q0.1; omega)).z14
  have F1 : TF [13, 14] τ (uI (uI X0 13 (((0 : Nat) : Int) + 1)) 14 0) := (F0.uI (by decide) _).uI (by decide) _
  obtain ⟨X1, hX1⟩ : ∃ X, X = uI (uI X0 13 (((0 : Nat) : Int) + 1)) 14 0 := ⟨_, rfl⟩
  rw [← hX1] at F1 h1 ⊢
  by_cases q1 : sgn I n 1 61
  case neg =>
    refine ⟨fun q => absurd q.2.1 q1, fun _ => ?_⟩
    obtain ⟨τ2, e2, c2⟩ := mGn h1 sx_9 (by decide) q1
    rw [e2, bind_some']
    refine MB_sign (BAD.tr F1 c2) (fun Y2 h2 => ?_)
    exact tail1 Y2 h2
  obtain ⟨τ2, e2, h2, F2⟩ := mG hD h1 sx_9 (by decide) q1
  have F2 := F1.tr F2 (fun _ u => u)
  rw [e2, bind_some']
  by_cases q2 : sgn I n 2 34
  case neg =>
    refine ⟨fun q => absurd q.2.2.1 q2, fun _ => ?_⟩
    obtain ⟨τ3, e3, c3⟩ := mGn h2 sx_10 (by decide) q2
    rw [e3, bind_some']
    exact tail1 _ (BAD.tr F2 c3)
  obtain ⟨τ3, e3, h3, F3⟩ := mG hD h2 sx_10 (by decide) q2
  have F3 := F2.tr F3 (fun _ u => u)
  have h3 : MRd τ3 I n K 3 := h3
  have e14 : tI τ3 14 = 0 := h3.2.2.2.2.2
  rw [e3, bind_some', e14, gd_pos (by omega), if_pos rfl]
  have e4 := m_takes_wd h3 b1 b2 b3 b4
  have e4 : m_takes 11 τ3 = some (if wrd I n 3 29 then (1, uI τ3 13 (((3 : Nat) : Int) + 1)) else (0, τ3)) := e4
  by_cases q3 : wrd I n 3 29
  case neg =>
    refine ⟨fun q => absurd q.2.2.2.1 q3, fun _ => ?_⟩
    rw [e4, if_neg q3, bind_some']
    dsimp only
    rw [gd_pos (by omega), if_pos rfl, bind_some']
    dsimp only
    rw [gd_pos (by decide), nm_eq]
    exact tail2 _ (BAD.i0 F3)
  rw [e4, if_pos q3, bind_some']
  dsimp only
  rw [gd_pos (by omega), if_neg (by omega), bind_some']
  dsimp only
  rw [gd_pos (by decide), nm_eq]
  have h4 := (h3.step hD (by have := q3.1; omega)).z14
  have F4 : TF [13, 14] τ (uI (uI τ3 13 (((3 : Nat) : Int) + 1)) 14 0) := (F3.uI (by decide) _).uI (by decide) _
  obtain ⟨X4, hX4⟩ : ∃ X, X = uI (uI τ3 13 (((3 : Nat) : Int) + 1)) 14 0 := ⟨_, rfl⟩
  rw [← hX4] at F4 h4 ⊢
  by_cases q4 : sgn I n 4 34
  case neg =>
    refine ⟨fun q => absurd q.2.2.2.2.1 q4, fun _ => ?_⟩
    obtain ⟨τ5, e5, c5⟩ := mGn h4 sx_10 (by decide) q4
    rw [e5, bind_some']
    refine MB_sign (BAD.tr F4 c5) (fun Y2 h2 => ?_)
    exact m_sch_bad (N := 999999) h2
  obtain ⟨τ5, e5, h5, F5⟩ := mG hD h4 sx_10 (by decide) q4
  have F5 := F4.tr F5 (fun _ u => u)
  rw [e5, bind_some']
  by_cases q5 : sgn I n 5 59
  case neg =>
    refine ⟨fun q => absurd q.2.2.2.2.2 q5, fun _ => ?_⟩
    obtain ⟨τ6, e6, c6⟩ := mGn h5 sx_12 (by decide) q5
    rw [e6, bind_some']
    exact m_sch_bad (N := 999999) (BAD.tr F5 c6)
  obtain ⟨τ6, e6, h6, F6⟩ := mG hD h5 sx_12 (by decide) q5
  have F6 := F5.tr F6 (fun _ u => u)
  rw [e6, bind_some']
  exact ⟨fun _ => ⟨τ6, rfl, h6, F6⟩, fun q => absurd ⟨q0, q1, q2, q3, q4, q5⟩ q⟩
theorem read_eq (hG : GR I n K a b y) (hR : SRd σ a b I n 0) (h86 : sR σ 86 a = some sd) (hy : y ≤ sZ σ) (hps : PSy y σ I n sd root [] [] [] [] [] [] []) (hcn : CNT σ sd [] [] [] []) (hS : sS σ ≤ s0) (hC : sC σ ≤ c0) (h8 : T8 τ I n) (hT : ∀ j, j ≤ K → TTk I n τ j) (ht : TPS τ [] [] [] [] [] []) :
    Rn (fun r : Option (Option Nat) × ST => r.2) σ (fun bb => sr_read bb a σ) (fun r => (r.1 = none ∧ FL y s0 c0 σ r.2 ∧ MB τ (m_readSchema τ)) ∨ ∃ τ' M E V F O R N i, r.1 = some (some sd) ∧ m_readSchema τ = some τ' ∧ FY y σ r.2 ∧ TF KP τ τ' ∧ PG I n K a b y sd root s0 c0 i i M E V F O R N r.2 τ') := by
  obtain ⟨hD, hI, hn, hya, hby⟩ := id hG
  have REF := m_rs_eq hD h8 hT
  have hKn := hD.1
  obtain ⟨σ0, n0, st0, J0⟩ := sr_next_eq hI hR
  have st0 : STk σ0 a b I n (tkn I n 0) := st0
  have w28 := wdA 28 (by decide)
  have w29 := wdA 29 (by decide)
  unfold sr_read
  refine Rn_eq (fun bb => by rw [gd_pos hR.1, n0 bb, bind_some', gd_pos st0.1.1]) ?_
  refine Rn_le J0.le ?_
  have fl : ∀ {X : ST}, JO a σ X → FL y s0 c0 σ (nX X) := fun J => FL.make (FR.fy J.1 hya) (by rw [J.2.2.1]; omega) (by rw [J.2.1]; omega)
  refine Rn_tB (sr_word_eq hI st0 (u := 28) w28.1 w28.2) (fun σ' _ hj => ?_) (fun _ σ1 _ hj => ?_)
  · rcases hj with ⟨-, q, -⟩ | ⟨qk, q⟩
    · cases q
    · have eσ : σ' = nX σ0 := congrArg Prod.snd q
      subst eσ
      exact ⟨rfl, Or.inl ⟨rfl, fl J0, REF.2 (fun w => qk w.1)⟩⟩
  rcases hj with ⟨k0, -, st1, J1⟩ | ⟨-, q⟩
  case inr => cases q
  dsimp only at st1 J1
  have J1 := J0.tr J1
  refine Rn_eq (fun bb => by rw [gd_pos st1.1.1]) ?_
  refine Rn_tB (sr_sign_eq hI st1 (x := 61) (by omega)) (fun σ' _ hj => ?_) (fun _ σ2 _ hj => ?_)
  · rcases hj with ⟨-, q, -⟩ | ⟨qk, q⟩
    · cases q
    · have eσ : σ' = nX σ1 := congrArg Prod.snd q
      subst eσ
      exact ⟨rfl, Or.inl ⟨rfl, fl J1, REF.2 (fun w => qk w.2.1)⟩⟩
  rcases hj with ⟨k1, -, st2, J2⟩ | ⟨-, q⟩
  case inr => cases q
  dsimp only at st2 J2
  have J2 := J1.tr J2
  refine Rn_eq (fun bb => by rw [gd_pos st2.1.1]) ?_
  refine Rn_tB (sr_sign_eq hI st2 (x := 34) (by omega)) (fun σ' _ hj => ?_) (fun _ σ3 _ hj => ?_)
  · rcases hj with ⟨-, q, -⟩ | ⟨qk, q⟩
    · cases q
    · have eσ : σ' = nX σ2 := congrArg Prod.snd q
      subst eσ
      exact ⟨rfl, Or.inl ⟨rfl, fl J2, REF.2 (fun w => qk w.2.2.1)⟩⟩
  rcases hj with ⟨k2, -, st3, J3⟩ | ⟨-, q⟩
  case inr => cases q
  dsimp only at st3 J3
  have J3 := J2.tr J3
  refine Rn_eq (fun bb => by rw [gd_pos st3.1.1]) ?_
  refine Rn_tB (sr_word_eq hI st3 (u := 29) w29.1 w29.2) (fun σ' _ hj => ?_) (fun _ σ4 _ hj => ?_)
  · rcases hj with ⟨-, q, -⟩ | ⟨qk, q⟩
    · cases q
    · have eσ : σ' = nX σ3 := congrArg Prod.snd q
      subst eσ
      exact ⟨rfl, Or.inl ⟨rfl, fl J3, REF.2 (fun w => qk w.2.2.2.1)⟩⟩
  rcases hj with ⟨k3, -, st4, J4⟩ | ⟨-, q⟩
  case inr => cases q
  dsimp only at st4 J4
  have J4 := J3.tr J4
  refine Rn_eq (fun bb => by rw [gd_pos st4.1.1]) ?_
  refine Rn_tB (sr_sign_eq hI st4 (x := 34) (by omega)) (fun σ' _ hj => ?_) (fun _ σ5 _ hj => ?_)
  · rcases hj with ⟨-, q, -⟩ | ⟨qk, q⟩
    · cases q
    · have eσ : σ' = nX σ4 := congrArg Prod.snd q
      subst eσ
      exact ⟨rfl, Or.inl ⟨rfl, fl J4, REF.2 (fun w => qk w.2.2.2.2.1)⟩⟩
  rcases hj with ⟨k4, -, st5, J5⟩ | ⟨-, q⟩
  case inr => cases q
  dsimp only at st5 J5
  have J5 := J4.tr J5
  refine Rn_eq (fun bb => by rw [gd_pos st5.1.1]) ?_
  refine Rn_tB (sr_sign_eq hI st5 (x := 59) (by omega)) (fun σ' _ hj => ?_) (fun _ σ6 _ hj => ?_)
  · rcases hj with ⟨-, q, -⟩ | ⟨qk, q⟩
    · cases q
    · have eσ : σ' = nX σ5 := congrArg Prod.snd q
      subst eσ
      exact ⟨rfl, Or.inl ⟨rfl, fl J5, REF.2 (fun w => qk w.2.2.2.2.2)⟩⟩
  rcases hj with ⟨k5, -, st6, J6⟩ | ⟨-, q⟩
  case inr => cases q
  dsimp only at st6 J6
  have J6 := J5.tr J6
  have st6 : STk σ6 a b I n (tkn I n 6) := st6
  obtain ⟨τ1, eR, hm1, F1⟩ := REF.1 ⟨k0, k1, k2, k3, k4, k5⟩
  have G6 : FR6 σ σ6 := J6.f6 hR.1
  have Y6 : FY y σ σ6 := FR.fy J6.1 hya
  obtain ⟨ob, L, H, Q, B⟩ := hps
  have P6 : PG I n K a b y sd root s0 c0 6 6 [] [] [] [] [] [] [] σ6 τ1 := by
    refine ⟨hm1, ht.tf F1, st6, by rw [J6.2.2.2.2]; exact h86, by rw [J6.2.2.2.1]; exact hy, ?_, ⟨ob, L, H.fr G6, Q, B.kp (fun x hx => (H.1 x hx).2) G6.kp⟩, hcn.fr H B G6, by rw [J6.2.2.1]; omega, by rw [J6.2.1]; omega⟩
    refine ⟨⟨by decide, by decide, by decide, by decide, by decide, by decide⟩, fun j m h => (by cases h), fun e h => (by cases h), fun e h => (by cases h), fun e h => (by cases h), fun e h => (by cases h), fun e h => (by cases h), List.Perm.refl _, List.Pairwise.nil⟩
  have LP := sch_loop hG FU FU K 6 [] [] [] [] [] [] [] σ6 τ1 (by omega) P6 (FU_gt (by omega)) (FU_gt (by omega))
  refine Rn_bind (su := Sum.elim (fun r : Option (Option Nat) × ST => r.2) id) LP (fun r9 _ h9 => ?_)
  have TK : TF KP τ τ1 := F1.mono (by decide)
  rcases h9 with ⟨σ', w1, w2, w3⟩ | ⟨σ9, τ', M', E', V', F', O', R', N', i', w1, w2, w5, w6, w7⟩
  · subst w1
    refine Rn_some (Le.refl _) (Or.inl ⟨rfl, FL.tr Y6 w2, ?_⟩)
    rw [eR]; exact MB.tk TK w3
  · subst w1
    show Rn (fun r : Option (Option Nat) × ST => r.2) σ9 (fun bb => gd (sc σ9 a = 6) (some ((some (sR σ9 86 a), σ9)))) _
    refine Rn_gd w7.2.2.1.1.1 ?_
    refine Rn_some (Le.refl _) (Or.inr ⟨τ', M', E', V', F', O', R', N', i', by rw [w7.2.2.2.1], by rw [eR]; exact w2, Y6.tr w5, TK.tr w6 (fun _ u => u), w7⟩)
end Rd
