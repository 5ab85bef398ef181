set_option maxRecDepth 100000
/-! SCHEMAS, READ: messages, on both sides -/
/-- both sides read a message that begins at token i -/
def MsC (I : Nat → Nat) (n K a b y sd root s0 c0 d : Nat) (recS : Nat × Nat → Option Nat → Option Nat → Int → ST → Option (Option Unit × ST)) (recM : Int → Int → TT → Option TT) : Prop :=
  ∀ (i : Nat) (M : List TyM) (E : List TyE) (V : List TyV) (F : List TyF) (O : List TyO) (R : List TyR) (N : List TyN) (σ : ST) (τ : TT) (p : Int) (s : Nat), PG I n K a b y sd root s0 c0 i i M E V F O R N σ τ → wrd I n i 30 → scA M root p = some s → -1 ≤ p → p < (M.length : Int) →
    Rn (fun r : Option Unit × ST => r.2) σ (fun bb => recS bb (some a) (some s) (d : Int) σ) (fun r => (r.1 = none ∧ FL y s0 c0 σ r.2 ∧ MB τ (recM p (d : Int) τ)) ∨ ∃ τ' M' E' V' F' O' R' N' i', r.1 = some () ∧ recM p (d : Int) τ = some τ' ∧ i < i' ∧ FY y σ r.2 ∧ TF KP τ τ' ∧ (∃ A, M' = M ++ A) ∧ PG I n K a b y sd root s0 c0 i' i' M' E' V' F' O' R' N' r.2 τ')
section Ms
variable {y n a b K sd root s0 c0 i ms d : Nat} {I : Nat → Nat} {M : List TyM} {E : List TyE} {V : List TyV} {F : List TyF} {O : List TyO} {R : List TyR} {N : List TyN} {σ σ' : ST} {τ : TT} {m : TyM}
theorem wdA : ∀ u ∈ [28, 29, 30, 31, 32, 33, 34, 35], slen u ≤ 100 ∧ ∀ j, j < slen u → sch u j < 128 := by decide +kernel
theorem wdB : ∀ q ∈ [(8, 28), (11, 29), (13, 30), (16, 31), (17, 32), (19, 33), (21, 34), (22, 35)], sx q.1 = sx q.2 ∧ lch (sch q.1 0 : Int) = true ∧ 0 < slen q.1 ∧ slen q.1 ≤ 24 := by decide +kernel
theorem looksE (h : MRd τ I n K i) {u u' : Nat} (hq : (u, u') ∈ [(8, 28), (11, 29), (13, 30), (16, 31), (17, 32), (19, 33), (21, 34), (22, 35)]) : m_looks u τ = some (if wrd I n i u' then 1 else 0) := by
  obtain ⟨h1, h2, h3, h4⟩ := wdB (u, u') hq
  exact m_looks_wd h h1 h2 h3 h4
theorem isWordE (h : STk σ a b I n (tkn I n i)) {u : Nat} (hu : u ∈ [28, 29, 30, 31, 32, 33, 34, 35]) : sr_isWord a u σ = some (if wrd I n i u then 1 else 0) := sr_isWord_eq h (tkn_bd I n i) (wdA u hu).1 (wdA u hu).2
theorem PG.le (h : PG I n K a b y sd root s0 c0 i i M E V F O R N σ τ) : i ≤ K := h.1.2.2.2.1
theorem field_eq2 (hG : GR I n K a b y) (hP : PG I n K a b y sd root s0 c0 i i M E V F O R N σ τ) (hms : M[ms]? = some m) :
    ∃ τ2 re pr, m_looks 21 τ = some re ∧ m_looks 22 τ = some pr ∧ (gd (rg re) (gd (re = 0 → rg pr) (if (re = 0) ∧ (pr = 0) then (some τ) else (nm (uI τ 13 ((tI τ 13) + 1)) fun τ66 => some τ66)))) = some τ2 ∧
    Rn (fun r : Option Unit × ST => r.2) σ (fun bb => sr_field bb a (some m.1) σ) (fun r => (r.1 = none ∧ FL y s0 c0 σ r.2 ∧ MB τ (m_readField (ms : Int) (-1) re pr τ2)) ∨ ∃ τ' F' i', r.1 = some () ∧ m_readField (ms : Int) (-1) re pr τ2 = some τ' ∧ i < i' ∧ FY y σ r.2 ∧ TF KP τ τ' ∧ PG I n K a b y sd root s0 c0 i' i' M E V F' O R N r.2 τ') := by
  obtain ⟨hD, hI, hn, hya, hby⟩ := id hG
  obtain ⟨hm, ht, hst, h86, hy, hw, hps, hcn, hS, hC⟩ := id hP
  have l1 := looksE hm (u := 21) (u' := 34) (by decide)
  have l2 := looksE hm (u := 22) (u' := 35) (by decide)
  have s1 := isWordE hst (u := 34) (by decide)
  have s2 := isWordE hst (u := 35) (by decide)
  obtain ⟨re, hre⟩ : ∃ x : Int, x = if wrd I n i 34 then 1 else 0 := ⟨_, rfl⟩
  obtain ⟨pr, hpr⟩ : ∃ x : Int, x = if wrd I n i 35 then 1 else 0 := ⟨_, rfl⟩
  rw [← hre] at l1 s1
  rw [← hpr] at l2 s2
  have re01 : re = 0 ∨ re = 1 := by rw [hre]; split; exact Or.inr rfl; exact Or.inl rfl
  have pr01 : pr = 0 ∨ pr = 1 := by rw [hpr]; split; exact Or.inr rfl; exact Or.inl rfl
  by_cases c : re = 0 ∧ pr = 0
  · refine ⟨τ, re, pr, l1, l2, by rw [gd_pos (by omega), gd_pos (by exact fun _ => by omega), if_pos c], ?_⟩
    unfold sr_field
    refine Rn_eq (fun bb => by rw [gd_pos hst.1.1, s1, bind_some', s2, bind_some', gd_pos (by omega), gd_pos (by exact fun _ => by omega), if_pos c, bind_some', gd_pos hst.1.1]) ?_
    exact fieldc_eq hG hP hms re01 pr01
  · have hk : (tkn I n i).1 ≠ 0 := by
      intro e
      have h1 : ¬ wrd I n i 34 := fun w => by have := w.1; omega
      have h2 : ¬ wrd I n i 35 := fun w => by have := w.1; omega
      rw [if_neg h1] at hre
      rw [if_neg h2] at hpr
      exact c ⟨hre, hpr⟩
    have e13 : tI τ 13 = (i : Int) := hm.2.2.2.2.1
    have F1 : TF [13, 14] τ (uI τ 13 ((i : Int) + 1)) := (TF.refl _ _).uI (by decide) _
    refine ⟨uI τ 13 ((i : Int) + 1), re, pr, l1, l2, by rw [gd_pos (by omega), gd_pos (by exact fun _ => by omega), if_neg c, nm_eq, e13], ?_⟩
    obtain ⟨σ1, n1, st1, J1⟩ := sr_next_k hI hst
    have G1 : FR6 σ σ1 := J1.f6 hst.1.1
    have Y1 : FY y σ σ1 := FR.fy J1.1 hya
    unfold sr_field
    refine Rn_eq (fun bb => by rw [gd_pos hst.1.1, s1, bind_some', s2, bind_some', gd_pos (by omega), gd_pos (by exact fun _ => by omega), if_neg c, n1 bb, bind_some', bind_some', gd_pos st1.1.1]) ?_
    refine Rn_le J1.le ?_
    have mm := tkn_mono I n i
    have bd := tkn_bd I n i
    obtain ⟨ob, L, H, Q, B⟩ := hps
    have P1 : PG I n K a b y sd root s0 c0 (i + 1) (i + 1) M E V F O R N σ1 (uI τ 13 ((i : Int) + 1)) := by
      refine ⟨hm.step hD hk, ht.tf F1, st1, by rw [J1.2.2.2.2]; exact h86, by rw [J1.2.2.2.1]; exact hy, hw, ⟨ob, L, H.fr G1, Q, B.kp (fun x hx => (H.1 x hx).2) G1.kp⟩, hcn.fr H B G1, ?_, ?_⟩
      · rw [J1.2.2.1]; unfold Om at hS ⊢; omega
      · rw [J1.2.1]; unfold Oc at hC ⊢; omega
    refine Rn.mono (fieldc_eq hG P1 hms re01 pr01) (fun r _ h => ?_)
    rcases h with ⟨q1, q2, q3⟩ | ⟨τ', F', i', q1, q2, q3, q4, q5, q6⟩
    · exact Or.inl ⟨q1, FL.tr Y1 q2, MB.tk (F1.mono (by decide)) q3⟩
    · exact Or.inr ⟨τ', F', i', q1, q2, by omega, Y1.tr q4, (F1.mono (by decide)).tr q5 (fun _ u => u), q6⟩
theorem msg_loop (hG : GR I n K a b y) {recS : Nat × Nat → Option Nat → Option Nat → Int → ST → Option (Option Unit × ST)} {recM : Int → Int → TT → Option TT} (hrec : MsC I n K a b y sd root s0 c0 (d + 1) recS recM) : ∀ (N1 N2 c i : Nat) (M : List TyM) (E : List TyE) (V : List TyV) (F : List TyF) (O : List TyO) (R : List TyR) (N : List TyN) (σ : ST) (τ : TT), K - i ≤ c → PG I n K a b y sd root s0 c0 i i M E V F O R N σ τ → M[ms]? = some m → c + 1 < N1 → c + 1 < N2 →
    Rn (Sum.elim (fun r : Option Unit × ST => r.2) id) σ (fun bb => sr_message_L98 bb (recS bb) (some a) (d : Int) m.1 N1 σ) (fun r => (∃ σ', r = Sum.inl (none, σ') ∧ FL y s0 c0 σ σ' ∧ MB τ (m_readMessage_L88 recM (d : Int) (ms : Int) N2 τ)) ∨ ∃ σ' τ' M' E' V' F' O' R' N' i', r = Sum.inr σ' ∧ m_readMessage_L88 recM (d : Int) (ms : Int) N2 τ = some τ' ∧ sgn I n i' 125 ∧ i ≤ i' ∧ FY y σ σ' ∧ TF KP τ τ' ∧ (∃ A, M' = M ++ A) ∧ PG I n K a b y sd root s0 c0 i' (i' + 1) M' E' V' F' O' R' N' σ' τ')
  | 0, N2, c, i, M, E, V, F, O, R, N, σ, τ, _, _, _, h, _ => by omega
  | N1 + 1, 0, c, i, M, E, V, F, O, R, N, σ, τ, _, _, _, _, h => by omega
  | N1 + 1, N2 + 1, c, i, M, E, V, F, O, R, N, σ, τ, hc, hP, hms, f1, f2 => by
    obtain ⟨hD, hI, hn, hya, hby⟩ := id hG
    obtain ⟨hm, ht, hst, h86, hy, hw, ⟨ob, L, H, Q, B⟩, hcn, hS, hC⟩ := id hP
    have hi : i ≤ K := hm.2.2.2.1
    have a6 := hst.1.1
    have e14 : tI τ 14 = 0 := hm.2.2.2.2.2
    have eI := sr_isSign_eq hI hst (tkn_k I n i) (x := 125) (by omega)
    by_cases qe : sgn I n i 125
    · rw [if_pos qe] at eI
      refine Rn_eq (fun bb => by rw [sr_message_L98, bind_some', gd_pos a6, eI, bind_some', gd_pos (by omega), if_neg (by omega)]) ?_
      obtain ⟨τ2, e2, h2, F2⟩ := mT hD hm sx_15 (by decide) qe
      refine Rn_some (Le.refl _) (Or.inr ⟨σ, τ2, M, E, V, F, O, R, N, i, rfl, ?_, qe, Nat.le_refl _, FY.refl _ _, F2.mono (by decide), ⟨[], by rw [List.append_nil]⟩, h2, ht.tf F2, hP.2.2⟩)
      rw [m_readMessage_L88, e14, gd_pos (by omega), if_pos rfl, e2, bind_some']
      dsimp only
      rw [gd_pos (by omega), if_neg (by omega)]
    rw [if_neg qe] at eI
    have eT := mTn hm sx_15 (by decide) qe
    have step : ∀ (A : Nat × Nat → Option (Option Unit × ST)) (X : Option TT), m_readMessage_L88 recM (d : Int) (ms : Int) (N2 + 1) τ = (Option.bind X fun z => m_readMessage_L88 recM (d : Int) (ms : Int) N2 z) →
        Rn (fun r : Option Unit × ST => r.2) σ A (fun r => (r.1 = none ∧ FL y s0 c0 σ r.2 ∧ MB τ X) ∨ ∃ τ' M' E' V' F' O' R' N' i', r.1 = some () ∧ X = some τ' ∧ i < i' ∧ FY y σ r.2 ∧ TF KP τ τ' ∧ (∃ A, M' = M ++ A) ∧ PG I n K a b y sd root s0 c0 i' i' M' E' V' F' O' R' N' r.2 τ') →
        Rn (Sum.elim (fun r : Option Unit × ST => r.2) id) σ (fun bb => Option.bind (A bb) (tB (fun z => Sum.inl ((none, z))) fun _ σ' => sr_message_L98 bb (recS bb) (some a) (d : Int) m.1 N1 σ')) (fun r => (∃ σ', r = Sum.inl (none, σ') ∧ FL y s0 c0 σ σ' ∧ MB τ (m_readMessage_L88 recM (d : Int) (ms : Int) (N2 + 1) τ)) ∨ ∃ σ' τ' M' E' V' F' O' R' N' i', r = Sum.inr σ' ∧ m_readMessage_L88 recM (d : Int) (ms : Int) (N2 + 1) τ = some τ' ∧ sgn I n i' 125 ∧ i ≤ i' ∧ FY y σ σ' ∧ TF KP τ τ' ∧ (∃ A, M' = M ++ A) ∧ PG I n K a b y sd root s0 c0 i' (i' + 1) M' E' V' F' O' R' N' σ' τ') := by
      intro A X eX hA
      refine Rn_tB hA (fun σ' _ hj => ?_) (fun _ σ1 _ hj => ?_)
      · rcases hj with ⟨-, q1, τb, q2, q3⟩ | ⟨τ', M', E', V', F', O', R', N', i', q, -⟩
        · obtain ⟨N2, rfl⟩ : ∃ N', N2 = N' + 1 := ⟨N2 - 1, by omega⟩
          refine ⟨rfl, Or.inl ⟨_, rfl, q1, ?_⟩⟩
          rw [eX, q2, bind_some']
          exact m_msg_bad q3
        · cases q
      · rcases hj with ⟨q, -⟩ | ⟨τ', M', E', V', F', O', R', N', i', -, q1, q2, q3, q4, ⟨A', q5⟩, q6⟩
        · cases q
        rw [eX, q1, bind_some']
        have hi' := q6.le
        have hii : i + (i' - i) ≤ K := by omega
        have ih := msg_loop hG hrec N1 N2 (c - 1) i' M' E' V' F' O' R' N' σ1 τ' (by rw [show i' = i + (i' - i) by omega]; exact kf1 hc hii (by omega)) q6 (by rw [q5]; exact gq_old hms) (kf2 hc hii (by omega) f1) (kf2 hc hii (by omega) f2)
        refine ih.mono (fun r _ hr => ?_)
        rcases hr with ⟨σ', w1, w2, w3⟩ | ⟨σ', τ2, M2, E2, V2, F2, O2, R2, N2', i2, w1, w2, w3, w4, w5, w6, ⟨A2, w7⟩, w8⟩
        · exact Or.inl ⟨σ', w1, FL.tr q3 w2, MB.tk q4 w3⟩
        · exact Or.inr ⟨σ', τ2, M2, E2, V2, F2, O2, R2, N2', i2, w1, w2, w3, by omega, FY.tr q3 w5, q4.tr w6 (fun _ u => u), ⟨A' ++ A2, by rw [w7, q5, List.append_assoc]⟩, w8⟩
    have s1 := isWordE hst (u := 30) (by decide)
    have s2 := isWordE hst (u := 31) (by decide)
    have s3 := isWordE hst (u := 32) (by decide)
    have s4 := isWordE hst (u := 33) (by decide)
    have l1 := looksE hm (u := 13) (u' := 30) (by decide)
    have l2 := looksE hm (u := 16) (u' := 31) (by decide)
    have l3 := looksE hm (u := 17) (u' := 32) (by decide)
    have l4 := looksE hm (u := 19) (u' := 33) (by decide)
    obtain ⟨om1, om2, om7, -, -, om98, -⟩ := B.2.1 ms m hms
    have hsc : scA M root (ms : Int) = some m.2.1 := by rw [scA_n, hms]; rfl
    have hml := gq_lt hms
    by_cases w1 : wrd I n i 30
    · rw [if_pos w1] at s1 l1
      refine Rn_eq (fun bb => by rw [sr_message_L98, bind_some', gd_pos a6, eI, bind_some', gd_pos (by omega), if_pos rfl, s1, bind_some', gd_pos (by omega), if_neg (by omega), gd_pos om7, om98]) ?_
      refine step _ _ ?_ (hrec i M E V F O R N σ τ (ms : Int) m.2.1 hP w1 hsc (by omega) (by omega))
      rw [m_readMessage_L88, e14, gd_pos (by omega), if_pos rfl, eT, bind_some', gd_pos (show rg ((0 : Int), τ).1 by show rg 0; omega), if_pos (show ((0 : Int), τ).1 = 0 from rfl), show (((0 : Int), τ).2) = τ from rfl, l1, bind_some', gd_pos (by omega), if_neg (by omega)]
      rfl
    rw [if_neg w1] at s1 l1
    by_cases w2 : wrd I n i 31
    · rw [if_pos w2] at s2 l2
      refine Rn_eq (fun bb => by rw [sr_message_L98, bind_some', gd_pos a6, eI, bind_some', gd_pos (by omega), if_pos rfl, s1, bind_some', gd_pos (by omega), if_pos rfl, s2, bind_some', gd_pos (by omega), if_neg (by omega), gd_pos om7, om98]) ?_
      refine step _ (m_readEnum (ms : Int) τ) ?_ ?_
      · rw [m_readMessage_L88, e14, gd_pos (by omega), if_pos rfl, eT, bind_some', gd_pos (show rg ((0 : Int), τ).1 by show rg 0; omega), if_pos (show ((0 : Int), τ).1 = 0 from rfl), show (((0 : Int), τ).2) = τ from rfl, l1, bind_some', gd_pos (by omega), if_pos rfl, l2, bind_some', gd_pos (by omega), if_neg (by omega)]
      · refine Rn.mono (enum_eq hG hP w2 hsc ⟨by omega, by omega⟩) (fun r _ h => ?_)
        rcases h with q | ⟨τ', E', V', N', i', q1, q2, q3, q4, q5, q6⟩
        · exact Or.inl q
        · exact Or.inr ⟨τ', M, E', V', F, O, R, N', i', q1, q2, q3, q4, q5, ⟨[], by rw [List.append_nil]⟩, q6⟩
    rw [if_neg w2] at s2 l2
    by_cases w3 : wrd I n i 32
    · rw [if_pos w3] at s3 l3
      refine Rn_eq (fun bb => by rw [sr_message_L98, bind_some', gd_pos a6, eI, bind_some', gd_pos (by omega), if_pos rfl, s1, bind_some', gd_pos (by omega), if_pos rfl, s2, bind_some', gd_pos (by omega), if_pos rfl, s3, bind_some', gd_pos (by omega), if_neg (by omega)]) ?_
      refine step _ (m_readOneof (ms : Int) τ) ?_ ?_
      · rw [m_readMessage_L88, e14, gd_pos (by omega), if_pos rfl, eT, bind_some', gd_pos (show rg ((0 : Int), τ).1 by show rg 0; omega), if_pos (show ((0 : Int), τ).1 = 0 from rfl), show (((0 : Int), τ).2) = τ from rfl, l1, bind_some', gd_pos (by omega), if_pos rfl, l2, bind_some', gd_pos (by omega), if_pos rfl, l3, bind_some', gd_pos (by omega), if_neg (by omega)]
      · refine Rn.mono (oneof_eq hG hP w3 hms) (fun r _ h => ?_)
        rcases h with q | ⟨τ', F', O', i', q1, q2, q3, q4, q5, q6⟩
        · exact Or.inl q
        · exact Or.inr ⟨τ', M, E, V, F', O', R, N, i', q1, q2, q3, q4, q5, ⟨[], by rw [List.append_nil]⟩, q6⟩
    rw [if_neg w3] at s3 l3
    by_cases w4 : wrd I n i 33
    · rw [if_pos w4] at s4 l4
      refine Rn_eq (fun bb => by rw [sr_message_L98, bind_some', gd_pos a6, eI, bind_some', gd_pos (by omega), if_pos rfl, s1, bind_some', gd_pos (by omega), if_pos rfl, s2, bind_some', gd_pos (by omega), if_pos rfl, s3, bind_some', gd_pos (by omega), if_pos rfl, s4, bind_some', gd_pos (by omega), if_neg (by omega)]) ?_
      refine step _ (m_readReserved (ms : Int) τ) ?_ ?_
      · rw [m_readMessage_L88, e14, gd_pos (by omega), if_pos rfl, eT, bind_some', gd_pos (show rg ((0 : Int), τ).1 by show rg 0; omega), if_pos (show ((0 : Int), τ).1 = 0 from rfl), show (((0 : Int), τ).2) = τ from rfl, l1, bind_some', gd_pos (by omega), if_pos rfl, l2, bind_some', gd_pos (by omega), if_pos rfl, l3, bind_some', gd_pos (by omega), if_pos rfl, l4, bind_some', gd_pos (by omega), if_neg (by omega)]
      · refine Rn.mono (reserve_eq hG hP (by have := w4.1; omega) hms) (fun r _ h => ?_)
        rcases h with q | ⟨τ', R', i', q1, q2, q3, q4, q5, q6⟩
        · exact Or.inl q
        · exact Or.inr ⟨τ', M, E, V, F, O, R', N, i', q1, q2, q3, q4, q5, ⟨[], by rw [List.append_nil]⟩, q6⟩
    rw [if_neg w4] at s4 l4
    refine Rn_eq (fun bb => by rw [sr_message_L98, bind_some', gd_pos a6, eI, bind_some', gd_pos (by omega), if_pos rfl, s1, bind_some', gd_pos (by omega), if_pos rfl, s2, bind_some', gd_pos (by omega), if_pos rfl, s3, bind_some', gd_pos (by omega), if_pos rfl, s4, bind_some', gd_pos (by omega), if_pos rfl]) ?_
    obtain ⟨τ2, re, pr, k1, k2, k3, k4⟩ := field_eq2 hG hP hms
    refine step _ (m_readField (ms : Int) (-1) re pr τ2) ?_ ?_
    · rw [m_readMessage_L88, e14, gd_pos (by omega), if_pos rfl, eT, bind_some', gd_pos (show rg ((0 : Int), τ).1 by show rg 0; omega), if_pos (show ((0 : Int), τ).1 = 0 from rfl), show (((0 : Int), τ).2) = τ from rfl, l1, bind_some', gd_pos (by omega), if_pos rfl, l2, bind_some', gd_pos (by omega), if_pos rfl, l3, bind_some', gd_pos (by omega), if_pos rfl, l4, bind_some', gd_pos (by omega), if_pos rfl, k1, bind_some', k2, bind_some', k3, bind_some']
    · refine Rn.mono k4 (fun r _ h => ?_)
      rcases h with q | ⟨τ', F', i', q1, q2, q3, q4, q5, q6⟩
      · exact Or.inl q
      · exact Or.inr ⟨τ', M, E, V, F', O, R, N, i', q1, q2, q3, q4, q5, ⟨[], by rw [List.append_nil]⟩, q6⟩
end Ms
