set_option maxRecDepth 100000
/-! SCHEMAS, READ: fields, as the reference reads them -/
/-- but for ints kI and arrays kA at q0 nothing changed -/
def TA (kI kA : List Nat) (q0 : Nat) (τ τ' : TT) : Prop := (∀ k, k ∉ kI → tI τ' k = tI τ k) ∧ (∀ k q, k ∉ [13, 14] → (q ≠ q0 ∨ k ∉ kA) → tA τ' k q = tA τ k q) ∧ ∀ k, k ∉ [13, 14] → tJ τ' k = tJ τ k
def fdlS (I : Nat → Nat) (n i : Nat) : Option Nat := if (tkn I n i).1 = 1 then (dtS I n (n + 1) (i + 1)).bind (fun w => if (tkn I n (i + 1 + 2 * w)).1 = 1 ∧ sgn I n (i + 2 + 2 * w) 61 ∧ (tkn I n (i + 3 + 2 * w)).1 = 2 ∧ sgn I n (i + 4 + 2 * w) 59 then some w else none) else none
/-- the number that a token says -/
def tkN (I : Nat → Nat) (t : Nat × Nat × Nat) : Nat := nvl I t.2.1 (t.2.2 - t.2.1)
section Tc
variable {I : Nat → Nat} {n i K : Nat} {σ σ' : ST} {τ τ0 τ1 τ' : TT} {M : List TyM} {E : List TyE} {V : List TyV} {F : List TyF} {O : List TyO} {R : List TyR}
theorem TA.tf {kI kA : List Nat} {q0 : Nat} (f : TF [13, 14] τ τ1) (h : TA kI kA q0 τ1 τ') (h1 : 13 ∈ kI) (h2 : 14 ∈ kI) : TA kI kA q0 τ τ' := by
  refine ⟨fun k hk => ?_, fun k q hk hq => ?_, fun k hk => ?_⟩
  · rw [h.1 k hk, (f k ?_).1]
    intro q
    rcases List.mem_cons.mp q with e | e
    · rw [e] at hk; exact hk h1
    · rcases List.mem_cons.mp e with e | e
      · rw [e] at hk; exact hk h2
      · cases e
  · rw [h.2.1 k q hk hq, (f k hk).2.2]
  · rw [h.2.2 k hk, (f k hk).2.1]
theorem MRd.ta {kI kA : List Nat} {q0 : Nat} (h : MRd τ I n K i) (g : TA kI kA q0 τ τ') (h5 : 5 ∉ kI) (h8 : 8 ∉ kA) (h9 : 9 ∉ kA) (hA : 10 ∉ kA) (hB : 11 ∉ kA) (h13 : tI τ' 13 = (i : Int)) (h14 : tI τ' 14 = 0) : MRd τ' I n K i := by
  obtain ⟨⟨a1, a2, a3, a4⟩, b1, b2, b3, b4, b5⟩ := h
  exact ⟨⟨by rw [g.1 5 h5]; exact a1, a2, fun k hk => by rw [g.2.1 8 k (by decide) (Or.inr h8)]; exact a3 k hk, a4⟩, b1, fun j hj => by
    obtain ⟨c1, c2, c3⟩ := b2 j hj
    exact ⟨by rw [g.2.1 9 j (by decide) (Or.inr h9)]; exact c1, by rw [g.2.1 10 j (by decide) (Or.inr hA)]; exact c2, by rw [g.2.1 11 j (by decide) (Or.inr hB)]; exact c3⟩, b3, h13, h14⟩
theorem mW (hD : KD I n K) (h : MRd τ I n K i) (hk : (tkn I n i).1 = 1) : ∃ τ', m_word τ = some ((i : Int), τ') ∧ MRd τ' I n K (i + 1) ∧ TF [13, 14] τ τ' := ⟨_, by rw [m_word_eq h, if_pos hk], h.step hD (by omega), (TF.refl _ _).uI (by decide) _⟩
theorem mWn (h : MRd τ I n K i) (hk : (tkn I n i).1 ≠ 1) : ∃ τ', m_word τ = some (0, τ') ∧ BAD τ τ' := ⟨_, by rw [m_word_eq h, if_neg hk], BAD.i0 (TF.refl _ _)⟩
theorem mG (hD : KD I n K) (h : MRd τ I n K i) {u c : Nat} (hs : sx u = [c]) (hc : sgc (c : Int) = true) (hk : sgn I n i (c : Int)) : ∃ τ', m_sign u τ = some τ' ∧ MRd τ' I n K (i + 1) ∧ TF [13, 14] τ τ' := ⟨_, by rw [m_sign_sg h hs hc, if_pos hk], h.step hD (by have := hk.1; omega), (TF.refl _ _).uI (by decide) _⟩
theorem mGn (h : MRd τ I n K i) {u c : Nat} (hs : sx u = [c]) (hc : sgc (c : Int) = true) (hk : ¬ sgn I n i (c : Int)) : ∃ τ', m_sign u τ = some τ' ∧ BAD τ τ' := ⟨_, by rw [m_sign_sg h hs hc, if_neg hk], BAD.i0 (TF.refl _ _)⟩
theorem mK (hD : KD I n K) (h : MRd τ I n K i) (hk : (tkn I n i).1 = 2) : ∃ τ', m_number τ = some ((tkN I (tkn I n i) : Int), τ') ∧ MRd τ' I n K (i + 1) ∧ TF [13, 14] τ τ' := ⟨_, by rw [m_number_eq h, if_pos hk]; rfl, h.step hD (by omega), (TF.refl _ _).uI (by decide) _⟩
theorem mKn (h : MRd τ I n K i) (hk : (tkn I n i).1 ≠ 2) : ∃ τ', m_number τ = some (0, τ') ∧ BAD τ τ' := ⟨_, by rw [m_number_eq h, if_neg hk], BAD.i0 (TF.refl _ _)⟩
theorem mT (hD : KD I n K) (h : MRd τ I n K i) {u c : Nat} (hs : sx u = [c]) (hc : sgc (c : Int) = true) (hk : sgn I n i (c : Int)) : ∃ τ', m_takes u τ = some (1, τ') ∧ MRd τ' I n K (i + 1) ∧ TF [13, 14] τ τ' := ⟨_, by rw [m_takes_sg h hs hc, if_pos hk], h.step hD (by have := hk.1; omega), (TF.refl _ _).uI (by decide) _⟩
theorem mTn (h : MRd τ I n K i) {u c : Nat} (hs : sx u = [c]) (hc : sgc (c : Int) = true) (hk : ¬ sgn I n i (c : Int)) : m_takes u τ = some (0, τ) := by rw [m_takes_sg h hs hc, if_neg hk]
theorem sx_9 : sx 9 = [61] := by decide +kernel
theorem sx_12 : sx 12 = [59] := by decide +kernel
abbrev KFd : List Nat := [22, 23, 24, 25, 26, 27, 29, 30]
/-- the reference's field stored -/
def UFd (a1 a2 a3 a4 : Int) (i w nf num : Nat) (τ τ' : TT) : Prop := TA [13, 14, 38] KFd nf τ τ' ∧ tI τ' 38 = ((nf + 1 : Nat) : Int) ∧ tA τ' 25 nf = (i : Int) ∧ tA τ' 26 nf = ((1 + w : Nat) : Int) ∧ tA τ' 22 nf = ((i + 1 + 2 * w : Nat) : Int) ∧ tA τ' 24 nf = (num : Int) ∧ tA τ' 23 nf = a1 ∧ tA τ' 27 nf = a2 ∧ tA τ' 29 nf = a3 ∧ tA τ' 30 nf = a4
theorem m_readField_bad {a1 a2 a3 a4 : Int} (h : BAD τ0 τ) : MB τ0 (m_readField a1 a2 a3 a4 τ) := by
  unfold m_readField
  refine MB_word h (fun τ1 b1 => ?_)
  have e : m_readField_L9 a1 a2 a3 a4 0 FU 1 τ1 = some (1, τ1) := by
    rw [show FU = 999999 + 1 from rfl, m_readField_L9, (m_bad b1.1 18).1, bind_some', gd_pos (by omega), if_pos rfl]
  show MB τ0 (Option.bind (m_readField_L9 a1 a2 a3 a4 0 FU 1 τ1) _)
  rw [e, bind_some']
  refine MB_word b1 (fun τ2 b2 => ?_)
  refine MB_sign b2 (fun τ3 b3 => ?_)
  refine MB_num b3 (fun τ4 b4 => ?_)
  refine MB_sign b4 (fun τ5 b5 => ?_)
  exact MB_chk b5
theorem m_readField_eq (hD : KD I n K) (h : MRd τ I n K i) {a1 a2 a3 a4 : Int} (ha3 : zb a3) (ha4 : zb a4) {nf : Nat} (hF : tI τ 38 = (nf : Int)) (hf : nf ≤ 50) :
    (∀ w, fdlS I n i = some w → nf < 50 → ∃ τ', m_readField a1 a2 a3 a4 τ = some τ' ∧ MRd τ' I n K (i + 5 + 2 * w) ∧ UFd a1 a2 a3 a4 i w nf (tkN I (tkn I n (i + 3 + 2 * w))) τ τ') ∧
    (fdlS I n i = none ∨ nf = 50 → MB τ (m_readField a1 a2 a3 a4 τ)) := by
  by_cases q0 : (tkn I n i).1 = 1
  case neg =>
    refine ⟨fun w hw => (by unfold fdlS at hw; rw [if_neg q0] at hw; cases hw), fun _ => ?_⟩
    obtain ⟨τ1, e1, b1⟩ := mWn h q0
    unfold m_readField
    rw [e1, bind_some']
    have e : m_readField_L9 a1 a2 a3 a4 0 FU 1 τ1 = some (1, τ1) := by
      rw [show FU = 999999 + 1 from rfl, m_readField_L9, (m_bad b1.1 18).1, bind_some', gd_pos (by omega), if_pos rfl]
    show MB τ (Option.bind (m_readField_L9 a1 a2 a3 a4 0 FU 1 τ1) _)
    rw [e, bind_some']
    refine MB_word b1 (fun τ2 b2 => ?_)
    refine MB_sign b2 (fun τ3 b3 => ?_)
    refine MB_num b3 (fun τ4 b4 => ?_)
    refine MB_sign b4 (fun τ5 b5 => ?_)
    exact MB_chk b5
  obtain ⟨τ1, e1, h1, F1⟩ := mW hD h q0
  have hKn := hD.1
  have hn : n ≤ 1000 := h.1.2.1
  have L := m_L9 hD (u1 := a1) (u2 := a2) (u3 := a3) (u4 := a4) (u5 := (i : Int)) n (i + 1) 1 τ1 FU h1 (by omega) (FU_gt (by omega))
  unfold m_readField
  rw [e1, bind_some']
  cases eD : dtS I n (n + 1) (i + 1) with
  | none =>
    refine ⟨fun w hw => (by unfold fdlS at hw; rw [if_pos q0, eD] at hw; cases hw), fun _ => ?_⟩
    obtain ⟨x, τ2, e2, b2⟩ := L.2 eD
    have b2 := BAD.tr F1 b2
    show MB τ (Option.bind (m_readField_L9 a1 a2 a3 a4 (i : Int) FU 1 τ1) _)
    rw [e2, bind_some']
    refine MB_word b2 (fun τ2 b2 => ?_)
    refine MB_sign b2 (fun τ3 b3 => ?_)
    refine MB_num b3 (fun τ4 b4 => ?_)
    refine MB_sign b4 (fun τ5 b5 => ?_)
    exact MB_chk b5
  | some w =>
    have eS : fdlS I n i = if (tkn I n (i + 1 + 2 * w)).1 = 1 ∧ sgn I n (i + 2 + 2 * w) 61 ∧ (tkn I n (i + 3 + 2 * w)).1 = 2 ∧ sgn I n (i + 4 + 2 * w) 59 then some w else none := by
      unfold fdlS; rw [if_pos q0, eD]; rfl
    rw [eS]
    obtain ⟨τ2, e2, h2, F2⟩ := L.1 w eD
    have F2 := F1.tr F2 (fun _ u => u)
    have e2' : m_readField_L9 a1 a2 a3 a4 ((i : Int), τ1).1 FU 1 ((i : Int), τ1).2 = some (1 + (w : Int), τ2) := e2
    rw [e2', bind_some']
    by_cases q1 : (tkn I n (i + 1 + 2 * w)).1 = 1
    case neg =>
      refine ⟨fun v hv => (by rw [if_neg (fun q => q1 q.1)] at hv; cases hv), fun _ => ?_⟩
      obtain ⟨τ3, e3, b3⟩ := mWn h2 q1
      rw [e3, bind_some']
      refine MB_sign (BAD.tr F2 b3) (fun τ3 b3 => ?_)
      refine MB_num b3 (fun τ4 b4 => ?_)
      refine MB_sign b4 (fun τ5 b5 => ?_)
      exact MB_chk b5
    obtain ⟨τ3, e3, h3, F3⟩ := mW hD h2 q1
    have F3 := F2.tr F3 (fun _ u => u)
    have h3 : MRd τ3 I n K (i + 2 + 2 * w) := by rw [show i + 2 + 2 * w = i + 1 + 2 * w + 1 by omega]; exact h3
    rw [e3, bind_some']
    by_cases q2 : sgn I n (i + 2 + 2 * w) 61
    case neg =>
      refine ⟨fun v hv => (by rw [if_neg (fun q => q2 q.2.1)] at hv; cases hv), fun _ => ?_⟩
      obtain ⟨τ4, e4, b4⟩ := mGn h3 sx_9 (by decide) q2
      rw [e4, bind_some']
      refine MB_num (BAD.tr F3 b4) (fun τ4 b4 => ?_)
      refine MB_sign b4 (fun τ5 b5 => ?_)
      exact MB_chk b5
    obtain ⟨τ4, e4, h4, F4⟩ := mG hD h3 sx_9 (by decide) q2
    have F4 := F3.tr F4 (fun _ u => u)
    have h4 : MRd τ4 I n K (i + 3 + 2 * w) := by rw [show i + 3 + 2 * w = i + 2 + 2 * w + 1 by omega]; exact h4
    rw [e4, bind_some']
    by_cases q3 : (tkn I n (i + 3 + 2 * w)).1 = 2
    case neg =>
      refine ⟨fun v hv => (by rw [if_neg (fun q => q3 q.2.2.1)] at hv; cases hv), fun _ => ?_⟩
      obtain ⟨τ5, e5, b5⟩ := mKn h4 q3
      rw [e5, bind_some']
      refine MB_sign (BAD.tr F4 b5) (fun τ5 b5 => ?_)
      exact MB_chk b5
    obtain ⟨τ5, e5, h5, F5⟩ := mK hD h4 q3
    have F5 := F4.tr F5 (fun _ u => u)
    have h5 : MRd τ5 I n K (i + 4 + 2 * w) := by rw [show i + 4 + 2 * w = i + 3 + 2 * w + 1 by omega]; exact h5
    rw [e5, bind_some']
    by_cases q4 : sgn I n (i + 4 + 2 * w) 59
    case neg =>
      refine ⟨fun v hv => (by rw [if_neg (fun q => q4 q.2.2.2)] at hv; cases hv), fun _ => ?_⟩
      obtain ⟨τ6, e6, b6⟩ := mGn h5 sx_12 (by decide) q4
      rw [e6, bind_some']
      exact MB_chk (BAD.tr F5 b6)
    obtain ⟨τ6, e6, h6, F6⟩ := mG hD h5 sx_12 (by decide) q4
    have F6 := F5.tr F6 (fun _ u => u)
    have h6 : MRd τ6 I n K (i + 5 + 2 * w) := by rw [show i + 5 + 2 * w = i + 4 + 2 * w + 1 by omega]; exact h6
    have e14 : tI τ6 14 = 0 := h6.2.2.2.2.2
    have e38 : tI τ6 38 = (nf : Int) := by rw [(F6 38 (by decide)).1]; exact hF
    rw [e6, bind_some', if_pos ⟨q1, q2, q3, q4⟩, e14, e38, gd_pos (by omega), gd_pos (by exact fun _ => by omega)]
    by_cases qf : nf = 50
    · refine ⟨fun v _ hv => by omega, fun _ => ?_⟩
      rw [if_neg (fun q => q.2 (by omega)), bind_some', gd_pos (by decide), nm_eq]
      have B : BAD τ (uI τ6 14 1) := BAD.i0 F6
      rw [B.1, gd_pos (by omega), if_neg (by omega)]
      exact MB_ret B
    · refine ⟨fun v hv hf2 => ?_, fun q => ?_⟩
      · have hv' : w = v := Option.some.inj hv
        subst hv'
        rw [if_pos ⟨rfl, by omega⟩, bind_some', gd_pos (by decide), nm_eq]
        obtain ⟨X, hX⟩ : ∃ X, X = uI τ6 14 0 := ⟨_, rfl⟩
        rw [← hX]
        have x14 : tI X 14 = 0 := by rw [hX, tI_uI, if_pos rfl]
        have x38 : tI X 38 = (nf : Int) := by rw [hX, tI_uI, if_neg (by decide)]; exact e38
        have FX : TF [13, 14] τ X := by rw [hX]; exact F6.uI (by decide) _
        have hib : ib (nf : Int) 50 := by constructor <;> omega
        rw [x14, gd_pos (by omega), if_pos rfl]
        rw [x38, gd_pos hib, nm_eq, Int.toNat_natCast]
        obtain ⟨X1, hX1⟩ : ∃ Z, Z = uA X 25 nf (i : Int) := ⟨_, rfl⟩
        rw [← hX1]
        have x38_1 : tI X1 38 = (nf : Int) := by rw [hX1, tI_uA]; exact x38
        have T1 : ∀ k q, tA X1 k q = if k = 25 ∧ q = nf then (i : Int) else tA X k q := fun k q => by rw [hX1, tA_uA]
        have I1 : tI X1 = tI X := by rw [hX1, tI_uA]
        have J1 : tJ X1 = tJ X := by rw [hX1, tJ_uA]
        rw [x38_1, gd_pos hib, nm_eq, Int.toNat_natCast]
        obtain ⟨X2, hX2⟩ : ∃ Z, Z = uA X1 26 nf (1 + (w : Int)) := ⟨_, rfl⟩
        rw [← hX2]
        have x38_2 : tI X2 38 = (nf : Int) := by rw [hX2, tI_uA]; exact x38_1
        have T2 : ∀ k q, tA X2 k q = if k = 26 ∧ q = nf then (1 + (w : Int)) else tA X1 k q := fun k q => by rw [hX2, tA_uA]
        have I2 : tI X2 = tI X1 := by rw [hX2, tI_uA]
        have J2 : tJ X2 = tJ X1 := by rw [hX2, tJ_uA]
        rw [x38_2, gd_pos hib, nm_eq, Int.toNat_natCast]
        obtain ⟨X3, hX3⟩ : ∃ Z, Z = uA X2 22 nf ((i + 1 + 2 * w : Nat) : Int) := ⟨_, rfl⟩
        rw [← hX3]
        have x38_3 : tI X3 38 = (nf : Int) := by rw [hX3, tI_uA]; exact x38_2
        have T3 : ∀ k q, tA X3 k q = if k = 22 ∧ q = nf then ((i + 1 + 2 * w : Nat) : Int) else tA X2 k q := fun k q => by rw [hX3, tA_uA]
        have I3 : tI X3 = tI X2 := by rw [hX3, tI_uA]
        have J3 : tJ X3 = tJ X2 := by rw [hX3, tJ_uA]
        rw [x38_3, gd_pos hib, nm_eq, Int.toNat_natCast]
        obtain ⟨X4, hX4⟩ : ∃ Z, Z = uA X3 24 nf (tkN I (tkn I n (i + 3 + 2 * w)) : Int) := ⟨_, rfl⟩
        rw [← hX4]
        have x38_4 : tI X4 38 = (nf : Int) := by rw [hX4, tI_uA]; exact x38_3
        have T4 : ∀ k q, tA X4 k q = if k = 24 ∧ q = nf then (tkN I (tkn I n (i + 3 + 2 * w)) : Int) else tA X3 k q := fun k q => by rw [hX4, tA_uA]
        have I4 : tI X4 = tI X3 := by rw [hX4, tI_uA]
        have J4 : tJ X4 = tJ X3 := by rw [hX4, tJ_uA]
        rw [x38_4, gd_pos hib, nm_eq, Int.toNat_natCast]
        obtain ⟨X5, hX5⟩ : ∃ Z, Z = uA X4 23 nf a1 := ⟨_, rfl⟩
        rw [← hX5]
        have x38_5 : tI X5 38 = (nf : Int) := by rw [hX5, tI_uA]; exact x38_4
        have T5 : ∀ k q, tA X5 k q = if k = 23 ∧ q = nf then a1 else tA X4 k q := fun k q => by rw [hX5, tA_uA]
        have I5 : tI X5 = tI X4 := by rw [hX5, tI_uA]
        have J5 : tJ X5 = tJ X4 := by rw [hX5, tJ_uA]
        rw [x38_5, gd_pos hib, nm_eq, Int.toNat_natCast]
        obtain ⟨X6, hX6⟩ : ∃ Z, Z = uA X5 27 nf a2 := ⟨_, rfl⟩
        rw [← hX6]
        have x38_6 : tI X6 38 = (nf : Int) := by rw [hX6, tI_uA]; exact x38_5
        have T6 : ∀ k q, tA X6 k q = if k = 27 ∧ q = nf then a2 else tA X5 k q := fun k q => by rw [hX6, tA_uA]
        have I6 : tI X6 = tI X5 := by rw [hX6, tI_uA]
        have J6 : tJ X6 = tJ X5 := by rw [hX6, tJ_uA]
        rw [x38_6, gd_pos hib, gd_pos ha3, nm_eq, Int.toNat_natCast]
        obtain ⟨X7, hX7⟩ : ∃ Z, Z = uA X6 29 nf a3 := ⟨_, rfl⟩
        rw [← hX7]
        have x38_7 : tI X7 38 = (nf : Int) := by rw [hX7, tI_uA]; exact x38_6
        have T7 : ∀ k q, tA X7 k q = if k = 29 ∧ q = nf then a3 else tA X6 k q := fun k q => by rw [hX7, tA_uA]
        have I7 : tI X7 = tI X6 := by rw [hX7, tI_uA]
        have J7 : tJ X7 = tJ X6 := by rw [hX7, tJ_uA]
        rw [x38_7, gd_pos hib, gd_pos ha4, nm_eq, Int.toNat_natCast]
        obtain ⟨X8, hX8⟩ : ∃ Z, Z = uA X7 30 nf a4 := ⟨_, rfl⟩
        rw [← hX8]
        have x38_8 : tI X8 38 = (nf : Int) := by rw [hX8, tI_uA]; exact x38_7
        have T8 : ∀ k q, tA X8 k q = if k = 30 ∧ q = nf then a4 else tA X7 k q := fun k q => by rw [hX8, tA_uA]
        have I8 : tI X8 = tI X7 := by rw [hX8, tI_uA]
        have J8 : tJ X8 = tJ X7 := by rw [hX8, tJ_uA]
        rw [x38_8, nm_eq]
        obtain ⟨Z, hZ⟩ : ∃ Z, Z = uI X8 38 ((nf : Int) + 1) := ⟨_, rfl⟩
        rw [← hZ]
        have TX : TA [38] KFd nf X Z := by
          refine ⟨fun k hk => ?_, fun k q hk hq => ?_, fun k hk => ?_⟩
          · rw [hZ, tI_uI, if_neg (by intro e; rw [e] at hk; exact hk (by decide)), I8, I7, I6, I5, I4, I3, I2, I1]
          · have ng : ∀ k0, k0 ∈ KFd → ¬ (k = k0 ∧ q = nf) := fun k0 h0 e => by
              rcases hq with hq | hq
              · exact hq e.2
              · exact hq (by rw [e.1]; exact h0)
            rw [hZ, tA_uI, T8, if_neg (ng _ (by decide)), T7, if_neg (ng _ (by decide)), T6, if_neg (ng _ (by decide)), T5, if_neg (ng _ (by decide)), T4, if_neg (ng _ (by decide)), T3, if_neg (ng _ (by decide)), T2, if_neg (ng _ (by decide)), T1, if_neg (ng _ (by decide))]
          · rw [hZ, tJ_uI, J8, J7, J6, J5, J4, J3, J2, J1]
        have hX6 : MRd X I n K (i + 5 + 2 * w) := by
          rw [hX]; exact ⟨h6.1, h6.2.1, h6.2.2.1, h6.2.2.2.1, by rw [tI_uI, if_neg (by decide)]; exact h6.2.2.2.2.1, by rw [tI_uI, if_pos rfl]⟩
        refine ⟨Z, rfl, hX6.ta TX (by decide) (by decide) (by decide) (by decide) (by decide) (by rw [TX.1 13 (by decide)]; exact hX6.2.2.2.2.1) (by rw [TX.1 14 (by decide)]; exact x14), TA.tf FX ⟨fun k hk => TX.1 k (fun q => hk (by rw [List.mem_singleton.mp q]; decide)), TX.2.1, TX.2.2⟩ (by decide) (by decide), ?_, ?_, ?_, ?_, ?_, ?_, ?_, ?_, ?_⟩
        · rw [hZ, tI_uI, if_pos rfl]; omega
        · rw [hZ, tA_uI, T8, if_neg (by omega), T7, if_neg (by omega), T6, if_neg (by omega), T5, if_neg (by omega), T4, if_neg (by omega), T3, if_neg (by omega), T2, if_neg (by omega), T1, if_pos ⟨rfl, rfl⟩]
        · rw [hZ, tA_uI, T8, if_neg (by omega), T7, if_neg (by omega), T6, if_neg (by omega), T5, if_neg (by omega), T4, if_neg (by omega), T3, if_neg (by omega), T2, if_pos ⟨rfl, rfl⟩]; omega
        · rw [hZ, tA_uI, T8, if_neg (by omega), T7, if_neg (by omega), T6, if_neg (by omega), T5, if_neg (by omega), T4, if_neg (by omega), T3, if_pos ⟨rfl, rfl⟩]
        · rw [hZ, tA_uI, T8, if_neg (by omega), T7, if_neg (by omega), T6, if_neg (by omega), T5, if_neg (by omega), T4, if_pos ⟨rfl, rfl⟩]
        · rw [hZ, tA_uI, T8, if_neg (by omega), T7, if_neg (by omega), T6, if_neg (by omega), T5, if_pos ⟨rfl, rfl⟩]
        · rw [hZ, tA_uI, T8, if_neg (by omega), T7, if_neg (by omega), T6, if_pos ⟨rfl, rfl⟩]
        · rw [hZ, tA_uI, T8, if_neg (by omega), T7, if_pos ⟨rfl, rfl⟩]
        · rw [hZ, tA_uI, T8, if_pos ⟨rfl, rfl⟩]
      · rcases q with q | q
        · cases q
        · exact absurd q qf
end Tc
