set_option maxRecDepth 100000
/-! SCHEMAS, READ: heads of enums, oneofs, messages, as the reference reads them -/
section Te
variable {I : Nat → Nat} {n i K : Nat} {σ σ' : ST} {τ τ0 τ1 τ2 τ' : TT}
theorem TA.tfr {kI kA : List Nat} {q0 : Nat} (h : TA kI kA q0 τ τ1) (f : TF [13, 14] τ1 τ') (h1 : 13 ∈ kI) (h2 : 14 ∈ kI) : TA kI kA q0 τ τ' := by
  refine ⟨fun k hk => ?_, fun k q hk hq => ?_, fun k hk => ?_⟩
  · rw [(f k ?_).1, h.1 k hk]
    intro q
    rcases List.mem_cons.mp q with e | e
    · rw [e] at hk; exact hk h1
    · rcases List.mem_cons.mp e with e | e
      · rw [e] at hk; exact hk h2
      · cases e
  · rw [(f k hk).2.2, h.2.1 k q hk hq]
  · rw [(f k hk).2.1, h.2.2 k hk]
theorem TA.kp {kI kA : List Nat} {q0 : Nat} (h : TA kI kA q0 τ τ') (h1 : ∀ k ∈ kI, k ∈ KP) (h2 : ∀ k ∈ kA, k ∈ KP) : TF KP τ τ' := fun j hj =>
  have h3 : j ∉ [13, 14] := fun q => hj ((show ∀ x ∈ [13, 14], x ∈ KP by decide) j q)
  ⟨h.1 j (fun q => hj (h1 j q)), h.2.2 j h3, funext fun q => h.2.1 j q h3 (Or.inr (fun q => hj (h2 j q)))⟩
/-- name and brace -/
abbrev hdC (I : Nat → Nat) (n i : Nat) : Prop := (tkn I n (i + 1)).1 = 1 ∧ sgn I n (i + 2) 123
def UHd (kc ka kb nc t : Nat) (p : Int) (τ τ' : TT) : Prop := TA [13, 14, kc] [ka, kb] nc τ τ' ∧ tI τ' kc = ((nc + 1 : Nat) : Int) ∧ tA τ' ka nc = (t : Int) ∧ tA τ' kb nc = p
theorem m_oneof_bad {a e : Int} {N : Nat} (h : BAD τ0 τ) : MB τ0 (m_readOneof_L80 a e (N + 1) τ) := by
  rw [m_readOneof_L80]
  obtain ⟨τ1, e1, b1⟩ := m_readField_bad (a1 := a) (a2 := e) (a3 := 0) (a4 := 0) h
  rw [e1, bind_some']
  refine MB_takes b1 ?_
  dsimp only
  rw [b1.1, gd_pos (by omega), gd_pos (by exact fun _ => by omega), if_neg (fun q => by cases q.2)]
  exact MB_ret b1
theorem m_msg_bad {rec : Int → Int → TT → Option TT} {a e : Int} {N : Nat} (h : BAD τ0 τ) : MB τ0 (m_readMessage_L88 rec a e (N + 1) τ) := by
  rw [m_readMessage_L88, h.1, gd_pos (by omega), if_neg (by omega)]
  exact MB_ret h
theorem m_enumH_eq (hD : KD I n K) (h : MRd τ I n K i) (hk : (tkn I n i).1 ≠ 0) {p : Int} {nc : Nat} (hF : tI τ 36 = (nc : Int)) (hf : nc ≤ 6) :
    (hdC I n i → nc < 6 → ∃ τ1, m_readEnum p τ = m_readEnum_L80 (nc : Int) FU τ1 ∧ MRd τ1 I n K (i + 3) ∧ UHd 36 17 18 nc (i + 1) p τ τ1) ∧ (¬ hdC I n i ∨ nc = 6 → MB τ (m_readEnum p τ)) := by
  unfold m_readEnum
  have e13 : tI τ 13 = (i : Int) := h.2.2.2.2.1
  rw [nm_eq, e13, nm_eq]
  have h1 := h.step hD hk
  have F1 : TF [13, 14] τ (uI τ 13 ((i : Int) + 1)) := (TF.refl _ _).uI (by decide) _
  obtain ⟨X1, hX1⟩ : ∃ X, X = uI τ 13 ((i : Int) + 1) := ⟨_, rfl⟩
  rw [← hX1] at h1 F1 ⊢
  have e14 : tI X1 14 = 0 := h1.2.2.2.2.2
  have eC : tI X1 36 = (nc : Int) := by rw [(F1 36 (by decide)).1]; exact hF
  rw [e14, eC, gd_pos (by omega), gd_pos (by exact fun _ => by omega)]
  by_cases qf : nc = 6
  · refine ⟨fun _ hv => by omega, fun _ => ?_⟩
    rw [if_neg (fun q => q.2 (by omega)), bind_some', gd_pos (by decide), nm_eq]
    have B : BAD τ (uI X1 14 1) := BAD.i0 F1
    refine MB_word B (fun τ2 b2 => ?_)
    dsimp only
    rw [b2.1, gd_pos (by omega), if_neg (by omega)]
    exact MB_ret b2
  · rw [if_pos (⟨rfl, by omega⟩), bind_some', gd_pos (by decide), nm_eq]
    have h2 : MRd (uI X1 14 0) I n K (i + 1) := ⟨h1.1, h1.2.1, h1.2.2.1, h1.2.2.2.1, by rw [tI_uI, if_neg (by decide)]; exact h1.2.2.2.2.1, by rw [tI_uI, if_pos rfl]⟩
    have F2 : TF [13, 14] τ (uI X1 14 0) := F1.uI (by decide) _
    obtain ⟨X2, hX2⟩ : ∃ X, X = uI X1 14 0 := ⟨_, rfl⟩
    rw [← hX2] at h2 F2 ⊢
    by_cases q1 : (tkn I n (i + 1)).1 = 1
    case neg =>
      refine ⟨fun q => absurd q.1 q1, fun _ => ?_⟩
      obtain ⟨τ3, e3, b3⟩ := mWn h2 q1
      rw [e3, bind_some']
      dsimp only
      rw [b3.1, gd_pos (by omega), if_neg (by omega)]
      exact MB_ret (BAD.tr F2 b3)
    obtain ⟨τ3, e3, h3, F3⟩ := mW hD h2 q1
    have F3 := F2.tr F3 (fun _ u => u)
    have f14 : tI τ3 14 = 0 := h3.2.2.2.2.2
    have fC : tI τ3 36 = (nc : Int) := by rw [(F3 36 (by decide)).1]; exact hF
    have hib : ib (nc : Int) 6 := by constructor <;> omega
    rw [e3, bind_some']
    dsimp only
    rw [f14, gd_pos (by omega), if_pos rfl, nm_eq, fC, gd_pos hib, nm_eq, nm_eq, Int.toNat_natCast]
    obtain ⟨X3, hX3⟩ : ∃ X, X = uA (uA (uI τ3 36 ((nc : Int) + 1)) 17 nc ((i + 1 : Nat) : Int)) 18 nc p := ⟨_, rfl⟩
    rw [← hX3]
    have T3 : TA [36] [17, 18] nc τ3 X3 := by
      rw [hX3]
      refine ⟨fun k hk => ?_, fun k q hk hq => ?_, fun k hk => by rw [tJ_uA, tJ_uA, tJ_uI]⟩
      · rw [tI_uA, tI_uA, tI_uI, if_neg (by intro e; rw [e] at hk; exact hk (by decide))]
      · have ng : ∀ k0, k0 ∈ [17, 18] → ¬ (k = k0 ∧ q = nc) := fun k0 h0 e => by
          rcases hq with hq | hq
          · exact hq e.2
          · exact hq (by rw [e.1]; exact h0)
        rw [tA_uA, if_neg (ng _ (by decide)), tA_uA, if_neg (ng _ (by decide)), tA_uI]
    have h4 : MRd X3 I n K (i + 2) := h3.ta T3 (by decide) (by decide) (by decide) (by decide) (by decide) (by rw [T3.1 13 (by decide)]; exact h3.2.2.2.2.1) (by rw [T3.1 14 (by decide)]; exact f14)
    have T4 : TA [13, 14, 36] [17, 18] nc τ X3 := TA.tf F3 ⟨fun k hk => T3.1 k (fun q => hk (by rw [List.mem_singleton.mp q]; decide)), T3.2.1, T3.2.2⟩ (by decide) (by decide)
    by_cases q2 : sgn I n (i + 2) 123
    case neg =>
      refine ⟨fun q => absurd q.2 q2, fun _ => ?_⟩
      obtain ⟨τ5, e5, b5⟩ := mGn h4 sx_14 (by decide) q2
      rw [e5, bind_some']
      exact m_enum_bad (N := 999999) (BAD.tk (T4.kp (by decide) (by decide)) b5)
    obtain ⟨τ5, e5, h5, F5⟩ := mG hD h4 sx_14 (by decide) q2
    rw [e5, bind_some']
    refine ⟨fun _ _ => ⟨τ5, rfl, h5, T4.tfr F5 (by decide) (by decide), ?_, ?_, ?_⟩, fun q => ?_⟩
    · rw [(F5 36 (by decide)).1, hX3, tI_uA, tI_uA, tI_uI, if_pos rfl]; omega
    · rw [(F5 17 (by decide)).2.2, hX3, tA_uA, if_neg (by omega), tA_uA, if_pos ⟨rfl, rfl⟩]
    · rw [(F5 18 (by decide)).2.2, hX3, tA_uA, if_pos ⟨rfl, rfl⟩]
    · rcases q with q | q
      · exact absurd ⟨q1, q2⟩ q
      · omega
theorem m_oneofH_eq (hD : KD I n K) (h : MRd τ I n K i) (hk : (tkn I n i).1 ≠ 0) {p : Int} {nc : Nat} (hF : tI τ 39 = (nc : Int)) (hf : nc ≤ 12) :
    (hdC I n i → nc < 12 → ∃ τ1, m_readOneof p τ = m_readOneof_L80 p (nc : Int) FU τ1 ∧ MRd τ1 I n K (i + 3) ∧ UHd 39 31 32 nc (i + 1) p τ τ1) ∧ (¬ hdC I n i ∨ nc = 12 → MB τ (m_readOneof p τ)) := by
  unfold m_readOneof
  have e13 : tI τ 13 = (i : Int) := h.2.2.2.2.1
  rw [nm_eq, e13, nm_eq]
  have h1 := h.step hD hk
  have F1 : TF [13, 14] τ (uI τ 13 ((i : Int) + 1)) := (TF.refl _ _).uI (by decide) _
  obtain ⟨X1, hX1⟩ : ∃ X, X = uI τ 13 ((i : Int) + 1) := ⟨_, rfl⟩
  rw [← hX1] at h1 F1 ⊢
  have e14 : tI X1 14 = 0 := h1.2.2.2.2.2
  have eC : tI X1 39 = (nc : Int) := by rw [(F1 39 (by decide)).1]; exact hF
  rw [e14, eC, gd_pos (by omega), gd_pos (by exact fun _ => by omega)]
  by_cases qf : nc = 12
  · refine ⟨fun _ hv => by omega, fun _ => ?_⟩
    rw [if_neg (fun q => q.2 (by omega)), bind_some', gd_pos (by decide), nm_eq]
    have B : BAD τ (uI X1 14 1) := BAD.i0 F1
    refine MB_word B (fun τ2 b2 => ?_)
    dsimp only
    rw [b2.1, gd_pos (by omega), if_neg (by omega)]
    exact MB_ret b2
  · rw [if_pos (⟨rfl, by omega⟩), bind_some', gd_pos (by decide), nm_eq]
    have h2 : MRd (uI X1 14 0) I n K (i + 1) := ⟨h1.1, h1.2.1, h1.2.2.1, h1.2.2.2.1, by rw [tI_uI, if_neg (by decide)]; exact h1.2.2.2.2.1, by rw [tI_uI, if_pos rfl]⟩
    have F2 : TF [13, 14] τ (uI X1 14 0) := F1.uI (by decide) _
    obtain ⟨X2, hX2⟩ : ∃ X, X = uI X1 14 0 := ⟨_, rfl⟩
    rw [← hX2] at h2 F2 ⊢
    by_cases q1 : (tkn I n (i + 1)).1 = 1
    case neg =>
      refine ⟨fun q => absurd q.1 q1, fun _ => ?_⟩
      obtain ⟨τ3, e3, b3⟩ := mWn h2 q1
      rw [e3, bind_some']
      dsimp only
      rw [b3.1, gd_pos (by omega), if_neg (by omega)]
      exact MB_ret (BAD.tr F2 b3)
    obtain ⟨τ3, e3, h3, F3⟩ := mW hD h2 q1
    have F3 := F2.tr F3 (fun _ u => u)
    have f14 : tI τ3 14 = 0 := h3.2.2.2.2.2
    have fC : tI τ3 39 = (nc : Int) := by rw [(F3 39 (by decide)).1]; exact hF
    have hib : ib (nc : Int) 12 := by constructor <;> omega
    rw [e3, bind_some']
    dsimp only
    rw [f14, gd_pos (by omega), if_pos rfl, nm_eq, fC, gd_pos hib, nm_eq, nm_eq, Int.toNat_natCast]
    obtain ⟨X3, hX3⟩ : ∃ X, X = uA (uA (uI τ3 39 ((nc : Int) + 1)) 31 nc ((i + 1 : Nat) : Int)) 32 nc p := ⟨_, rfl⟩
    rw [← hX3]
    have T3 : TA [39] [31, 32] nc τ3 X3 := by
      rw [hX3]
      refine ⟨fun k hk => ?_, fun k q hk hq => ?_, fun k hk => by rw [tJ_uA, tJ_uA, tJ_uI]⟩
      · rw [tI_uA, tI_uA, tI_uI, if_neg (by intro e; rw [e] at hk; exact hk (by decide))]
      · have ng : ∀ k0, k0 ∈ [31, 32] → ¬ (k = k0 ∧ q = nc) := fun k0 h0 e => by
          rcases hq with hq | hq
          · exact hq e.2
          · exact hq (by rw [e.1]; exact h0)
        rw [tA_uA, if_neg (ng _ (by decide)), tA_uA, if_neg (ng _ (by decide)), tA_uI]
    have h4 : MRd X3 I n K (i + 2) := h3.ta T3 (by decide) (by decide) (by decide) (by decide) (by decide) (by rw [T3.1 13 (by decide)]; exact h3.2.2.2.2.1) (by rw [T3.1 14 (by decide)]; exact f14)
    have T4 : TA [13, 14, 39] [31, 32] nc τ X3 := TA.tf F3 ⟨fun k hk => T3.1 k (fun q => hk (by rw [List.mem_singleton.mp q]; decide)), T3.2.1, T3.2.2⟩ (by decide) (by decide)
    by_cases q2 : sgn I n (i + 2) 123
    case neg =>
      refine ⟨fun q => absurd q.2 q2, fun _ => ?_⟩
      obtain ⟨τ5, e5, b5⟩ := mGn h4 sx_14 (by decide) q2
      rw [e5, bind_some']
      exact m_oneof_bad (N := 999999) (BAD.tk (T4.kp (by decide) (by decide)) b5)
    obtain ⟨τ5, e5, h5, F5⟩ := mG hD h4 sx_14 (by decide) q2
    rw [e5, bind_some']
    refine ⟨fun _ _ => ⟨τ5, rfl, h5, T4.tfr F5 (by decide) (by decide), ?_, ?_, ?_⟩, fun q => ?_⟩
    · rw [(F5 39 (by decide)).1, hX3, tI_uA, tI_uA, tI_uI, if_pos rfl]; omega
    · rw [(F5 31 (by decide)).2.2, hX3, tA_uA, if_neg (by omega), tA_uA, if_pos ⟨rfl, rfl⟩]
    · rw [(F5 32 (by decide)).2.2, hX3, tA_uA, if_pos ⟨rfl, rfl⟩]
    · rcases q with q | q
      · exact absurd ⟨q1, q2⟩ q
      · omega
theorem m_msgH_eq (hD : KD I n K) (h : MRd τ I n K i) (hk : (tkn I n i).1 ≠ 0) {rec : Int → Int → TT → Option TT} {d : Nat} (hd : d ≤ 100) {p : Int} {nc : Nat} (hF : tI τ 35 = (nc : Int)) (hf : nc ≤ 10) :
    (hdC I n i → nc < 10 → d ≤ 6 → ∃ τ1, m_readMessageb rec p (d : Int) τ = m_readMessage_L88 rec (d : Int) (nc : Int) FU τ1 ∧ MRd τ1 I n K (i + 3) ∧ UHd 35 15 16 nc (i + 1) p τ τ1) ∧ (¬ hdC I n i ∨ nc = 10 ∨ 6 < d → MB τ (m_readMessageb rec p (d : Int) τ)) := by
  unfold m_readMessageb
  have e13 : tI τ 13 = (i : Int) := h.2.2.2.2.1
  rw [nm_eq, e13, nm_eq]
  have h1 := h.step hD hk
  have F1 : TF [13, 14] τ (uI τ 13 ((i : Int) + 1)) := (TF.refl _ _).uI (by decide) _
  obtain ⟨X1, hX1⟩ : ∃ X, X = uI τ 13 ((i : Int) + 1) := ⟨_, rfl⟩
  rw [← hX1] at h1 F1 ⊢
  have e14 : tI X1 14 = 0 := h1.2.2.2.2.2
  have eC : tI X1 35 = (nc : Int) := by rw [(F1 35 (by decide)).1]; exact hF
  rw [e14, eC, gd_pos (by omega), gd_pos (by exact fun _ => by omega), gd_pos (by exact fun _ => by omega)]
  by_cases qf : nc = 10 ∨ 6 < d
  · refine ⟨fun _ hv hv2 => by omega, fun _ => ?_⟩
    rw [if_neg (fun q => by have := q.1.2; have := q.2; omega), bind_some', gd_pos (by decide), nm_eq]
    have B : BAD τ (uI X1 14 1) := BAD.i0 F1
    refine MB_word B (fun τ2 b2 => ?_)
    dsimp only
    rw [b2.1, gd_pos (by omega), if_neg (by omega)]
    exact MB_ret b2
  · rw [if_pos (⟨⟨rfl, by omega⟩, by omega⟩), bind_some', gd_pos (by decide), nm_eq]
    have h2 : MRd (uI X1 14 0) I n K (i + 1) := ⟨h1.1, h1.2.1, h1.2.2.1, h1.2.2.2.1, by rw [tI_uI, if_neg (by decide)]; exact h1.2.2.2.2.1, by rw [tI_uI, if_pos rfl]⟩
    have F2 : TF [13, 14] τ (uI X1 14 0) := F1.uI (by decide) _
    obtain ⟨X2, hX2⟩ : ∃ X, X = uI X1 14 0 := ⟨_, rfl⟩
    rw [← hX2] at h2 F2 ⊢
    by_cases q1 : (tkn I n (i + 1)).1 = 1
    case neg =>
      refine ⟨fun q => absurd q.1 q1, fun _ => ?_⟩
      obtain ⟨τ3, e3, b3⟩ := mWn h2 q1
      rw [e3, bind_some']
      dsimp only
      rw [b3.1, gd_pos (by omega), if_neg (by omega)]
      exact MB_ret (BAD.tr F2 b3)
    obtain ⟨τ3, e3, h3, F3⟩ := mW hD h2 q1
    have F3 := F2.tr F3 (fun _ u => u)
    have f14 : tI τ3 14 = 0 := h3.2.2.2.2.2
    have fC : tI τ3 35 = (nc : Int) := by rw [(F3 35 (by decide)).1]; exact hF
    have hib : ib (nc : Int) 10 := by constructor <;> omega
    rw [e3, bind_some']
    dsimp only
    rw [f14, gd_pos (by omega), if_pos rfl, nm_eq, fC, gd_pos hib, nm_eq, nm_eq, Int.toNat_natCast]
    obtain ⟨X3, hX3⟩ : ∃ X, X = uA (uA (uI τ3 35 ((nc : Int) + 1)) 15 nc ((i + 1 : Nat) : Int)) 16 nc p := ⟨_, rfl⟩
    rw [← hX3]
    have T3 : TA [35] [15, 16] nc τ3 X3 := by
      rw [hX3]
      refine ⟨fun k hk => ?_, fun k q hk hq => ?_, fun k hk => by rw [tJ_uA, tJ_uA, tJ_uI]⟩
      · rw [tI_uA, tI_uA, tI_uI, if_neg (by intro e; rw [e] at hk; exact hk (by decide))]
      · have ng : ∀ k0, k0 ∈ [15, 16] → ¬ (k = k0 ∧ q = nc) := fun k0 h0 e => by
          rcases hq with hq | hq
          · exact hq e.2
          · exact hq (by rw [e.1]; exact h0)
        rw [tA_uA, if_neg (ng _ (by decide)), tA_uA, if_neg (ng _ (by decide)), tA_uI]
    have h4 : MRd X3 I n K (i + 2) := h3.ta T3 (by decide) (by decide) (by decide) (by decide) (by decide) (by rw [T3.1 13 (by decide)]; exact h3.2.2.2.2.1) (by rw [T3.1 14 (by decide)]; exact f14)
    have T4 : TA [13, 14, 35] [15, 16] nc τ X3 := TA.tf F3 ⟨fun k hk => T3.1 k (fun q => hk (by rw [List.mem_singleton.mp q]; decide)), T3.2.1, T3.2.2⟩ (by decide) (by decide)
    by_cases q2 : sgn I n (i + 2) 123
    case neg =>
      refine ⟨fun q => absurd q.2 q2, fun _ => ?_⟩
      obtain ⟨τ5, e5, b5⟩ := mGn h4 sx_14 (by decide) q2
      rw [e5, bind_some']
      exact m_msg_bad (N := 999999) (BAD.tk (T4.kp (by decide) (by decide)) b5)
    obtain ⟨τ5, e5, h5, F5⟩ := mG hD h4 sx_14 (by decide) q2
    rw [e5, bind_some']
    refine ⟨fun _ _ hv2 => ⟨τ5, rfl, h5, T4.tfr F5 (by decide) (by decide), ?_, ?_, ?_⟩, fun q => ?_⟩
    · rw [(F5 35 (by decide)).1, hX3, tI_uA, tI_uA, tI_uI, if_pos rfl]; omega
    · rw [(F5 15 (by decide)).2.2, hX3, tA_uA, if_neg (by omega), tA_uA, if_pos ⟨rfl, rfl⟩]
    · rw [(F5 16 (by decide)).2.2, hX3, tA_uA, if_pos ⟨rfl, rfl⟩]
    · rcases q with q | q | q
      · exact absurd ⟨q1, q2⟩ q
      · omega
      · omega
end Te
