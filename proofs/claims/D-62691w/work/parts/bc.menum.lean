set_option maxRecDepth 100000
/-! SCHEMAS, READ: values, enums, as the reference reads them -/
section Td
variable {I : Nat → Nat} {n i K : Nat} {σ σ' : ST} {τ τ0 τ1 τ' : TT} {M : List TyM} {E : List TyE} {V : List TyV} {F : List TyF} {O : List TyO} {R : List TyR}
theorem sx_15 : sx 15 = [125] := by decide +kernel
theorem sx_14 : sx 14 = [123] := by decide +kernel
theorem sx_20 : sx 20 = [44] := by decide +kernel
/-- a value -/
abbrev vaC (I : Nat → Nat) (n i : Nat) : Prop := (tkn I n i).1 = 1 ∧ sgn I n (i + 1) 61 ∧ (tkn I n (i + 2)).1 = 2 ∧ sgn I n (i + 3) 59
def UVl (e i nv num : Nat) (τ τ' : TT) : Prop := TA [13, 14, 37] [19, 20, 21] nv τ τ' ∧ tI τ' 37 = ((nv + 1 : Nat) : Int) ∧ tA τ' 19 nv = (i : Int) ∧ tA τ' 20 nv = (num : Int) ∧ tA τ' 21 nv = (e : Int)
theorem m_enum_bad {e : Int} {N : Nat} (h : BAD τ0 τ) : MB τ0 (m_readEnum_L80 e (N + 1) τ) := by
  rw [m_readEnum_L80]
  refine MB_word h (fun τ2 b2 => ?_)
  refine MB_sign b2 (fun τ3 b3 => ?_)
  refine MB_num b3 (fun τ4 b4 => ?_)
  refine MB_sign b4 (fun τ5 b5 => ?_)
  exact MB_chk b5
theorem m_val_eq (hD : KD I n K) (h : MRd τ I n K i) {e N : Nat} {nv : Nat} (hF : tI τ 37 = (nv : Int)) (hf : nv ≤ 40) :
    (vaC I n i → nv < 40 → ∃ τ1, m_readEnum_L80 (e : Int) (N + 1) τ = (Option.bind (m_takes 15 τ1) fun y48 => gd (rg y48.1) (gd (y48.1 = 0 → rg (tI y48.2 14)) (if (y48.1 = 0) ∧ ((tI y48.2 14) = 0) then (m_readEnum_L80 (e : Int) N y48.2) else (some y48.2)))) ∧ MRd τ1 I n K (i + 4) ∧ UVl e i nv (tkN I (tkn I n (i + 2))) τ τ1) ∧
    (¬ vaC I n i ∨ nv = 40 → MB τ (m_readEnum_L80 (e : Int) (N + 1) τ)) := by
  rw [m_readEnum_L80]
  by_cases q1 : (tkn I n i).1 = 1
  case neg =>
    refine ⟨fun q => absurd q.1 q1, fun _ => ?_⟩
    obtain ⟨τ3, e3, b3⟩ := mWn h q1
    rw [e3, bind_some']
    refine MB_sign b3 (fun τ3 b3 => ?_)
    refine MB_num b3 (fun τ4 b4 => ?_)
    refine MB_sign b4 (fun τ5 b5 => ?_)
    exact MB_chk b5
  obtain ⟨τ3, e3, h3, F3⟩ := mW hD h q1
  rw [e3, bind_some']
  by_cases q2 : sgn I n (i + 1) 61
  case neg =>
    refine ⟨fun q => absurd q.2.1 q2, fun _ => ?_⟩
    obtain ⟨τ4, e4, b4⟩ := mGn h3 sx_9 (by decide) q2
    rw [e4, bind_some']
    refine MB_num (BAD.tr F3 b4) (fun τ4 b4 => ?_)
    refine MB_sign b4 (fun τ5 b5 => ?_)
    exact MB_chk b5
  obtain ⟨τ4, e4, h4, F4⟩ := mG hD h3 sx_9 (by decide) q2
  have F4 := F3.tr F4 (fun _ u => u)
  rw [e4, bind_some']
  by_cases q3 : (tkn I n (i + 2)).1 = 2
  case neg =>
    refine ⟨fun q => absurd q.2.2.1 q3, fun _ => ?_⟩
    obtain ⟨τ5, e5, b5⟩ := mKn h4 q3
    rw [e5, bind_some']
    refine MB_sign (BAD.tr F4 b5) (fun τ5 b5 => ?_)
    exact MB_chk b5
  obtain ⟨τ5, e5, h5, F5⟩ := mK hD h4 q3
  have F5 := F4.tr F5 (fun _ u => u)
  rw [e5, bind_some']
  by_cases q4 : sgn I n (i + 3) 59
  case neg =>
    refine ⟨fun q => absurd q.2.2.2 q4, fun _ => ?_⟩
    obtain ⟨τ6, e6, b6⟩ := mGn h5 sx_12 (by decide) q4
    rw [e6, bind_some']
    exact MB_chk (BAD.tr F5 b6)
  obtain ⟨τ6, e6, h6, F6⟩ := mG hD h5 sx_12 (by decide) q4
  have F6 := F5.tr F6 (fun _ u => u)
  have h6 : MRd τ6 I n K (i + 4) := h6
  have e14 : tI τ6 14 = 0 := h6.2.2.2.2.2
  have e37 : tI τ6 37 = (nv : Int) := by rw [(F6 37 (by decide)).1]; exact hF
  rw [e6, bind_some', e14, e37, gd_pos (by omega), gd_pos (by exact fun _ => by omega)]
  by_cases qf : nv = 40
  · refine ⟨fun _ hv => by omega, fun _ => ?_⟩
    rw [if_neg (fun q => q.2 (by omega)), bind_some', gd_pos (by decide), nm_eq]
    have B : BAD τ (uI τ6 14 1) := BAD.i0 F6
    rw [B.1, gd_pos (by omega), if_neg (by omega)]
    exact MB_ret B
  · refine ⟨fun _ hf2 => ?_, fun q => ?_⟩
    · rw [if_pos ⟨rfl, by omega⟩, bind_some', gd_pos (by decide), nm_eq]
      obtain ⟨X, hX⟩ : ∃ X, X = uI τ6 14 0 := ⟨_, rfl⟩
      rw [← hX]
      have x14 : tI X 14 = 0 := by rw [hX, tI_uI, if_pos rfl]
      have x37 : tI X 37 = (nv : Int) := by rw [hX, tI_uI, if_neg (by decide)]; exact e37
      have FX : TF [13, 14] τ X := by rw [hX]; exact F6.uI (by decide) _
      have hib : ib (nv : Int) 40 := by constructor <;> omega
      rw [x14, gd_pos (by omega), if_pos rfl]
      simp only [tI_uA, nm_eq, x37, gd_pos hib, Int.toNat_natCast]
      refine ⟨_, rfl, ?_, ?_⟩
      · refine (h6.ta (kI := [14, 37]) (kA := [19, 20, 21]) (q0 := nv) ?_ (by decide) (by decide) (by decide) (by decide) (by decide) ?_ ?_)
        · refine ⟨fun k hk => ?_, fun k q hk hq => ?_, fun k hk => ?_⟩
          · rw [tI_uI, if_neg (by intro e; rw [e] at hk; exact hk (by decide)), tI_uA, tI_uA, tI_uA, hX, tI_uI, if_neg (by intro e; rw [e] at hk; exact hk (by decide))]
          · have ng : ∀ k0, k0 ∈ [19, 20, 21] → ¬ (k = k0 ∧ q = nv) := fun k0 h0 e => by
              rcases hq with hq | hq
              · exact hq e.2
              · exact hq (by rw [e.1]; exact h0)
            rw [tA_uI, tA_uA, if_neg (ng _ (by decide)), tA_uA, if_neg (ng _ (by decide)), tA_uA, if_neg (ng _ (by decide)), hX, tA_uI]
          · rw [tJ_uI, tJ_uA, tJ_uA, tJ_uA, hX, tJ_uI]
        · rw [tI_uI, if_neg (by decide), tI_uA, tI_uA, tI_uA, hX, tI_uI, if_neg (by decide)]; exact h6.2.2.2.2.1
        · rw [tI_uI, if_neg (by decide), tI_uA, tI_uA, tI_uA]; exact x14
      · refine ⟨TA.tf FX ?_ (by decide) (by decide), ?_, ?_, ?_, ?_⟩
        · refine ⟨fun k hk => ?_, fun k q hk hq => ?_, fun k hk => by rw [tJ_uI, tJ_uA, tJ_uA, tJ_uA]⟩
          · rw [tI_uI, if_neg (by intro e; rw [e] at hk; exact hk (by decide)), tI_uA, tI_uA, tI_uA]
          · have ng : ∀ k0, k0 ∈ [19, 20, 21] → ¬ (k = k0 ∧ q = nv) := fun k0 h0 e => by
              rcases hq with hq | hq
              · exact hq e.2
              · exact hq (by rw [e.1]; exact h0)
            rw [tA_uI, tA_uA, if_neg (ng _ (by decide)), tA_uA, if_neg (ng _ (by decide)), tA_uA, if_neg (ng _ (by decide))]
        · rw [tI_uI, if_pos rfl]; omega
        all_goals simp [tA_uI, tA_uA]
    · rcases q with q | q
      · exact absurd ⟨q1, q2, q3, q4⟩ q
      · exact absurd q qf
end Td
