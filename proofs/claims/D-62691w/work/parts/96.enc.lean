set_option maxRecDepth 100000
/-! WIRE: numbers as bytes, both sides -/
theorem un_and (a b : Int64) : un (a &&& b) = un a &&& un b := by
  show (a &&& b).toBitVec.toNat = _
  rw [Int64.toBitVec_and, BitVec.toNat_and]; rfl
theorem vr_c (x : Int64) : (x &&& ((-128))) = 0 ↔ un x < 128 := by
  have h := un_lt x
  have e : un (-128 : Int64) = 18446744073709551488 := by decide +kernel
  have u0 : un 0 = 0 := rfl
  have hd : (un x &&& 18446744073709551488) / 128 = un x / 128 := by
    have e1 : ∀ y : Nat, y / 128 = y >>> 7 := fun y => (Nat.shiftRight_eq_div_pow y 7).symm
    rw [e1, e1, Nat.shiftRight_and_distrib, show 18446744073709551488 >>> 7 = 2 ^ 57 - 1 by decide, Nat.and_two_pow_sub_one_eq_mod, ← e1]
    omega
  have hm : (un x &&& 18446744073709551488) % 128 = 0 := by
    have e1 : ∀ y : Nat, y % 128 = y &&& (2 ^ 7 - 1) := fun y => (Nat.and_two_pow_sub_one_eq_mod y 7).symm
    rw [e1, Nat.and_assoc, show 18446744073709551488 &&& (2 ^ 7 - 1) = 0 by decide, Nat.and_zero]
  constructor
  · intro q
    have := congrArg un q
    rw [un_and, e, u0] at this
    omega
  · intro q
    apply un_inj
    rw [un_and, e, u0]
    omega
theorem un_ush (x : Int64) : un (lUsh x 7) = un x / 128 := by
  unfold lUsh
  have e : ((Int32.ofInt 7).toInt64.toUInt64 &&& Int64.toUInt64 63) = 7 := by decide +kernel
  rw [e]
  show (x.toUInt64 >>> 7).toNat = _
  rw [UInt64.toNat_shiftRight, show (7 : UInt64).toNat % 64 = 7 by decide, Nat.shiftRight_eq_div_pow]
  rfl
theorem vr_c2 (x : Int64) : ((x < 0) ∨ (¬ (x ≤ 127))) ↔ ¬ un x < 128 := by
  have h := un_lt x
  have e1 := lN_neg (v := un x) h
  have e2 := lN_le2 (v := un x) (c := 127) h (by decide)
  rw [lN_un] at e1 e2
  rw [e1, show (127 : Int64) = lN 127 from rfl, e2]
  omega
theorem iAnd255 (x : Int) : iAnd x 255 = ((u8 x).toNat : Int) := by
  unfold iAnd u8
  obtain ⟨a, ha⟩ : ∃ a, a = Int32.ofInt x := ⟨_, rfl⟩
  rw [← ha]
  have e1 : (a &&& Int32.ofInt 255).toBitVec.toNat = a.toBitVec.toNat % 256 := by
    rw [Int32.toBitVec_and, BitVec.toNat_and, show (Int32.ofInt 255).toBitVec.toNat = 2 ^ 8 - 1 by decide, Nat.and_two_pow_sub_one_eq_mod]
  have e2 : (a.toInt8.toUInt8).toNat = a.toBitVec.toNat % 256 := by
    show (a.toBitVec.signExtend 8).toNat = _
    rw [BitVec.signExtend_eq_setWidth_of_le _ (by omega), BitVec.toNat_setWidth]
  rw [e2]
  have e3 : (a &&& Int32.ofInt 255).toInt = (a &&& Int32.ofInt 255).toBitVec.toInt := rfl
  rw [e3, BitVec.toInt_eq_toNat_cond, e1]
  split <;> omega
theorem u8_and (x : Int) : u8 (iAnd x 255) = u8 x := by rw [iAnd255, u8_b]
def vrE : Nat → Int64 → List UInt8
  | 0, x => [u8 (lI x)]
  | k + 1, x => if un x < 128 then [u8 (lI x)] else u8 (iOr (lI (x &&& 127)) 128) :: vrE k (lUsh x 7)
theorem vrE_len : ∀ (k j : Nat) (x : Int64), un x < 128 ^ (j + 1) → (vrE k x).length ≤ j + 1
  | 0, j, x, _ => by show 1 ≤ _; omega
  | k + 1, j, x, h => by
    rw [vrE]
    split
    · show 1 ≤ _; omega
    · rename_i c
      cases j with
      | zero => rw [Nat.pow_one] at h; omega
      | succ j =>
        have := vrE_len k j (lUsh x 7) (by rw [un_ush]; rw [Nat.pow_succ] at h; omega)
        simp only [List.length_cons]; omega
theorem vrE_le (x : Int64) : (vrE 9 x).length ≤ 10 := vrE_len 9 9 x (Nat.lt_trans (un_lt x) (by decide))
section SysE
variable {σ : ST} {a : Nat}
theorem vr_L (a : Nat) : ∀ (k N : Nat) (x : Int64) (σ : ST), un x < 128 ^ (k + 1) → k < N → RW σ a → (sW σ a).length + k < 8000000 → Rn id σ (fun bb => Option.bind (ww_varint_L2 bb (some a) N x σ) fun v1 => Option.bind (some a) fun p5 => gd (sc v1.2 p5 = 4) (Option.bind (r_add bb p5 (lI v1.1) v1.2) fun y8 => some y8)) (RA σ a (vrE k x))
  | k, 0, x, σ, _, h, _, _ => by omega
  | 0, N + 1, x, σ, h, _, hR, hl => by
    have h' : un x < 128 := by rw [Nat.zero_add, Nat.pow_one] at h; exact h
    refine Rn_eq (fun bb => by rw [ww_varint_L2, if_pos ((vr_c x).mpr h'), bind_some', bind_some', gd_pos hR.1]) ?_
    refine Rn_bind (rn_add hR (by omega) _) (fun σ1 _ g => Rn_some (Le.refl _) g)
  | k + 1, N + 1, x, σ, h, hN, hR, hl => by
    rw [vrE]
    by_cases c : un x < 128
    · rw [if_pos c]
      refine Rn_eq (fun bb => by rw [ww_varint_L2, if_pos ((vr_c x).mpr c), bind_some', bind_some', gd_pos hR.1]) ?_
      exact Rn_bind (rn_add hR (by omega) _) (fun σ1 _ g => Rn_some (Le.refl _) g)
    · rw [if_neg c]
      refine Rn_eq (fun bb => by rw [ww_varint_L2, if_neg (fun q => c ((vr_c x).mp q)), bind_some', gd_pos hR.1, Option.bind_assoc]) ?_
      refine Rn_bind (rn_add hR (by omega) _) (fun σ1 _ g => ?_)
      have hl1 := g.len
      simp only [List.length_cons, List.length_nil] at hl1
      refine (vr_L a k N (lUsh x 7) σ1 (by rw [un_ush]; rw [Nat.pow_succ] at h; omega) (by omega) g.rw (by omega)).mono (fun σ2 _ g2 => ?_)
      have := g.tr g2
      exact this
theorem rn_varint (x : Int64) (hR : RW σ a) (hl : (sW σ a).length + 10 ≤ 8000000) : Rn id σ (fun bb => ww_varint bb (some a) x σ) (RA σ a (vrE 9 x)) := by
  unfold ww_varint
  exact vr_L a 9 FU x σ (Nat.lt_trans (un_lt x) (by decide)) (FU_gt (by omega)) hR (by omega)
end SysE
/-- what the reference has put out -/
def OW (τ : TT) (w : List UInt8) : Prop := w.length ≤ 4000 ∧ tI τ 6 = (w.length : Int) ∧ ∀ k, k < w.length → tA τ 3 k = ((w.getD k 0).toNat : Int)
abbrev KO : List Nat := [3, 6]
theorem OW.tr {τ τ' : TT} {l : List Nat} {w : List UInt8} (h : OW τ w) (f : TF l τ τ') (h1 : 3 ∉ l) (h2 : 6 ∉ l) : OW τ' w := by
  obtain ⟨a1, a2, a3⟩ := h
  exact ⟨a1, by rw [(f 6 h2).1]; exact a2, fun k hk => by rw [(f 3 h1).2.2]; exact a3 k hk⟩
/-- something was put behind what was put out -/
def MP (τ : TT) (w v : List UInt8) (τ' : TT) : Prop := TF KO τ τ' ∧ OW τ' (w ++ v) ∧ ∀ k, w.length + v.length ≤ k → tA τ' 3 k = tA τ 3 k
theorem MP.tr {τ τ1 τ2 : TT} {w v u : List UInt8} (h : MP τ w v τ1) (g : MP τ1 (w ++ v) u τ2) : MP τ w (v ++ u) τ2 := ⟨h.1.tr g.1 (fun _ q => q), by rw [← List.append_assoc]; exact g.2.1, fun k hk => by rw [List.length_append] at hk; rw [g.2.2 k (by rw [List.length_append]; omega), h.2.2 k (by omega)]⟩
theorem MP.nil {τ : TT} {w : List UInt8} (h : OW τ w) : MP τ w [] τ := ⟨TF.refl _ _, by rw [List.append_nil]; exact h, fun _ _ => rfl⟩
section RefE
variable {τ : TT} {w : List UInt8}
theorem m_put_eq (h : OW τ w) (hl : w.length < 4000) (x : Int) : ∃ τ', m_put x τ = some τ' ∧ MP τ w [u8 x] τ' := by
  obtain ⟨h1, h2, h3⟩ := h
  refine ⟨uI (uA τ 3 w.length ((u8 x).toNat : Int)) 6 ((w.length : Int) + 1), ?_, ((TF.refl _ _).uA (by decide) _ _).uI (by decide) _, ⟨?_, ?_, ?_⟩, ?_⟩
  · unfold m_put
    rw [h2, gd_pos (by omega), if_neg (by omega), gd_pos (by omega), nm_eq, nm_eq, tI_uA, h2, Int.toNat_natCast, iAnd255]
  · rw [List.length_append]; simp only [List.length_cons, List.length_nil]; omega
  · rw [tI_uI, if_pos rfl, List.length_append]; simp only [List.length_cons, List.length_nil]; omega
  · intro k hk
    rw [List.length_append] at hk
    simp only [List.length_cons, List.length_nil] at hk
    rw [tA_uI, tA_uA]
    by_cases e : k = w.length
    · rw [if_pos ⟨rfl, e⟩, e, List.getD_eq_getElem?_getD, List.getElem?_append_right (Nat.le_refl _), Nat.sub_self]; rfl
    · rw [if_neg (fun q => e q.2), h3 k (by omega), List.getD_eq_getElem?_getD, List.getD_eq_getElem?_getD, List.getElem?_append_left (by omega)]
  · intro k hk
    simp only [List.length_cons, List.length_nil] at hk
    rw [tA_uI, tA_uA, if_neg (by omega)]
theorem m_vr_L : ∀ (k N : Nat) (x : Int64) (τ : TT) (w : List UInt8), un x < 128 ^ (k + 1) → k < N → OW τ w → w.length + (vrE k x).length ≤ 4000 → ∃ τ', (Option.bind (m_putVarint_L2 N x τ) fun (v1 : Int64 × TT) => Option.bind (m_put (lI v1.1) v1.2) fun y5 => some y5) = some τ' ∧ MP τ w (vrE k x) τ'
  | k, 0, x, τ, w, _, h, _, _ => by omega
  | 0, N + 1, x, τ, w, h, _, hO, hl => by
    have h' : un x < 128 := by rw [Nat.zero_add, Nat.pow_one] at h; exact h
    have hl' : w.length + 1 ≤ 4000 := hl
    obtain ⟨τ', e, g⟩ := m_put_eq hO (by omega) (lI x)
    exact ⟨τ', by rw [m_putVarint_L2, if_neg (fun q => (vr_c2 x).mp q h'), bind_some', e]; rfl, g⟩
  | k + 1, N + 1, x, τ, w, h, hN, hO, hl => by
    rw [vrE] at hl ⊢
    by_cases c : un x < 128
    · rw [if_pos c] at hl ⊢
      have hl' : w.length + 1 ≤ 4000 := hl
      obtain ⟨τ', e, g⟩ := m_put_eq hO (by omega) (lI x)
      exact ⟨τ', by rw [m_putVarint_L2, if_neg (fun q => (vr_c2 x).mp q c), bind_some', e]; rfl, g⟩
    · rw [if_neg c] at hl ⊢
      simp only [List.length_cons] at hl
      obtain ⟨τ1, e, g⟩ := m_put_eq hO (by omega) (iOr (lI (x &&& 127)) 128)
      obtain ⟨τ2, e2, g2⟩ := m_vr_L k N (lUsh x 7) τ1 _ (by rw [un_ush]; rw [Nat.pow_succ] at h; omega) (by omega) g.2.1 (by rw [List.length_append]; simp only [List.length_cons, List.length_nil]; omega)
      refine ⟨τ2, ?_, g.tr g2⟩
      rw [m_putVarint_L2, if_pos ((vr_c2 x).mpr c), e, bind_some', nm_eq]
      exact e2
theorem m_putVarint_eq (h : OW τ w) (x : Int64) (hl : w.length + (vrE 9 x).length ≤ 4000) : ∃ τ', m_putVarint x τ = some τ' ∧ MP τ w (vrE 9 x) τ' := by
  unfold m_putVarint
  exact m_vr_L 9 FU x τ w (Nat.lt_trans (un_lt x) (by decide)) (FU_gt (by omega)) h hl
end RefE
