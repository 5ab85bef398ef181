set_option maxRecDepth 100000
/-! JSON, WRITTEN: numbers and names, as the reference writes them -/
abbrev safe (b : UInt8) : Prop := 32 ≤ b.toNat ∧ b.toNat ≠ 34 ∧ b.toNat ≠ 92 ∧ ((48 ≤ b.toNat ∧ b.toNat ≤ 57) ∨ (65 ≤ b.toNat ∧ b.toNat ≤ 90) ∨ b.toNat = 95 ∨ (97 ≤ b.toNat ∧ b.toNat ≤ 122))
/-- letters of names need no escape -/
def SN (S : SC) : Prop := (∀ f, f < nF_ S → ∀ b ∈ qw S f, safe b) ∧ (∀ v, v < nV_ S → ∀ b ∈ vw_ S v, safe b) ∧ NE S
theorem escT_safe {w : List UInt8} (h : ∀ b ∈ w, safe b) : escT w = 34 :: (w ++ [34]) := by
  have : w.flatMap escB = w := by
    induction w with
    | nil => rfl
    | cons b w ih =>
      have hb := h b List.mem_cons_self
      have e : escB b = [b] := by unfold escB; rw [if_neg (by omega), if_pos hb.1]
      rw [List.flatMap_cons, e, ih (fun x hx => h x (List.mem_cons_of_mem _ hx))]; rfl
  unfold escT
  rw [this]
theorem jsL_safe : ∀ (w : List UInt8) (g : Bool), (∀ b ∈ w, safe b) → ∀ b ∈ jsL g w, safe b
  | [], g, _, b, hb => by cases hb
  | c :: r, g, h, b, hb => by
    rw [jsL] at hb
    split at hb
    · exact jsL_safe r true (fun x hx => h x (List.mem_cons_of_mem _ hx)) b hb
    · rcases List.mem_cons.mp hb with e | e
      · rw [e]
        split
        · rename_i q
          show 32 ≤ (UInt8.ofNat (c.toNat - 32)).toNat ∧ (UInt8.ofNat (c.toNat - 32)).toNat ≠ 34 ∧ (UInt8.ofNat (c.toNat - 32)).toNat ≠ 92 ∧ ((48 ≤ (UInt8.ofNat (c.toNat - 32)).toNat ∧ (UInt8.ofNat (c.toNat - 32)).toNat ≤ 57) ∨ (65 ≤ (UInt8.ofNat (c.toNat - 32)).toNat ∧ (UInt8.ofNat (c.toNat - 32)).toNat ≤ 90) ∨ (UInt8.ofNat (c.toNat - 32)).toNat = 95 ∨ (97 ≤ (UInt8.ofNat (c.toNat - 32)).toNat ∧ (UInt8.ofNat (c.toNat - 32)).toNat ≤ 122))
          rw [tn_of (by omega)]; omega
        · exact h c List.mem_cons_self
      · exact jsL_safe r false (fun x hx => h x (List.mem_cons_of_mem _ hx)) b e
theorem lShl8_lN (k : Nat) : lShl (lN k) 8 = lN (256 * k) := by
  unfold lShl
  have e : ((Int32.ofInt 8).toInt64 &&& 63) = 8 := by decide +kernel
  rw [e]
  apply Int64.toBitVec_inj.mp
  rw [Int64.toBitVec_shiftLeft]
  show (BitVec.ofNat 64 k) <<< (((8 : Int64).toBitVec.smod 64)) = BitVec.ofNat 64 (256 * k)
  have e2 : ((8 : Int64).toBitVec.smod 64) = 8#64 := by decide +kernel
  rw [e2]
  apply BitVec.eq_of_toNat_eq
  rw [BitVec.shiftLeft_eq', BitVec.toNat_shiftLeft]
  simp only [BitVec.toNat_ofNat]
  rw [show (8 % 2 ^ 64) = 8 by decide, Nat.shiftLeft_eq, show (2 : Nat) ^ 8 = 256 by decide, Nat.mul_comm, Nat.mul_mod, Nat.mod_mod, ← Nat.mul_mod]
theorem fxL_lt {I : Nat → Nat} (hI : ∀ k, I k < 256) {p : Nat} : ∀ (k j : Nat) (v : Int64), un v < 2 ^ (8 * j) → j + k ≤ 7 → un (fxL I p k v) < 2 ^ (8 * (j + k))
  | 0, j, v, h, _ => by rw [Nat.add_zero]; exact h
  | k + 1, j, v, h, hj => by
    have h7 : 2 ^ (8 * j) ≤ 2 ^ 48 := Nat.pow_le_pow_right (by decide) (by omega)
    have e1 : lShl v 8 = lN (256 * un v) := by
      have := lShl8_lN (un v)
      rw [lN_un] at this
      exact this
    have hb := hI (p + k)
    have h8 : 256 * un v < 2 ^ (8 * (j + 1)) := by
      rw [show 8 * (j + 1) = 8 * j + 8 by omega, Nat.pow_add, show (2 : Nat) ^ 8 = 256 by decide, Nat.mul_comm]
      exact Nat.mul_lt_mul_of_pos_right h (by decide)
    have h9 : 2 ^ (8 * (j + 1)) ≤ 2 ^ 56 := Nat.pow_le_pow_right (by decide) (by omega)
    have h10 : 256 ≤ 2 ^ (8 * (j + 1)) := by
      have : 2 ^ 8 ≤ 2 ^ (8 * (j + 1)) := Nat.pow_le_pow_right (by decide) (by omega)
      exact this
    rw [fxL, show j + (k + 1) = (j + 1) + k by omega]
    refine fxL_lt hI k (j + 1) _ ?_ (by omega)
    have h11 : (2 : Nat) ^ 56 < 18446744073709551616 := by decide
    rw [e1, iL_n rfl (by omega), un_or, un_lN (by omega), un_lN (by omega)]
    exact Nat.or_lt_two_pow h8 (by omega)
theorem and32 {x : Int64} (h : un x < 4294967296) : x &&& 4294967295 = x := by
  apply un_inj
  rw [un_and, show un (4294967295 : Int64) = 2 ^ 32 - 1 from rfl, Nat.and_two_pow_sub_one_eq_mod]
  omega
theorem and32m (x : Int64) : x &&& 4294967295 = lN (un x % 4294967296) := by
  apply un_inj
  rw [un_and, show un (4294967295 : Int64) = 2 ^ 32 - 1 from rfl, Nat.and_two_pow_sub_one_eq_mod, un_lN (by omega)]
theorem lI_bv (x : Int64) : (Int32.ofInt (lI x)).toBitVec.toNat = un x % 4294967296 := by
  unfold lI
  rw [Int32.ofInt_toInt]
  show (x.toBitVec.signExtend 32).toNat = _
  rw [BitVec.signExtend_eq_setWidth_of_le _ (by omega), BitVec.toNat_setWidth]
  rfl
theorem ush_lI (x : Int64) : iUsh (lI x) 1 = ((un x % 4294967296 / 2 : Nat) : Int) := by
  have h := lI_bv x
  unfold iUsh
  obtain ⟨a, ha⟩ : ∃ a, a = Int32.ofInt (lI x) := ⟨_, rfl⟩
  rw [← ha] at h ⊢
  have e : ((Int32.ofInt 1).toUInt32 &&& Int32.toUInt32 31) = 1 := by decide +kernel
  rw [e]
  have q : (a.toUInt32 >>> 1).toNat = a.toBitVec.toNat / 2 := by
    rw [UInt32.toNat_shiftRight, show (1 : UInt32).toNat % 32 = 1 by decide, Nat.shiftRight_eq_div_pow]
    rfl
  show ((a.toUInt32 >>> 1).toBitVec).toInt = _
  rw [BitVec.toInt_eq_toNat_cond]
  show (if 2 * (a.toUInt32 >>> 1).toNat < 2 ^ 32 then ((a.toUInt32 >>> 1).toNat : Int) else ((a.toUInt32 >>> 1).toNat : Int) - (2 ^ 32 : Nat)) = _
  rw [q, h]
  split <;> omega
theorem and1_lI (x : Int64) : iAnd (lI x) 1 = ((un x % 2 : Nat) : Int) := by
  have h := lI_bv x
  unfold iAnd
  obtain ⟨a, ha⟩ : ∃ a, a = Int32.ofInt (lI x) := ⟨_, rfl⟩
  rw [← ha] at h ⊢
  have e1 : (a &&& Int32.ofInt 1).toBitVec.toNat = a.toBitVec.toNat % 2 := by
    rw [Int32.toBitVec_and, BitVec.toNat_and, show (Int32.ofInt 1).toBitVec.toNat = 2 ^ 1 - 1 by decide, Nat.and_two_pow_sub_one_eq_mod]
  have e3 : (a &&& Int32.ofInt 1).toInt = (a &&& Int32.ofInt 1).toBitVec.toInt := rfl
  rw [e3, BitVec.toInt_eq_toNat_cond, e1, h]
  split <;> omega
section Nr
variable {τ : TT} {w : List UInt8} {S : SC} {f : Nat} {I : Nat → Nat} {n : Nat}
theorem m_meant_eq (hS : SW S) (hT : TSc τ S) (hf : f < nF_ S) (x : Int64) (h6 : qk S f = 6 → un x < 4294967296) : m_meant (f : Int) x τ = some (mnt S f x) := by
  have h1 := (hS.2.2.2.2.1 f hf).2.2.2.1
  have hM := hS.2.2.1
  have hE := hS.2.2.2.1
  have h50 := hS.1
  have t := (hT.2.2.2.2.1 f hf).2.2.1
  unfold m_meant mnt
  rw [gd_pos (by omega), Int.toNat_natCast, t, gd_pos (by omega)]
  by_cases c0 : qk S f = 0
  · rw [if_pos (by omega), if_pos (Or.inl c0)]
  · rw [if_neg (by omega)]
    by_cases c26 : qk S f = 2 ∨ qk S f = 6
    · rw [if_pos (by omega), if_neg (by omega)]
      rcases c26 with c | c
      · rw [if_pos c]
      · rw [if_neg (by omega), if_neg (by omega), if_neg (by omega), if_neg (by omega), and32 (h6 c)]
    · rw [if_neg (by omega)]
      by_cases c4 : qk S f = 4
      · rw [if_pos (by omega), if_neg (by omega), if_neg (by omega), if_pos c4]
        have hx := un_lt x
        have e1 : lI (lUsh (x &&& 4294967295) 1) = ((un x % 4294967296 / 2 : Nat) : Int) := by
          have : lUsh (x &&& 4294967295) 1 = lN (un x % 4294967296 / 2) := by
            apply un_inj
            rw [un_ush1, and32m, un_lN (by omega), un_lN (by omega)]
          rw [this, lI_lN (by omega)]
        have e2 : lI (x &&& 1) = ((un x % 2 : Nat) : Int) := by
          have : x &&& 1 = lN (un x % 2) := by
            have q := lN_and1 (un x)
            rw [lN_un] at q
            exact q
          rw [this, lI_lN (by omega)]
        rw [ush_lI, and1_lI, e1, e2]
      · rw [if_neg (by omega)]
        by_cases c5 : qk S f = 5
        · rw [if_pos (by omega), if_neg (by omega), if_neg (by omega), if_neg c4, if_pos c5]
        · rw [if_neg (by omega)]
          by_cases c8 : qk S f = 8
          · rw [if_pos (show ((qk S f : Nat) : Int) = 8 by omega), if_neg (show ¬ (qk S f = 0 ∨ 32 ≤ qk S f) by omega), if_neg (show ¬ qk S f = 2 by omega), if_neg c4, if_neg c5, if_pos c8]
            by_cases cx : x = 0
            · rw [if_pos cx, if_pos cx]
            · rw [if_neg cx, if_neg cx]
          · rw [if_neg (by omega)]
            by_cases c32 : 32 ≤ qk S f
            · rw [if_neg (by omega), if_pos (Or.inr c32)]
            · rw [if_pos (by omega), if_neg (by omega), if_neg (by omega), if_neg c4, if_neg c5, if_neg c8]
theorem nm_6 (hI : ∀ k, I k < 256) {e p : Nat} {r : Nat × Int64} (h : nmS S I f e p = some r) : qk S f = 6 → un r.2 < 4294967296 := fun c => by
  unfold nmS at h
  have hw : wrK S f = 5 := by unfold wrK; rw [if_pos c]
  rw [if_neg (by omega), if_pos hw] at h
  unfold fxS at h
  split at h
  · cases h
  · cases h
    exact fxL_lt hI 4 0 0 (by decide) (by omega)
theorem m_nm_L67 (hS : SW S) {v : Nat} (hv : v < nV_ S) : ∀ (c N i : Nat) (τ : TT) (w : List UInt8), TSc τ S → OX τ w → i + c = (vw_ S v).length → c < N → ∃ τ', m_putNumber_L67 (v : Int) N (i : Int) τ = some τ' ∧ MX τ w ((vw_ S v).drop i) τ'
  | c, 0, i, τ, w, _, _, _, h => by omega
  | 0, N + 1, i, τ, w, hT, hO, hi, _ => by
    have h40 := hS.2.1
    have h24 := (hS.2.2.2.2.2.2.2.1 v hv).2.1
    obtain ⟨t, pl, a1, a2, a3, a4, a5, a6⟩ := (hT.2.2.2.2.2 v hv).2.2
    rw [List.drop_eq_nil_of_le (by omega)]
    exact ⟨τ, by rw [m_putNumber_L67, gd_pos (by omega), Int.toNat_natCast, a1, gd_pos (by omega), gd_pos (by omega), Int.toNat_natCast, a3, gd_pos (by omega), if_pos (by omega)], MX.nil hO⟩
  | c + 1, N + 1, i, τ, w, hT, hO, hi, hN => by
    have h40 := hS.2.1
    have h24 := (hS.2.2.2.2.2.2.2.1 v hv).2.1
    obtain ⟨t, pl, a1, a2, a3, a4, a5, a6⟩ := (hT.2.2.2.2.2 v hv).2.2
    obtain ⟨τ1, e1, g1⟩ := m_put_X hO (tA τ 8 (pl + i))
    have e8 : tA τ 8 (pl + i) = (((vw_ S v).getD i 0).toNat : Int) := a6 i (by omega)
    rw [e8, u8_b] at g1
    obtain ⟨τ2, e2, g2⟩ := m_nm_L67 hS hv c N (i + 1) τ1 _ (hT.tr g1.1 (by decide)) g1.2 (by omega) (by omega)
    refine ⟨τ2, ?_, ?_⟩
    · rw [m_putNumber_L67, gd_pos (by omega), Int.toNat_natCast, a1, gd_pos (by omega), gd_pos (by omega), Int.toNat_natCast, a3, gd_pos (by omega), if_neg (by omega), a4, gd_pos (by omega), show ((pl : Int) + (i : Int)).toNat = pl + i by omega, e1, bind_some', show (i : Int) + 1 = ((i + 1 : Nat) : Int) by omega, e2]
    · rw [drop_cons (by omega)]
      exact g1.tr g2
theorem m_nm_L18 (hS : SW S) (hT : TSc τ S) (x : Int64) {e : Nat} (he : e < 100) {u : Int} (hu : u = (e : Int) + 32) : ∀ (c N i : Nat), i + c = nV_ S → c < N → (∀ v, v < i → ve S v = e → lN (vn S v) ≠ x) → ∃ o : Option Nat, m_putNumber_L18 x u τ N (i : Int) = some (match o with | some v => Sum.inr ((v : Nat) : Int) | none => Sum.inl (Sum.inr ())) ∧ VO S e x o
  | c, 0, i, _, h, _ => by omega
  | 0, N + 1, i, hi, _, hb => by
    have h40 := hS.2.1
    have t37 := hT.2.2.1
    exact ⟨none, by rw [m_putNumber_L18, t37, gd_pos (by omega), gd_pos (by omega), if_pos (by omega)], fun v hv => hb v (by omega)⟩
  | c + 1, N + 1, i, hi, hN, hb => by
    have h40 := hS.2.1
    have t37 := hT.2.2.1
    have hiv : i < nV_ S := by omega
    obtain ⟨t21, t20, -⟩ := hT.2.2.2.2.2 i hiv
    obtain ⟨k1, -, k3⟩ := hS.2.2.2.2.2.2.2.1 i hiv
    have hE := hS.2.2.2.1
    rw [m_putNumber_L18, t37, gd_pos (by omega), gd_pos (by omega), if_neg (by omega), gd_pos (by omega), Int.toNat_natCast, t21, t20, gd_pos (by omega), gd_pos (by omega), iL_n rfl (by omega)]
    by_cases c1 : ve S i = e
    · rw [if_pos (by omega)]
      by_cases c2 : lN (vn S i) = x
      · rw [if_pos c2, bind_some', elim_l]
        exact ⟨some i, rfl, hiv, c1, c2⟩
      · rw [if_neg c2, bind_some', elim_r, show (i : Int) + 1 = ((i + 1 : Nat) : Int) by omega]
        refine m_nm_L18 hS hT x he hu c N (i + 1) (by omega) (by omega) (fun v hv hve => ?_)
        by_cases q : v = i
        · rw [q]; exact c2
        · exact hb v (by omega) hve
    · rw [if_neg (by omega), bind_some', elim_r, show (i : Int) + 1 = ((i + 1 : Nat) : Int) by omega]
      refine m_nm_L18 hS hT x he hu c N (i + 1) (by omega) (by omega) (fun v hv hve => ?_)
      by_cases q : v = i
      · rw [q] at hve; exact absurd hve c1
      · exact hb v (by omega) hve
theorem m_putNumber_eq (hS : SW S) (hN : SN S) (hT : TSc τ S) (hf : f < nF_ S) (hpl : plain S f) (x : Int64) (hO : OX τ w) : ∃ τ', m_putNumber (f : Int) x τ = some τ' ∧ MX τ w (nvT S f x) τ' := by
  have h1 := (hS.2.2.2.2.1 f hf).2.2.2.1
  have hM := hS.2.2.1
  have hE := hS.2.2.2.1
  have h50 := hS.1
  have t := (hT.2.2.2.2.1 f hf).2.2.1
  unfold m_putNumber nvT
  rw [gd_pos (by omega), nm_eq, Int.toNat_natCast, t, gd_pos (by omega)]
  by_cases c32 : 32 ≤ qk S f
  · rw [if_neg (show ¬ ((qk S f : Nat) : Int) < 32 by omega), if_neg (show ¬ qk S f = 8 by omega), if_pos c32]
    obtain ⟨o, e1, b1⟩ := m_nm_L18 hS hT x (e := qk S f - 32) (by omega) (u := ((qk S f : Nat) : Int)) (by omega) (nV_ S) FU 0 (by omega) (FU_gt (by have := hS.2.1; omega)) (fun v hv => absurd hv (Nat.not_lt_zero _))
    have e1' : m_putNumber_L18 x ((qk S f : Nat) : Int) τ FU 0 = _ := e1
    rw [e1', bind_some', ← VO.uniq hS b1 (vno_ok S (qk S f - 32) x)]
    cases o with
    | none =>
      obtain ⟨τ1, p1, g1⟩ := m_putSigned_eq hO x
      refine ⟨τ1, ?_, g1⟩
      show Option.bind (some (Sum.inr ())) _ = _
      rw [bind_some', elim_r, p1, bind_some']
    | some v =>
      have hv : v < nV_ S := b1.1
      have h24 := (hS.2.2.2.2.2.2.2.1 v hv).2.1
      show ∃ τ', Option.bind (Option.bind (m_put 34 τ) _) _ = some τ' ∧ MX τ w (escT (vw_ S v)) τ'
      rw [escT_safe (hN.2.1 v hv)]
      obtain ⟨τ1, p1, g1⟩ := m_put_X hO 34
      obtain ⟨τ2, p2, g2⟩ := m_nm_L67 hS hv (vw_ S v).length FU 0 τ1 _ (hT.tr g1.1 (by decide)) g1.2 (by omega) (FU_gt (by omega))
      have p2' : m_putNumber_L67 (v : Int) FU 0 τ1 = some τ2 := p2
      rw [List.drop_zero] at g2
      obtain ⟨τ3, p3, g3⟩ := m_put_X (g1.tr g2).2 34
      refine ⟨τ3, ?_, ?_⟩
      · rw [p1, bind_some', p2', bind_some', p3, bind_some', bind_some', elim_l]
      · have := (g1.tr g2).tr g3
        exact this
  · rw [if_pos (show ((qk S f : Nat) : Int) < 32 by omega)]
    by_cases c8 : qk S f = 8
    · rw [if_pos (show ((qk S f : Nat) : Int) = 8 by omega), if_pos c8]
      have l : slen 25 ≤ 100 ∧ slen 26 ≤ 100 ∧ sxB 25 = sxB 3 ∧ sxB 26 = sxB 4 := by decide +kernel
      by_cases cx : x = 0
      · rw [if_pos cx, if_pos cx, bind_some']
        obtain ⟨τ1, p1, g1⟩ := m_putAll_eq 26 l.2.1 hO
        rw [l.2.2.2] at g1
        exact ⟨τ1, by rw [p1, bind_some'], g1⟩
      · rw [if_neg cx, if_neg cx, bind_some']
        obtain ⟨τ1, p1, g1⟩ := m_putAll_eq 25 l.1 hO
        rw [l.2.2.1] at g1
        exact ⟨τ1, by rw [p1, bind_some'], g1⟩
    · rw [if_neg (show ¬ ((qk S f : Nat) : Int) = 8 by omega), if_neg c8, if_neg c32]
      by_cases cq : qk S f = 1 ∨ qk S f = 3 ∨ qk S f = 5 ∨ qk S f = 7
      · rw [if_pos cq, if_pos (show (((((qk S f : Nat) : Int) = 1) ∨ (((qk S f : Nat) : Int) = 3)) ∨ (((qk S f : Nat) : Int) = 5)) ∨ (((qk S f : Nat) : Int) = 7) by omega), bind_some', gd_pos (by omega), if_neg (show ¬ (1 : Int) = 0 by omega)]
        obtain ⟨τ1, p1, g1⟩ := m_put_X hO 34
        have mid : ∃ τ2, (if (((qk S f : Nat) : Int) = 3) ∨ (((qk S f : Nat) : Int) = 7) then (Option.bind (m_putUnsigned 24 x τ1) fun y48 => some y48) else (Option.bind (m_putSigned x τ1) fun y49 => some y49) : Option TT) = some τ2 ∧ MX τ1 (w ++ [u8 34]) (numT x (decide (qk S f = 3 ∨ qk S f = 7))) τ2 := by
          by_cases c37 : qk S f = 3 ∨ qk S f = 7
          · obtain ⟨τ2, p2, g2⟩ := m_putUnsigned_eq g1.2 x
            refine ⟨τ2, by rw [if_pos (by omega), p2, bind_some'], ?_⟩
            rw [decide_eq_true c37]
            unfold numT
            rw [if_pos (Or.inr rfl)]
            exact g2
          · obtain ⟨τ2, p2, g2⟩ := m_putSigned_eq g1.2 x
            refine ⟨τ2, by rw [if_neg (by omega), p2, bind_some'], ?_⟩
            rw [decide_eq_false c37]
            exact g2
        obtain ⟨τ2, p2, g2⟩ := mid
        obtain ⟨τ3, p3, g3⟩ := m_put_X (g1.tr g2).2 34
        refine ⟨τ3, ?_, ?_⟩
        · rw [p1, bind_some', bind_some', p2, bind_some', gd_pos (by omega), if_neg (show ¬ (1 : Int) = 0 by omega), p3, bind_some']
        · have := (g1.tr g2).tr g3
          exact this
      · rw [if_neg cq, if_neg (show ¬ ((((((qk S f : Nat) : Int) = 1) ∨ (((qk S f : Nat) : Int) = 3)) ∨ (((qk S f : Nat) : Int) = 5)) ∨ (((qk S f : Nat) : Int) = 7)) by omega), bind_some', gd_pos (by omega), if_pos rfl, bind_some', if_neg (show ¬ ((((qk S f : Nat) : Int) = 3) ∨ (((qk S f : Nat) : Int) = 7)) by omega)]
        obtain ⟨τ2, p2, g2⟩ := m_putSigned_eq hO x
        exact ⟨τ2, by rw [p2, bind_some', bind_some', gd_pos (by omega), if_pos rfl], g2⟩
abbrev KN : List Nat := [3, 6, 7, 41]
def MN (τ : TT) (w v : List UInt8) (τ' : TT) : Prop := TF KN τ τ' ∧ OX τ' (w ++ v)
theorem MX.toN {τ τ' : TT} {w v : List UInt8} (h : MX τ w v τ') : MN τ w v τ' := ⟨h.1.mono (by decide), h.2⟩
theorem MN.tr {τ τ1 τ2 : TT} {w v u : List UInt8} (h : MN τ w v τ1) (g : MN τ1 (w ++ v) u τ2) : MN τ w (v ++ u) τ2 := ⟨h.1.tr g.1 (fun _ q => q), by rw [← List.append_assoc]; exact g.2⟩
theorem m_pn_L {u : List UInt8} (hu : u.length ≤ 64) : ∀ (c N i : Nat) (τ : TT) (w : List UInt8), Arr τ 41 u → OX τ w → i + c = u.length → c < N → ∃ τ', m_putName_L29 (u.length : Int) N (i : Int) τ = some τ' ∧ MX τ w (u.drop i) τ'
  | c, 0, i, τ, w, _, _, _, h => by omega
  | 0, N + 1, i, τ, w, hA, hO, hi, _ => by
    rw [List.drop_eq_nil_of_le (by omega)]
    exact ⟨τ, by rw [m_putName_L29, gd_pos (by omega), gd_pos (by omega), if_pos (by omega)], MX.nil hO⟩
  | c + 1, N + 1, i, τ, w, hA, hO, hi, hN => by
    obtain ⟨τ1, e1, g1⟩ := m_put_X hO (tA τ 41 i)
    have e8 : tA τ 41 i = ((u.getD i 0).toNat : Int) := hA i (by omega)
    rw [e8, u8_b] at g1
    obtain ⟨τ2, e2, g2⟩ := m_pn_L hu c N (i + 1) τ1 _ (fun j hj => by rw [(g1.1 41 (by decide)).2.2]; exact hA j hj) g1.2 (by omega) (by omega)
    refine ⟨τ2, ?_, ?_⟩
    · rw [m_putName_L29, gd_pos (by omega), gd_pos (by omega), if_neg (by omega), gd_pos (by omega), Int.toNat_natCast, e1, bind_some', show (i : Int) + 1 = ((i + 1 : Nat) : Int) by omega, e2]
    · rw [drop_cons (by omega)]
      exact g1.tr g2
theorem m_putName_eq (hS : SW S) (hN : SN S) (hT : TSc τ S) (hf : f < nF_ S) (b : Bool) (hO : OX τ w) : ∃ τ', m_putName (f : Int) (if b = true then 1 else 0) τ = some τ' ∧ MN τ w ((if b = true then [44] else []) ++ (escT (jsn (qw S f)) ++ [58])) τ' := by
  have h24 := (hS.2.2.2.2.1 f hf).2.2.2.2.2.2.2.2.1
  have hjl : (jsn (qw S f)).length ≤ 24 := Nat.le_trans (jsL_len _ _) h24
  have first : ∃ τ1, (gd (rg (if b = true then (1 : Int) else 0)) (if (if b = true then (1 : Int) else 0) = 0 then (some τ) else (Option.bind (m_put 44 τ) fun y26 => some y26)) : Option TT) = some τ1 ∧ MX τ w (if b = true then [44] else []) τ1 := by
    cases b with
    | true =>
      obtain ⟨τ1, p1, g1⟩ := m_put_X hO 44
      refine ⟨τ1, ?_, g1⟩
      rw [if_pos rfl, gd_pos (by omega), if_neg (by omega), p1, bind_some']
    | false =>
      refine ⟨τ, ?_, MX.nil hO⟩
      rw [if_neg (by decide), gd_pos (by omega), if_pos rfl]
  obtain ⟨τ1, p1, g1⟩ := first
  obtain ⟨τ2, p2, g2⟩ := m_put_X g1.2 34
  have g12 := g1.tr g2
  have hT2 : TSc τ2 S := hT.tr g12.1 (by decide)
  obtain ⟨τ3, f3, p3, a3⟩ := m_jsonName_eq (u2 := 41) (Or.inl rfl) hS hT2 (x := (f : Int)) rfl hf
  have hO3 : OX τ3 _ := g12.2.tr f3 (by decide) (by decide) (by decide)
  obtain ⟨τ4, p4, g4⟩ := m_pn_L (by omega) (jsn (qw S f)).length FU 0 τ3 _ a3 hO3 (by omega) (FU_gt (by omega))
  rw [List.drop_zero] at g4
  have p4' : m_putName_L29 ((jsn (qw S f)).length : Int) FU 0 τ3 = some τ4 := p4
  obtain ⟨τ5, p5, g5⟩ := m_put_X g4.2 34
  obtain ⟨τ6, p6, g6⟩ := m_put_X (g4.tr g5).2 58
  refine ⟨τ6, ?_, ?_⟩
  · unfold m_putName
    rw [p1, bind_some', p2, bind_some', p3, bind_some']
    show Option.bind (m_putName_L29 ((jsn (qw S f)).length : Int) FU 0 τ3) _ = _
    rw [p4', bind_some', p5, bind_some', p6, bind_some']
  · rw [escT_safe (w := jsn (qw S f)) (jsL_safe _ _ (hN.1 f hf))]
    have h1 : MN τ w ((if b = true then [44] else []) ++ [u8 34]) τ3 := ⟨(g12.1.mono (by decide)).tr f3 (by decide), hO3⟩
    have h2 := h1.tr ((g4.tr g5).tr g6).toN
    have e : ((if b = true then [44] else []) ++ [u8 34]) ++ (jsn (qw S f) ++ [u8 34] ++ [u8 58]) = (if b = true then [44] else []) ++ (34 :: (jsn (qw S f) ++ [34]) ++ [58]) := by
      simp only [List.append_assoc, List.cons_append, List.nil_append]; rfl
    rw [e] at h2
    exact h2
theorem m_beginElement_eq (hS : SW S) (hN : SN S) (hT : TSc τ S) (hf : f < nF_ S) (b : Bool) (k : Nat) (hk : k < 100000) (hO : OX τ w) : ∃ τ', m_beginElement (f : Int) (k : Int) (if b = true then 1 else 0) τ = some τ' ∧ MN τ w (if k = 0 then (if b = true then [44] else []) ++ (escT (jsn (qw S f)) ++ [58, 91]) else [44]) τ' := by
  unfold m_beginElement
  rw [gd_pos (by omega)]
  by_cases c : k = 0
  · rw [if_pos (by omega), if_pos c]
    obtain ⟨τ1, p1, g1⟩ := m_putName_eq hS hN hT hf b hO
    obtain ⟨τ2, p2, g2⟩ := m_put_X g1.2 91
    refine ⟨τ2, by rw [p1, bind_some', p2, bind_some'], ?_⟩
    have := g1.tr g2.toN
    have e : (if b = true then [44] else []) ++ (escT (jsn (qw S f)) ++ [58]) ++ [u8 91] = (if b = true then [44] else []) ++ (escT (jsn (qw S f)) ++ [58, 91]) := by
      simp only [List.append_assoc]; rfl
    rw [e] at this
    exact this
  · rw [if_neg (by omega), if_neg c]
    obtain ⟨τ1, p1, g1⟩ := m_put_X hO 44
    exact ⟨τ1, by rw [p1, bind_some'], g1.toN⟩
end Nr
