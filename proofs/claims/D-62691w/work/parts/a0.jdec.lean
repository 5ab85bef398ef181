set_option maxRecDepth 100000
/-! NUMBERS, as texts: division without a sign, digits -/
theorem un_or (a b : Int64) : un (a ||| b) = un a ||| un b := by
  show (a ||| b).toBitVec.toNat = _
  rw [Int64.toBitVec_or, BitVec.toNat_or]; rfl
theorem un_not (x : Int64) : un (x ^^^ (-1)) = 18446744073709551615 - un x := by
  show (x ^^^ (-1)).toBitVec.toNat = _
  rw [Int64.toBitVec_xor, show ((-1 : Int64)).toBitVec = BitVec.allOnes 64 by decide, BitVec.xor_allOnes, BitVec.toNat_not]
  rfl
theorem un_sub (a b : Int64) : un (a - b) = (un a + (18446744073709551616 - un b)) % 18446744073709551616 := by
  show (a - b).toBitVec.toNat = _
  rw [Int64.toBitVec_sub, BitVec.toNat_sub, Nat.add_comm]
  rfl
theorem un_ush1 (x : Int64) : un (lUsh x 1) = un x / 2 := by
  unfold lUsh
  have e : ((Int32.ofInt 1).toInt64.toUInt64 &&& Int64.toUInt64 63) = 1 := by decide +kernel
  rw [e]
  show (x.toUInt64 >>> 1).toNat = _
  rw [UInt64.toNat_shiftRight, show (1 : UInt64).toNat % 64 = 1 by decide, Nat.shiftRight_eq_div_pow]
  rfl
theorem un_ush63 (x : Int64) : un (lUsh x 63) = un x / 9223372036854775808 := by
  unfold lUsh
  have e : ((Int32.ofInt 63).toInt64.toUInt64 &&& Int64.toUInt64 63) = 63 := by decide +kernel
  rw [e]
  show (x.toUInt64 >>> 63).toNat = _
  rw [UInt64.toNat_shiftRight, show (63 : UInt64).toNat % 64 = 63 by decide, Nat.shiftRight_eq_div_pow]
  rfl
theorem lShl1_lN (k : Nat) : lShl (lN k) 1 = lN (2 * k) := by
  unfold lShl
  have e : ((Int32.ofInt 1).toInt64 &&& 63) = 1 := by decide +kernel
  rw [e]
  apply Int64.toBitVec_inj.mp
  rw [Int64.toBitVec_shiftLeft]
  show (BitVec.ofNat 64 k) <<< (((1 : Int64).toBitVec.smod 64)) = BitVec.ofNat 64 (2 * k)
  have e2 : ((1 : Int64).toBitVec.smod 64) = 1#64 := by decide +kernel
  rw [e2]
  apply BitVec.eq_of_toNat_eq
  rw [BitVec.shiftLeft_eq', BitVec.toNat_shiftLeft]
  simp only [BitVec.toNat_ofNat]
  rw [show (1 % 2 ^ 64) = 1 by decide, Nat.shiftLeft_eq, Nat.pow_one, Nat.mul_comm, Nat.mul_mod, Nat.mod_mod, ← Nat.mul_mod]
theorem lN_div {a b : Nat} (ha : a < 9223372036854775808) (hb : b < 9223372036854775808) : lN a / lN b = lN (a / b) := by
  apply Int64.toInt_inj.mp
  have hd := Nat.div_le_self a b
  rw [Int64.toInt_div, lN_int ha, lN_int hb, lN_int (by omega)]
  rw [show (a : Int).tdiv (b : Int) = ((a / b : Nat) : Int) from rfl, Int.bmod_def]
  generalize a / b = q at hd ⊢
  split <;> omega
/-- the top bit of a or, of a not -/
theorem top_or (a b : Nat) : (a ||| b) / 9223372036854775808 = (a / 9223372036854775808) ||| (b / 9223372036854775808) := by
  have e : ∀ y : Nat, y / 9223372036854775808 = y >>> 63 := fun y => (Nat.shiftRight_eq_div_pow y 63).symm
  rw [e, e, e, Nat.shiftRight_or_distrib]
theorem top_and (a b : Nat) : (a &&& b) / 9223372036854775808 = (a / 9223372036854775808) &&& (b / 9223372036854775808) := by
  have e : ∀ y : Nat, y / 9223372036854775808 = y >>> 63 := fun y => (Nat.shiftRight_eq_div_pow y 63).symm
  rw [e, e, e, Nat.shiftRight_and_distrib]
theorem bit_or {x y : Nat} (hx : x ≤ 1) (hy : y ≤ 1) : x ||| y = if x = 1 ∨ y = 1 then 1 else 0 := by
  have : ∀ x y : Fin 2, x.val ||| y.val = if x.val = 1 ∨ y.val = 1 then 1 else 0 := by decide
  exact this ⟨x, by omega⟩ ⟨y, by omega⟩
theorem bit_and {x y : Nat} (hx : x ≤ 1) (hy : y ≤ 1) : x &&& y = if x = 1 ∧ y = 1 then 1 else 0 := by
  have : ∀ x y : Fin 2, x.val &&& y.val = if x.val = 1 ∧ y.val = 1 then 1 else 0 := by decide
  exact this ⟨x, by omega⟩ ⟨y, by omega⟩
/-- the first part of a division: twice the half's -/
theorem dv_facts {A B : Nat} (hB : 1 ≤ B) : 2 * (A / 2 / B) * B ≤ A ∧ A - 2 * (A / 2 / B) * B < 2 * B ∧ A / B = 2 * (A / 2 / B) + (if B ≤ A - 2 * (A / 2 / B) * B then 1 else 0) := by
  have h1 := Nat.div_add_mod (A / 2) B
  have h2 := Nat.mod_lt (A / 2) hB
  obtain ⟨q, hq⟩ : ∃ q, q = A / 2 / B := ⟨_, rfl⟩
  rw [← hq] at h1 ⊢
  have e : 2 * q * B = 2 * (B * q) := by rw [Nat.mul_assoc, Nat.mul_comm q B]
  rw [e]
  obtain ⟨u, hu⟩ : ∃ u, u = B * q := ⟨_, rfl⟩
  rw [← hu] at h1 ⊢
  refine ⟨by omega, by omega, ?_⟩
  by_cases c : B ≤ A - 2 * u
  · rw [if_pos c]
    apply Nat.div_eq_of_lt_le
    · rw [show (2 * q + 1) * B = 2 * (B * q) + B by rw [Nat.add_mul, Nat.one_mul, Nat.mul_assoc, Nat.mul_comm q B], ← hu]; omega
    · rw [show (2 * q + 1 + 1) * B = 2 * (B * q) + 2 * B by rw [Nat.add_mul, Nat.add_mul, Nat.one_mul, Nat.mul_assoc, Nat.mul_comm q B]; omega, ← hu]; omega
  · rw [if_neg c, Nat.add_zero]
    apply Nat.div_eq_of_lt_le
    · rw [show 2 * q * B = 2 * (B * q) by rw [Nat.mul_assoc, Nat.mul_comm q B], ← hu]; omega
    · rw [show (2 * q + 1) * B = 2 * (B * q) + B by rw [Nat.add_mul, Nat.one_mul, Nat.mul_assoc, Nat.mul_comm q B], ← hu]; omega
theorem divU {A B : Nat} (hA : A < 18446744073709551616) (hB : 1 ≤ B) (hB2 : B < 18446744073709551616) : jl_divideUnsigned (lN A) (lN B) = some (lN (A / B)) := by
  unfold jl_divideUnsigned
  have hneg := lN_neg (v := B) hB2
  by_cases c : 9223372036854775808 ≤ B
  · rw [if_pos (hneg.mpr c)]
    congr 1
    apply un_inj
    have hq : A / B = if B ≤ A then 1 else 0 := by
      by_cases d : B ≤ A
      · rw [if_pos d]
        apply Nat.div_eq_of_lt_le <;> omega
      · rw [if_neg d]; exact Nat.div_eq_of_lt (by omega)
    rw [un_ush63, un_and, un_not, un_sub, un_lN hA, un_lN hB2, top_and, bit_and (by omega) (by omega), un_lN (by rw [hq]; split <;> omega), hq]
    by_cases d : B ≤ A
    · rw [if_pos d, if_pos (by omega)]
    · rw [if_neg d, if_neg (by omega)]
  · have hB3 : B < 9223372036854775808 := by omega
    obtain ⟨f1, f2, f3⟩ := dv_facts (A := A) hB
    have e1 : lUsh (lN A) 1 = lN (A / 2) := by apply un_inj; rw [un_ush1, un_lN hA, un_lN (by omega)]
    have e2 : lUsh (lN A) 1 / lN B = lN (A / 2 / B) := by rw [e1, lN_div (by omega) hB3]
    have hq2 : A / 2 / B ≤ A / 2 := Nat.div_le_self _ _
    rw [if_neg (fun w => c (hneg.mp w)), gd_pos (by
      intro w
      have := congrArg un w
      rw [un_lN hB2] at this
      have z : un (0 : Int64) = 0 := rfl
      omega), nm_eq, nm_eq, e2, lShl1_lN]
    obtain ⟨q, hq⟩ : ∃ q, q = A / 2 / B := ⟨_, rfl⟩
    rw [← hq] at f1 f2 f3 hq2 ⊢
    have e3 : lN A - lN (2 * q) * lN B = lN (A - 2 * q * B) := by rw [lN_mul, lN_sub2 f1]
    rw [e3]
    obtain ⟨r, hr⟩ : ∃ r, r = A - 2 * q * B := ⟨_, rfl⟩
    rw [← hr] at f2 f3 ⊢
    have e4 : lUsh (lN r ||| ((lN r - lN B) ^^^ (-1))) 63 = lN (if B ≤ r then 1 else 0) := by
      apply un_inj
      rw [un_ush63, un_or, un_not, un_sub, un_lN (by omega), un_lN hB2, top_or, bit_or (by omega) (by omega), un_lN (by split <;> omega)]
      by_cases d : B ≤ r
      · rw [if_pos d, if_pos (by omega)]
      · rw [if_neg d, if_neg (by omega)]
    rw [e4, lN_add, f3]
theorem remU10 {A : Nat} (hA : A < 18446744073709551616) : jl_remainderUnsigned (lN A) 10 = some (lN (A % 10)) := by
  unfold jl_remainderUnsigned
  obtain ⟨f1, f2, f3⟩ := dv_facts (A := A) (B := 10) (by omega)
  have e1 : lUsh (lN A) 1 = lN (A / 2) := by apply un_inj; rw [un_ush1, un_lN hA, un_lN (by omega)]
  have e2 : lUsh (lN A) 1 / 10 = lN (A / 2 / 10) := by rw [e1, show (10 : Int64) = lN 10 from rfl, lN_div (by omega) (by decide)]
  rw [if_neg (by decide), gd_pos (by decide), nm_eq, nm_eq, e2, lShl1_lN]
  obtain ⟨q, hq⟩ : ∃ q, q = A / 2 / 10 := ⟨_, rfl⟩
  rw [← hq] at f1 f2 f3 ⊢
  have e3 : lN A - lN (2 * q) * 10 = lN (A - 2 * q * 10) := by rw [show (10 : Int64) = lN 10 from rfl, lN_mul, lN_sub2 f1]
  rw [e3]
  have k : ∀ r : Fin 20, lN r.val - ((lShr ((lN r.val - 10) ^^^ (-1)) 63) &&& 10) = lN (r.val % 10) := by decide +kernel
  have := k ⟨A - 2 * q * 10, by omega⟩
  simp only at this
  rw [this]
  congr 2
  omega
/-- digits -/
def decR : Nat → Nat → List UInt8
  | 0, _ => []
  | c + 1, r => if r ≤ 9 then [UInt8.ofNat (48 + r)] else decR c (r / 10) ++ [UInt8.ofNat (48 + r % 10)]
def dec (r : Nat) : List UInt8 := decR 21 r
def decD : Nat → Nat → List UInt8
  | 0, r => [UInt8.ofNat (48 + r)]
  | k + 1, r => UInt8.ofNat (48 + r / 10 ^ (k + 1)) :: decD k (r % 10 ^ (k + 1))
theorem decD_snoc : ∀ (k r : Nat), decD (k + 1) r = decD k (r / 10) ++ [UInt8.ofNat (48 + r % 10)]
  | 0, r => by
    show UInt8.ofNat (48 + r / 10 ^ 1) :: [UInt8.ofNat (48 + r % 10 ^ 1)] = _
    rw [Nat.pow_one]; rfl
  | k + 1, r => by
    have e1 : r / 10 / 10 ^ (k + 1) = r / 10 ^ (k + 2) := by rw [Nat.div_div_eq_div_mul, Nat.pow_succ 10 (k + 1), Nat.mul_comm]
    have e2 : r % 10 ^ (k + 2) / 10 = r / 10 % 10 ^ (k + 1) := by rw [Nat.pow_succ 10 (k + 1), Nat.mul_comm, Nat.mod_mul_right_div_self]
    have e3 : r % 10 ^ (k + 2) % 10 = r % 10 := Nat.mod_mod_of_dvd r ⟨10 ^ (k + 1), by rw [Nat.pow_succ 10 (k + 1), Nat.mul_comm]⟩
    show UInt8.ofNat (48 + r / 10 ^ (k + 2)) :: decD (k + 1) (r % 10 ^ (k + 2)) = (UInt8.ofNat (48 + r / 10 / 10 ^ (k + 1)) :: decD k (r / 10 % 10 ^ (k + 1))) ++ _
    rw [decD_snoc k, e1, e2, e3]
    rfl
theorem decD_R : ∀ (k c r : Nat), k < c → r < 10 ^ (k + 1) → (k = 0 ∨ 10 ^ k ≤ r) → decD k r = decR c r
  | 0, c, r, hc, hr, _ => by
    obtain ⟨c, rfl⟩ : ∃ m, c = m + 1 := ⟨c - 1, by omega⟩
    rw [decR, if_pos (by rw [Nat.zero_add, Nat.pow_one] at hr; omega)]; rfl
  | k + 1, c, r, hc, hr, h => by
    obtain ⟨c, rfl⟩ : ∃ m, c = m + 1 := ⟨c - 1, by omega⟩
    have h10 : 10 ^ (k + 1) ≤ r := by
      rcases h with h | h
      · omega
      · exact h
    have hp : 1 ≤ 10 ^ k := Nat.one_le_pow _ _ (by decide)
    rw [Nat.pow_succ] at h10 hr
    rw [decR, if_neg (by omega), decD_snoc, decD_R k c (r / 10) (by omega) (by omega) (Or.inr (by omega))]
theorem decR_fu : ∀ (c c' r : Nat), r < 10 ^ c → r < 10 ^ c' → decR (c + 1) r = decR (c' + 1) r
  | 0, c', r, h, _ => by
    rw [decR, if_pos (by rw [Nat.pow_zero] at h; omega), decR, if_pos (by rw [Nat.pow_zero] at h; omega)]
  | c + 1, 0, r, _, h => by
    rw [decR, if_pos (by rw [Nat.pow_zero] at h; omega), decR, if_pos (by rw [Nat.pow_zero] at h; omega)]
  | c + 1, c' + 1, r, h, h' => by
    rw [decR]
    conv => rhs; rw [decR]
    by_cases d : r ≤ 9
    · rw [if_pos d, if_pos d]
    · rw [if_neg d, if_neg d, decR_fu c c' (r / 10) (by rw [Nat.pow_succ] at h; omega) (by rw [Nat.pow_succ] at h'; omega)]
theorem decR_len : ∀ (c r : Nat), (decR c r).length ≤ c
  | 0, r => Nat.le_refl _
  | c + 1, r => by
    rw [decR]
    split
    · simp
    · have := decR_len c (r / 10)
      rw [List.length_append]; simp only [List.length_cons, List.length_nil]; omega
