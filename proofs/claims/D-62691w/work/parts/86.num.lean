set_option maxRecDepth 100000
/-! NUMBERS of 64 bits without a sign -/
def un (x : Int64) : Nat := x.toBitVec.toNat
theorem un_lt (x : Int64) : un x < 18446744073709551616 := x.toBitVec.isLt
theorem un_lN {n : Nat} (h : n < 18446744073709551616) : un (lN n) = n := by
  show (BitVec.ofNat 64 n).toNat = n
  rw [BitVec.toNat_ofNat, Nat.mod_eq_of_lt h]
theorem un_lN' (n : Nat) : un (lN n) = n % 18446744073709551616 := BitVec.toNat_ofNat n 64
theorem lN_un (x : Int64) : lN (un x) = x := Int64.toBitVec_inj.mp (by show BitVec.ofNat 64 x.toBitVec.toNat = x.toBitVec; simp)
theorem un_inj {x y : Int64} (h : un x = un y) : x = y := by rw [← lN_un x, h, lN_un]
theorem sg_un (x : Int64) : x.toInt = if un x < 9223372036854775808 then (un x : Int) else (un x : Int) - 18446744073709551616 := by
  have h : x.toInt = if 2 * x.toBitVec.toNat < 2 ^ 64 then (x.toBitVec.toNat : Int) else (x.toBitVec.toNat : Int) - (2 ^ 64 : Nat) := BitVec.toInt_eq_toNat_cond x.toBitVec
  rw [h]
  unfold un
  split <;> split <;> omega
theorem min_add (x : Int64) : (x + (-9223372036854775808)).toInt = (un x : Int) - 9223372036854775808 := by
  have h0 : (-9223372036854775808 : Int64).toInt = -9223372036854775808 := by decide +kernel
  have h := un_lt x
  rw [Int64.toInt_add, sg_un x, h0]
  rw [Int.bmod_def]
  split <;> split <;> omega
theorem cmpU (a b : Int64) : jl_compareUnsigned a b = some (if un a < un b then -1 else if un a = un b then 0 else 1) := by
  unfold jl_compareUnsigned jl_compare
  have ha := min_add a
  have hb := min_add b
  by_cases c : un a < un b
  · rw [if_neg (by rw [Int64.le_iff_toInt_le, ha, hb]; omega), if_pos c]; rfl
  · rw [if_pos (by rw [Int64.le_iff_toInt_le, ha, hb]; omega), if_neg c]
    by_cases d : un a = un b
    · rw [if_pos (by rw [un_inj d]), if_pos d]; rfl
    · rw [if_neg (fun e => d (by have := congrArg Int64.toInt e; rw [ha, hb] at this; omega)), if_neg d]; rfl
theorem lN_10 : (10 : Int64) = lN 10 := rfl
theorem iL_n {x : Int} {k : Nat} (hx : x = (k : Int)) (h : k < 2147483648) : iL x = lN k := by
  subst hx
  unfold iL
  apply Int64.toInt_inj.mp
  rw [Int32.toInt_toInt64, rg_to ⟨by omega, by omega⟩, sg_un, un_lN (by omega), if_pos (by omega)]
section Gr
variable {σ : ST} {a s d : Nat} {τ : TT}
theorem wh_grow_eq (bb : Nat × Nat) (ha : sc σ a = 15) (hs : sJ σ 226 a = lN s) (h64 : s < 18446744073709551616) {x : Int} (hx : x = (d : Int)) (hd : d ≤ 9) : wh_grow bb a x σ = some (if 10 * s + d < 18446744073709551616 then (1, pJ σ 226 a (lN (10 * s + d))) else (0, σ)) := by
  unfold wh_grow
  rw [gd_pos ha, hs, cmpU, bind_some', un_lN h64, show (1844674407370955161 : Int64) = lN 1844674407370955161 from rfl, un_lN (by omega), iL_n hx (by omega), lN_10, lN_mul, nm_eq, lN_add, cmpU]
  by_cases c1 : 1844674407370955161 < s
  · rw [if_neg (by omega), if_neg (by omega), gd_pos (by omega), if_neg (by omega), if_neg (by omega)]
  · rw [gd_pos (by split <;> (try split) <;> omega), if_pos (by split <;> (try split) <;> omega), bind_some', un_lN (n := 10 * s) (by omega), un_lN']
    by_cases c2 : 10 * s + d < 18446744073709551616
    · rw [Nat.mod_eq_of_lt c2, if_neg (by omega), gd_pos (by split <;> omega), if_pos (by split <;> omega), if_pos c2, nm_eq]
    · rw [if_pos (by omega), gd_pos (by omega), if_neg (by omega), if_neg c2]
theorem divU10 : ∀ d : Fin 10, jl_divideUnsigned (((-1)) - (iL ((d.val : Nat) : Int))) 10 = some (lN ((18446744073709551615 - d.val) / 10)) := by decide +kernel
theorem m_grows_eq (hs : tJ τ 59 = lN s) (h64 : s < 18446744073709551616) {x : Int} (hx : x = (d : Int)) (hd : d ≤ 9) : m_grows x τ = some (if 10 * s + d < 18446744073709551616 then (1, uJ τ 59 (lN (10 * s + d))) else (0, τ)) := by
  unfold m_grows
  have q := divU10 ⟨d, by omega⟩
  simp only at q
  rw [← hx] at q
  rw [q, bind_some', hs, cmpU, bind_some', un_lN h64, un_lN (by omega), iL_n hx (by omega), lN_10, lN_mul, lN_add]
  by_cases c : 10 * s + d < 18446744073709551616
  · rw [gd_pos (by split <;> (try split) <;> omega), if_pos (by split <;> (try split) <;> omega), if_pos c, nm_eq]
  · rw [if_neg (by omega), if_neg (by omega), gd_pos (by omega), if_neg (by omega), if_neg c]
end Gr
