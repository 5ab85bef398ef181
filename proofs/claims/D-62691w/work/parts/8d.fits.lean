set_option maxRecDepth 100000
/-! NUMBERS: whether they fit a field's kind; a number in the text and as a row of its own -/
/-- a size v with a sign m (1: less than 0) fits a kind -/
abbrev fitk (k v : Nat) (m : Int) : Prop := if k = 3 ∨ k = 7 then m = 0 else if k = 2 ∨ k = 6 then m = 0 ∧ v ≤ 4294967295 else if k = 1 ∨ k = 5 then v ≤ 9223372036854775807 ∨ (m = 1 ∧ v = 9223372036854775808) else v ≤ 2147483647 ∨ (m = 1 ∧ v = 2147483648)
theorem lN_neg {v : Nat} (h : v < T64) : lN v < 0 ↔ 9223372036854775808 ≤ v := by
  have h' : v < 18446744073709551616 := h
  rw [Int64.lt_iff_toInt_lt, sg_un, un_lN h]
  rw [show (0 : Int64).toInt = 0 from rfl]
  split <;> omega
theorem lN_le2 {v c : Nat} (h : v < T64) (hc : c < 9223372036854775808) : (lN v ≤ lN c) ↔ (v ≤ c ∨ 9223372036854775808 ≤ v) := by
  have h' : v < 18446744073709551616 := h
  rw [Int64.le_iff_toInt_le, sg_un, un_lN h, lN_int hc]
  split <;> omega
theorem lN_inj {v c : Nat} (h : v < T64) (hc : c < T64) : lN v = lN c ↔ v = c := ⟨fun e => by have := congrArg un e; rw [un_lN h, un_lN hc] at this; exact this, fun e => by rw [e]⟩
section Ft
variable {τ : TT} {σ : ST} {a v k : Nat} {m : Int}
theorem m_fits_eq {x : Int} {f : Nat} (hx : x = (f : Int)) (hf : f < 50) (hk : tA τ 28 f = (k : Int)) (hk2 : k < 1000) (hm : tI τ 60 = m) (hm2 : m = 0 ∨ (m = 1 ∧ v ≠ 0)) (hv : tJ τ 59 = lN v) (h64 : v < T64) : m_fits x τ = some (if fitk k v m then 1 else 0) := by
  subst hx
  have h64' : v < 18446744073709551616 := h64
  have z0 : lN v = 0 ↔ v = 0 := lN_inj (c := 0) h64 (by decide)
  have zn := lN_neg h64
  unfold m_fits
  rw [gd_pos (by omega), nm_eq, Int.toNat_natCast, hk, gd_pos (by omega), hm, hv]
  unfold fitk
  by_cases c1 : k = 3 ∨ k = 7
  · rw [if_pos (show ((k : Int) = 3 ∨ (k : Int) = 7) by omega), gd_pos (by omega)]
    rcases hm2 with e | ⟨e, e2⟩
    · rw [if_pos (Or.inl e), if_pos (by rw [if_pos c1]; exact e)]
    · rw [if_neg (by rw [z0]; omega), if_neg (by rw [if_pos c1]; omega)]
  · rw [if_neg (show ¬ ((k : Int) = 3 ∨ (k : Int) = 7) by omega)]
    by_cases c2 : k = 2 ∨ k = 6
    · have l1 : (4294967295 : Int64) < lN v ↔ 4294967295 < v ∧ v < 9223372036854775808 := by
        rw [show (4294967295 : Int64) = lN 4294967295 from rfl, Int64.lt_iff_toInt_lt, sg_un (lN v), un_lN h64, lN_int (by decide)]
        split <;> omega
      rw [if_pos (show ((k : Int) = 2 ∨ (k : Int) = 6) by omega), gd_pos (by omega)]
      by_cases d : m = 0 ∧ v ≤ 4294967295
      · rw [if_pos (by rw [zn, l1]; omega), bind_some', elim_l, if_pos (by rw [if_neg c1, if_pos c2]; exact d)]
      · rw [if_neg (by rw [zn, l1, z0]; omega), bind_some', elim_l, if_neg (by rw [if_neg c1, if_pos c2]; exact d)]
    · rw [if_neg (show ¬ ((k : Int) = 2 ∨ (k : Int) = 6) by omega)]
      by_cases c3 : k = 1 ∨ k = 5
      · have l1 := lN_le2 h64 (c := 9223372036854775807) (by decide)
        have l2 : lN v = (9223372036854775807 : Int64) + 1 ↔ v = 9223372036854775808 := lN_inj (c := 9223372036854775808) h64 (by decide)
        rw [if_pos (show ((k : Int) = 1 ∨ (k : Int) = 5) by omega), bind_some', gd_pos (by omega), if_neg (show ¬ (1 : Int) = 0 by omega), bind_some', show (9223372036854775807 : Int64) = lN 9223372036854775807 from rfl]
        by_cases d : v ≤ 9223372036854775807
        · rw [if_neg (by rw [zn, l1]; omega), if_pos (by rw [if_neg c1, if_neg c2, if_pos c3]; exact Or.inl d)]
        · rw [if_pos (by rw [zn]; omega), gd_pos (by omega), show lN 9223372036854775807 = (9223372036854775807 : Int64) from rfl]
          by_cases e : m = 1 ∧ v = 9223372036854775808
          · rw [if_neg (by rw [l2]; omega), if_pos (by rw [if_neg c1, if_neg c2, if_pos c3]; exact Or.inr e)]
          · rw [if_pos (by rw [l2]; omega), if_neg (by rw [if_neg c1, if_neg c2, if_pos c3]; omega)]
      · have l1 := lN_le2 h64 (c := 2147483647) (by decide)
        have l2 : lN v = (2147483647 : Int64) + 1 ↔ v = 2147483648 := lN_inj (c := 2147483648) h64 (by decide)
        rw [if_neg (show ¬ ((k : Int) = 1 ∨ (k : Int) = 5) by omega), bind_some', gd_pos (by omega), if_pos rfl, bind_some', show (2147483647 : Int64) = lN 2147483647 from rfl]
        by_cases d : v ≤ 2147483647
        · rw [if_neg (by rw [zn, l1]; omega), if_pos (by rw [if_neg c1, if_neg c2, if_neg c3]; exact Or.inl d)]
        · rw [if_pos (by rw [zn, l1]; omega), gd_pos (by omega), show lN 2147483647 = (2147483647 : Int64) from rfl]
          by_cases e : m = 1 ∧ v = 2147483648
          · rw [if_neg (by rw [l2]; omega), if_pos (by rw [if_neg c1, if_neg c2, if_neg c3]; exact Or.inr e)]
          · rw [if_pos (by rw [l2]; omega), if_neg (by rw [if_neg c1, if_neg c2, if_neg c3]; omega)]
/-- kinds as the system has them: all enums are one -/
def ks (k : Nat) : Nat := if 32 ≤ k then 32 else k
theorem wh_fits_eq (ha : sc σ a = 15) {x : Int} (hx : x = (ks k : Int)) (hk : k < 8 ∨ 32 ≤ k) (hm : sI σ 225 a = m) (hm2 : m = 0 ∨ m = 1) (hv : sJ σ 226 a = lN v) (h64 : v < T64) : wh_fits a x σ = some (if fitk k v m then 1 else 0) := by
  subst hx
  have h64' : v < 18446744073709551616 := h64
  have cmp : ∀ c : Nat, c < T64 → jl_compareUnsigned (lN v) (lN c) = some (if v < c then -1 else if v = c then 0 else 1) := fun c hc => by rw [cmpU, un_lN h64, un_lN hc]
  have rgc : ∀ c : Nat, rg (if v < c then (-1 : Int) else if v = c then 0 else 1) := fun c => by split <;> (try split) <;> omega
  have poc : ∀ c : Nat, (0 < (if v < c then (-1 : Int) else if v = c then 0 else 1)) ↔ c < v := fun c => by split <;> (try split) <;> omega
  unfold wh_fits fitk
  have hks : (ks k : Int) = if 32 ≤ k then 32 else (k : Int) := by unfold ks; split <;> rfl
  rw [gd_pos (by rw [hks]; split <;> omega), gd_pos (by rw [hks]; split <;> omega), hm, hv]
  by_cases c1 : k = 3 ∨ k = 7
  · rw [if_neg (show ¬ (((ks k : Int) = 0 ∨ (ks k : Int) = 4) ∨ (ks k : Int) = 32) by rw [hks, if_neg (by omega)]; omega), bind_some', gd_pos (by omega), if_pos rfl, if_neg (show ¬ ((ks k : Int) = 2 ∨ (ks k : Int) = 6) by rw [hks, if_neg (by omega)]; omega), if_neg (show ¬ ((ks k : Int) = 1 ∨ (ks k : Int) = 5) by rw [hks, if_neg (by omega)]; omega), gd_pos ha, gd_pos (by omega)]
    rcases hm2 with e | e
    · rw [if_pos e, if_pos (by rw [if_pos c1]; exact e)]
    · rw [if_neg (by omega), if_neg (by rw [if_pos c1]; omega)]
  · by_cases c2 : k = 2 ∨ k = 6
    · rw [if_neg (show ¬ (((ks k : Int) = 0 ∨ (ks k : Int) = 4) ∨ (ks k : Int) = 32) by rw [hks, if_neg (by omega)]; omega), bind_some', gd_pos (by omega), if_pos rfl, if_pos (show ((ks k : Int) = 2 ∨ (ks k : Int) = 6) by rw [hks, if_neg (by omega)]; omega), gd_pos ha, gd_pos (by omega), show (4294967295 : Int64) = lN 4294967295 from rfl, cmp _ (by decide), gd_pos (by exact fun _ => rfl), gd_pos (by exact fun _ => by rw [vv_s]; exact rgc _), vv_s]
      by_cases d : m = 0 ∧ v ≤ 4294967295
      · rw [if_pos (by rw [poc]; omega), if_pos (by rw [if_neg c1, if_pos c2]; exact d)]
      · rw [if_neg (by rw [poc]; omega), if_neg (by rw [if_neg c1, if_pos c2]; exact d)]
    · by_cases c3 : k = 1 ∨ k = 5
      · rw [if_neg (show ¬ (((ks k : Int) = 0 ∨ (ks k : Int) = 4) ∨ (ks k : Int) = 32) by rw [hks, if_neg (by omega)]; omega), bind_some', gd_pos (by omega), if_pos rfl, if_neg (show ¬ ((ks k : Int) = 2 ∨ (ks k : Int) = 6) by rw [hks, if_neg (by omega)]; omega), if_pos (show ((ks k : Int) = 1 ∨ (ks k : Int) = 5) by rw [hks, if_neg (by omega)]; omega), gd_pos ha, gd_pos (by omega)]
        rcases hm2 with e | e
        · rw [if_pos e, bind_some', show (9223372036854775807 : Int64) = lN 9223372036854775807 from rfl, cmp _ (by decide), bind_some', gd_pos (rgc _)]
          by_cases d : v ≤ 9223372036854775807
          · rw [if_neg (by rw [poc]; omega), if_pos (by rw [if_neg c1, if_neg c2, if_pos c3]; exact Or.inl d)]
          · rw [if_pos (by rw [poc]; omega), if_neg (by rw [if_neg c1, if_neg c2, if_pos c3]; omega)]
        · rw [if_neg (show ¬ m = 0 by omega), bind_some', show (-9223372036854775808 : Int64) = lN 9223372036854775808 from by decide +kernel, cmp _ (by decide), bind_some', gd_pos (rgc _)]
          by_cases d : v ≤ 9223372036854775808
          · rw [if_neg (by rw [poc]; omega), if_pos (by rw [if_neg c1, if_neg c2, if_pos c3]; omega)]
          · rw [if_pos (by rw [poc]; omega), if_neg (by rw [if_neg c1, if_neg c2, if_pos c3]; omega)]
      · rw [if_pos (show (((ks k : Int) = 0 ∨ (ks k : Int) = 4) ∨ (ks k : Int) = 32) by rw [hks]; split <;> omega), bind_some', gd_pos (by omega), if_neg (show ¬ (1 : Int) = 0 by omega), gd_pos ha, gd_pos (by omega)]
        rcases hm2 with e | e
        · rw [if_pos e, bind_some', show (2147483647 : Int64) = lN 2147483647 from rfl, cmp _ (by decide), bind_some', gd_pos (rgc _)]
          by_cases d : v ≤ 2147483647
          · rw [if_neg (by rw [poc]; omega), if_pos (by rw [if_neg c1, if_neg c2, if_neg c3]; exact Or.inl d)]
          · rw [if_pos (by rw [poc]; omega), if_neg (by rw [if_neg c1, if_neg c2, if_neg c3]; omega)]
        · rw [if_neg (show ¬ m = 0 by omega), bind_some', show (2147483648 : Int64) = lN 2147483648 from rfl, cmp _ (by decide), bind_some', gd_pos (rgc _)]
          by_cases d : v ≤ 2147483648
          · rw [if_neg (by rw [poc]; omega), if_pos (by rw [if_neg c1, if_neg c2, if_neg c3]; omega)]
          · rw [if_pos (by rw [poc]; omega), if_neg (by rw [if_neg c1, if_neg c2, if_neg c3]; omega)]
end Ft
