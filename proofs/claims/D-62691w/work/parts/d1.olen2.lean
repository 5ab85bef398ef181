set_option maxRecDepth 100000
/-! ROOM: how long toWire's bytes are, whole -/
/-- how many opening braces -/
def kb (w : List UInt8) : Nat := w.count 123
section D1
variable {S : SC} {I : Nat → Nat} {n m : Nat} {od : Nat → List Nat} {w : List UInt8}
theorem toW_om (hS : SW S) (hO : OD S od) (hI : ∀ k, I k < 256) (hn : n ≤ 1000) (hm : m < S.1) (h : toW S od I n m = some w) : w.length + 1 ≤ om I n := by
  unfold toW rdW at h
  cases e : objS S I n 8 m (bl I n 0) with
  | none => rw [e] at h; cases h
  | some r =>
    rw [e] at h
    have h : ((if bl I n r.1 = n then some r.2 else none).map (enc S od 8 m)) = some w := h
    by_cases c : bl I n r.1 = n
    · rw [if_pos c] at h
      have h : some (enc S od 8 m r.2) = some w := h
      cases h
      have b0 := bl_le' I n 0
      have l := objS_len2 hS hO hI hn 8 m (bl I n 0) r hm (by omega) e
      have bd := objS_bd hI 8 m (bl I n 0) r (by omega) e
      have o := om_le I (show r.1 ≤ n by omega)
      omega
    · rw [if_neg c] at h; cases h
theorem om_take (h : ∀ j, j < w.length → I j = (w.getD j 0).toNat) : ∀ q, q ≤ w.length → om I q = 2 * q + 4 * kc (w.take q) + 2 * kb (w.take q)
  | 0, _ => rfl
  | q + 1, hq => by
    have ih := om_take h q (by omega)
    have hw : w[q]? = some w[q] := List.getElem?_eq_getElem (by omega)
    have hI : I q = (w[q]).toNat := by
      rw [h q (by omega), List.getD_eq_getElem?_getD, hw]; rfl
    rw [om, ih, hI, List.take_add_one, hw]
    have k1 : kc (w.take q ++ (some w[q]).toList) = kc (w.take q) + (if (w[q]).toNat = 44 then 1 else 0) := by
      rw [kc_app]
      congr 1
      show kc [w[q]] = _
      by_cases c : w[q] = 44
      · rw [c]; decide
      · rw [kc_cons _ _ c, if_neg (show ¬ (w[q]).toNat = 44 from fun e => c (UInt8.toNat_inj.mp (show (w[q]).toNat = (44 : UInt8).toNat from e)))]; rfl
    have k2 : kb (w.take q ++ (some w[q]).toList) = kb (w.take q) + (if (w[q]).toNat = 123 then 1 else 0) := by
      unfold kb
      rw [List.count_append]
      congr 1
      show List.count 123 [w[q]] = _
      by_cases c : w[q] = 123
      · rw [c]; decide
      · rw [List.count_cons_of_ne (fun e => c e), if_neg (show ¬ (w[q]).toNat = 123 from fun e => c (UInt8.toNat_inj.mp (show (w[q]).toNat = (123 : UInt8).toNat from e)))]; rfl
    rw [k1, k2]
    unfold wt
    split <;> split <;> omega
theorem om_list (h : ∀ j, j < w.length → I j = (w.getD j 0).toNat) : om I w.length = 2 * w.length + 4 * kc w + 2 * kb w := by
  have := om_take h w.length (Nat.le_refl _)
  rw [List.take_length] at this
  exact this
end D1
