set_option maxRecDepth 100000
/-! NUMBERS: digits one behind the other, up to 64 bits -/
abbrev T64 : Nat := 18446744073709551616
def dv (J : Nat → Nat) (N k : Nat) : Nat := (lk J N k - 48).toNat
/-- c places from k on, without the point's, behind s -/
def pp (J : Nat → Nat) (N pt : Nat) : Nat → Nat → Nat → Option Nat
  | 0, _, s => some s
  | c + 1, k, s => if k = pt then pp J N pt c (k + 1) s else if 10 * s + dv J N k < T64 then pp J N pt c (k + 1) (10 * s + dv J N k) else none
def pz : Nat → Nat → Option Nat
  | 0, s => some s
  | r + 1, s => if 10 * s < T64 then pz r (10 * s) else none
/-- which digit a place has -/
def ix (k0 pt k : Nat) : Nat := k - k0 - (if pt < k then 1 else 0)
/-- digits up to W; those behind must be 0 -/
def sl1 (J : Nat → Nat) (N pt k0 : Nat) (W : Int) : Nat → Nat → Option Nat → Option Nat
  | 0, _, o => o
  | c + 1, k, o => if k = pt then sl1 J N pt k0 W c (k + 1) o else if (ix k0 pt k : Int) < W then sl1 J N pt k0 W c (k + 1) (o.bind fun s => if 10 * s + dv J N k < T64 then some (10 * s + dv J N k) else none) else sl1 J N pt k0 W c (k + 1) (if dv J N k = 0 then o else none)
section Pu
variable {J : Nat → Nat} {N pt k0 : Nat} {W : Int}
theorem sl1_none : ∀ (c k : Nat), sl1 J N pt k0 W c k none = none
  | 0, k => rfl
  | c + 1, k => by
    rw [sl1]
    split
    · exact sl1_none c (k + 1)
    · split
      · exact sl1_none c (k + 1)
      · split <;> exact sl1_none c (k + 1)
theorem sl1_add : ∀ (c d k : Nat) (o : Option Nat), sl1 J N pt k0 W (c + d) k o = sl1 J N pt k0 W d (k + c) (sl1 J N pt k0 W c k o)
  | 0, d, k, o => by rw [Nat.zero_add, Nat.add_zero]; rfl
  | c + 1, d, k, o => by
    rw [show c + 1 + d = (c + d) + 1 by omega, sl1, sl1]
    split
    · rw [sl1_add c d (k + 1), show k + 1 + c = k + (c + 1) by omega]
    · split
      · rw [sl1_add c d (k + 1), show k + 1 + c = k + (c + 1) by omega]
      · rw [sl1_add c d (k + 1), show k + 1 + c = k + (c + 1) by omega]
theorem sl1_pp : ∀ (c k s : Nat), (∀ j, k ≤ j → j < k + c → j ≠ pt → (ix k0 pt j : Int) < W) → sl1 J N pt k0 W c k (some s) = pp J N pt c k s
  | 0, k, s, h => rfl
  | c + 1, k, s, h => by
    rw [sl1, pp]
    split
    · exact sl1_pp c (k + 1) s (fun j h1 h2 h3 => h j (by omega) (by omega) h3)
    · rename_i q
      rw [if_pos (h k (Nat.le_refl _) (by omega) q)]
      show sl1 J N pt k0 W c (k + 1) (if 10 * s + dv J N k < T64 then some (10 * s + dv J N k) else none) = _
      split
      · exact sl1_pp c (k + 1) _ (fun j h1 h2 h3 => h j (by omega) (by omega) h3)
      · exact sl1_none c (k + 1)
theorem pz_add : ∀ (a b s : Nat), pz (a + b) s = (pz a s).bind (pz b)
  | 0, b, s => by rw [Nat.zero_add]; rfl
  | a + 1, b, s => by
    rw [show a + 1 + b = (a + b) + 1 by omega, pz, pz]
    split
    · exact pz_add a b _
    · rfl
theorem pz_zero : ∀ r : Nat, pz r 0 = some 0
  | 0 => rfl
  | r + 1 => by rw [pz, if_pos (by decide)]; exact pz_zero r
theorem pz_val : ∀ (r s v : Nat), pz r s = some v → v = s * 10 ^ r ∧ (s < T64 → v < T64)
  | 0, s, v, h => by cases h; exact ⟨by simp, fun q => q⟩
  | r + 1, s, v, h => by
    rw [pz] at h
    split at h
    · rename_i q
      obtain ⟨h1, h2⟩ := pz_val r _ v h
      exact ⟨by rw [h1, Nat.pow_succ, Nat.mul_comm 10 s, Nat.mul_assoc, Nat.mul_comm 10], fun _ => h2 q⟩
    · cases h
theorem pz_big {r s : Nat} (hs : 1 ≤ s) (h64 : s < T64) (hr : 20 ≤ r) : pz r s = none := by
  cases e : pz r s with
  | none => rfl
  | some v =>
    obtain ⟨h1, h2⟩ := pz_val r s v e
    have h3 := h2 h64
    have h4 : 10 ^ 20 ≤ 10 ^ r := Nat.pow_le_pow_right (by decide) hr
    have h5 : 10 ^ r ≤ s * 10 ^ r := Nat.le_mul_of_pos_left _ hs
    have h6 : T64 < 10 ^ 20 := by decide
    omega
/-- zeros behind the last digit that isn't one -/
theorem sl1_zero (hk : k0 ≤ pt) : ∀ (c k s : Nat), k0 ≤ k → (∀ j, k ≤ j → j < k + c → j ≠ pt → dv J N j = 0) → sl1 J N pt k0 W c k (some s) = pz (min W.toNat (ix k0 pt (k + c)) - ix k0 pt k) s
  | 0, k, s, h0, h => by
    rw [show k + 0 = k from rfl, show min W.toNat (ix k0 pt k) - ix k0 pt k = 0 by omega]
    rfl
  | c + 1, k, s, h0, h => by
    have e1 : ix k0 pt (k + (c + 1)) = ix k0 pt (k + 1 + c) := by rw [show k + (c + 1) = k + 1 + c by omega]
    have em : ix k0 pt (k + 1) ≤ ix k0 pt (k + 1 + c) := by unfold ix; split <;> split <;> omega
    rw [sl1, e1]
    split
    · rename_i q
      rw [sl1_zero hk c (k + 1) s (by omega) (fun j h1 h2 h3 => h j (by omega) (by omega) h3)]
      have e2 : ix k0 pt (k + 1) = ix k0 pt k := by unfold ix; rw [if_pos (by omega), if_neg (by omega)]; omega
      rw [e2]
    · rename_i q
      have e2 : ix k0 pt (k + 1) = ix k0 pt k + 1 := by unfold ix; split <;> split <;> omega
      have hz := h k (Nat.le_refl _) (by omega) q
      by_cases hw : (ix k0 pt k : Int) < W
      · rw [if_pos hw, hz]
        show sl1 J N pt k0 W c (k + 1) (if 10 * s + 0 < T64 then some (10 * s + 0) else none) = _
        rw [show 10 * s + 0 = 10 * s from rfl, show min W.toNat (ix k0 pt (k + 1 + c)) - ix k0 pt k = (min W.toNat (ix k0 pt (k + 1 + c)) - ix k0 pt (k + 1)) + 1 by omega, pz]
        by_cases q2 : 10 * s < T64
        · rw [if_pos q2, if_pos q2]
          exact sl1_zero hk c (k + 1) _ (by omega) (fun j h1 h2 h3 => h j (by omega) (by omega) h3)
        · rw [if_neg q2, if_neg q2]
          exact sl1_none c (k + 1)
      · rw [if_neg hw, if_pos hz, sl1_zero hk c (k + 1) s (by omega) (fun j h1 h2 h3 => h j (by omega) (by omega) h3), show min W.toNat (ix k0 pt (k + 1 + c)) - ix k0 pt (k + 1) = 0 by omega, show min W.toNat (ix k0 pt (k + 1 + c)) - ix k0 pt k = 0 by omega]
theorem pp_pos : ∀ (c k s v : Nat), pp J N pt c k s = some v → (1 ≤ s ∨ ∃ j, k ≤ j ∧ j < k + c ∧ j ≠ pt ∧ dv J N j ≠ 0) → 1 ≤ v
  | 0, k, s, v, h, q => by
    cases h
    rcases q with q | ⟨j, h1, h2, -⟩
    · exact q
    · omega
  | c + 1, k, s, v, h, q => by
    rw [pp] at h
    split at h
    · rename_i e
      refine pp_pos c (k + 1) s v h (q.imp id (fun ⟨j, h1, h2, h3, h4⟩ => ⟨j, by omega, by omega, h3, h4⟩))
    · split at h
      · refine pp_pos c (k + 1) _ v h ?_
        rcases q with q | ⟨j, h1, h2, h3, h4⟩
        · left; omega
        · rcases Nat.lt_or_ge k j with e | e
          · exact Or.inr ⟨j, e, by omega, h3, h4⟩
          · left
            have : j = k := by omega
            subst this
            omega
      · cases h
theorem pp_lt : ∀ (c k s v : Nat), s < T64 → pp J N pt c k s = some v → v < T64
  | 0, k, s, v, h0, h => by cases h; exact h0
  | c + 1, k, s, v, h0, h => by
    rw [pp] at h
    split at h
    · exact pp_lt c (k + 1) s v h0 h
    · split at h
      · rename_i q
        exact pp_lt c (k + 1) _ v q h
      · cases h
/-- a number's digits lie at k0 .. k2 - 1, the point (if there is one) at pt; its value, if the point is moved behind W digits and all behind it are 0 -/
def nv (J : Nat → Nat) (N k0 pt k2 : Nat) (W : Int) : Option Nat := (sl1 J N pt k0 W (k2 - k0) k0 (some 0)).bind (pz (W.toNat - ix k0 pt k2))
theorem nv_zero {k2 : Nat} (hk : k0 ≤ pt) (h : ∀ j, k0 ≤ j → j < k2 → j ≠ pt → dv J N j = 0) : nv J N k0 pt k2 W = some 0 := by
  unfold nv
  rw [sl1_zero hk _ _ _ (Nat.le_refl _) (fun j h1 h2 h3 => h j h1 (by omega) h3), pz_zero]
  exact pz_zero _
theorem nv_last {k2 l : Nat} (hk : k0 ≤ pt) (h0 : k0 ≤ l) (h2 : l < k2) (hp : l ≠ pt) (hd : dv J N l ≠ 0) (h : ∀ j, l < j → j < k2 → j ≠ pt → dv J N j = 0) : nv J N k0 pt k2 W = if (ix k0 pt l : Int) < W then (pp J N pt (l + 1 - k0) k0 0).bind (pz (W.toNat - (ix k0 pt l + 1))) else none := by
  unfold nv
  have e0 : k2 - k0 = (l - k0) + ((k2 - l - 1) + 1) := by omega
  have el : ix k0 pt (l + 1) = ix k0 pt l + 1 := by unfold ix; split <;> split <;> omega
  have ek : ix k0 pt l + 1 ≤ ix k0 pt k2 := by unfold ix; split <;> split <;> omega
  by_cases c : (ix k0 pt l : Int) < W
  · rw [if_pos c, show k2 - k0 = (l + 1 - k0) + (k2 - l - 1) by omega, sl1_add, sl1_pp _ _ _ (fun j h1 h2 h3 => by
      have : ix k0 pt j ≤ ix k0 pt l := by unfold ix; split <;> split <;> omega
      omega)]
    cases e : pp J N pt (l + 1 - k0) k0 0 with
    | none => rw [sl1_none]; rfl
    | some s =>
      rw [sl1_zero hk _ _ _ (by omega) (fun j h1 h2 h3 => h j (by omega) (by omega) h3), show k0 + (l + 1 - k0) = l + 1 by omega, show l + 1 + (k2 - l - 1) = k2 by omega, el]
      show _ = pz _ s
      rw [← pz_add]
      congr 1
      omega
  · rw [if_neg c, e0, sl1_add, show k0 + (l - k0) = l by omega, sl1, if_neg hp, if_neg c, if_neg hd, sl1_none]
    rfl
end Pu
