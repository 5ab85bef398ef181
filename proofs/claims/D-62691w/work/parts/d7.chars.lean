set_option maxRecDepth 100000
/-! ROOM: weights by chars, and by commas -/
/-- at least so many chars -/
def lcF (S : SC) (f : Nat) (x : Int64) (o : List UInt8) : Nat := if plain S f then lcx x else o.length + 2
def lo2 (S : SC) (f : Nat) (x : Int64) (o : List UInt8) : Nat := 2 * lcF S f x o
section D7
variable {S : SC} {I : Nat → Nat} {n p d : Nat} {od : Nat → List Nat}
theorem numE_small2 (S : SC) (f : Nat) {v : Nat} (hv : v ≤ 9) : (numE S f (lN v)).length ≤ (if qk S f = 7 then 8 else 6) := by
  have q4 : ∀ v : Fin 10, (vrE 9 (((lShl (lN v.val) 1) ^^^ (lShr (lN v.val) 63)) &&& 4294967295)).length ≤ 6 := by decide +kernel
  have q5 : ∀ v : Fin 10, (vrE 9 ((lShl (lN v.val) 1) ^^^ (lShr (lN v.val) 63))).length ≤ 6 := by decide +kernel
  have q0 : ∀ v : Fin 10, (vrE 9 (lN v.val)).length ≤ 6 := by decide +kernel
  unfold numE
  split
  · rw [fxF_len]; split <;> omega
  · split
    · rw [fxF_len]; exact Nat.le_refl _
    · unfold zz
      split
      · exact q4 ⟨v, by omega⟩
      · split
        · exact q5 ⟨v, by omega⟩
        · exact q0 ⟨v, by omega⟩
theorem scl_num3 (hI : ∀ k, I k < 256) {f : Nat} {e : Nat × Int64 × List UInt8} (hpl : plain S f) (h : sclS S I n f p = some e) : p + lcx e.2.1 ≤ e.1 := by
  have s6 : slen 6 = 4 ∧ slen 7 = 5 := by decide +kernel
  have two : ∀ {q : Nat}, p + 2 ≤ q → p + lcx e.2.1 ≤ q := fun h => by
    have := (lcx_or e.2.1).2
    omega
  unfold sclS at h
  split at h
  · split at h
    · cases h
      exact two (by show p + 2 ≤ p + slen 6; omega)
    · split at h
      · cases h
        exact two (by show p + 2 ≤ p + slen 7; omega)
      · cases h
  · split at h
    · rename_i c8 c9
      exact absurd hpl (by unfold plain; omega)
    · split at h
      · rename_i c8 c9 c10
        exact absurd hpl (by unfold plain; omega)
      · split at h
        · cases es : strX I n p with
          | none => rw [es] at h; cases h
          | some r =>
            rw [es] at h
            change (vnm S (qk S f - 32) r.2).map _ = _ at h
            cases eu : vnm S (qk S f - 32) r.2 with
            | none => rw [eu] at h; cases h
            | some o => rw [eu] at h; cases h; have := strX_bd es; exact two (by show p + 2 ≤ r.1; omega)
        · split at h
          · cases es : strX I n p with
            | none => rw [es] at h; cases h
            | some r =>
              rw [es] at h
              change (numW (qk S f) r.2).map _ = _ at h
              cases eu : numW (qk S f) r.2 with
              | none => rw [eu] at h; cases h
              | some o => rw [eu] at h; cases h; have := strX_bd es; exact two (by show p + 2 ≤ r.1; omega)
          · cases eu : numW (qk S f) (cut I p (rns I n p)) with
            | none => rw [eu] at h; cases h
            | some o =>
              rw [eu] at h; cases h
              obtain ⟨w1, w2⟩ := numW_lcx eu
              rw [cut_len] at w1 w2
              show p + lcx o ≤ rns I n p
              omega
theorem scl_lc (hS : SW S) (hI : ∀ k, I k < 256) {f : Nat} (hf : f < nF_ S) (hM : ¬ isM S f) {e : Nat × Int64 × List UInt8} (h : sclS S I n f p = some e) : lcF S f e.2.1 e.2.2 + p ≤ e.1 := by
  unfold lcF
  by_cases hpl : plain S f
  · rw [if_pos hpl]
    have := scl_num3 hI hpl h
    omega
  · rw [if_neg hpl]
    have hk : qk S f = 9 ∨ qk S f = 10 := by
      by_cases q : qk S f = 9 ∨ qk S f = 10
      · exact q
      · exact absurd ((plain_m hS hf).mpr ⟨q, hM⟩) hpl
    have := scl_str hk h
    omega
theorem nm_len3 (hN : NE S) {m f : Nat} {r : Nat × List UInt8} (h : strX I n p = some r) (hb : byN S m r.2 = some f) : p + 3 ≤ r.1 := by
  have hl := strX_len h
  have bo := byN_ok S m r.2
  rw [hb] at bo
  have ne : r.2 ≠ [] := by
    rcases bo.2.2 with q | q
    · rw [← q]; exact (hN f bo.1).1
    · rw [← q.1]; exact (hN f bo.1).2
  have : 0 < r.2.length := List.length_pos_iff.mpr ne
  omega
/-- chars -/
theorem MZ_n (hS : SW S) (hN : NE S) (hI : ∀ k, I k < 256) : MZ S I n (fun _ => True) (fun p => p) (lcF S) (fun _ => 1) 3 :=
  ⟨fun p q h => h, fun p c _ _ _ => ⟨Nat.le_refl _, fun _ => trivial⟩, fun _ _ => trivial, fun p r m f _ _ h hb => ⟨nm_len3 hN h hb, trivial⟩, fun _ _ _ => trivial, fun f p e _ _ hf hM _ h => ⟨scl_lc hS hI hf hM h, trivial⟩, fun f p e _ _ hf hM _ _ h => ⟨scl_lc hS hI hf hM h, trivial⟩⟩
/-- what is read has at least so many chars -/
theorem objS_n (hS : SW S) (hN : NE S) (hO : OD S od) (hI : ∀ k, I k < 256) (d : Nat) : EW S n (fun _ => True) (fun p => p) (oW S od (lcF S) 5 6 1 1 d) (objS S I n d) := objS_W (MZ_n hS hN hI) hS hO hI (Nat.le_refl _) (Nat.le_refl _) (Nat.le_refl _) (Nat.le_refl _) d
def wO (c : Nat) : Nat := if c = 44 then 6 else if c = 123 then 4 else 2
/-- chars, commas and braces -/
theorem MZ_o (hS : SW S) (hN : NE S) (hI : ∀ k, I k < 256) : MZ S I n (fun _ => True) (om I) (lo2 S) wO 6 := by
  have le : ∀ {p q : Nat}, p ≤ q → om I p + 2 * (q - p) ≤ om I q := fun h => om_le I h
  have lf : ∀ f p (e : Nat × Int64 × List UInt8), f < nF_ S → ¬ isM S f → sclS S I n f p = some e → lo2 S f e.2.1 e.2.2 + om I p ≤ om I e.1 := fun f p e hf hM h => by
    have q := scl_lc hS hI hf hM h
    have := le (show p ≤ e.1 by omega)
    unfold lo2
    omega
  refine ⟨fun p q h => ?_, fun p c _ hc _ => ⟨?_, fun _ => trivial⟩, fun _ _ => trivial, fun p r m f _ _ h hb => ⟨?_, trivial⟩, fun _ _ _ => trivial, fun f p e _ _ hf hM _ h => ⟨lf f p e hf hM h, trivial⟩, fun f p e _ _ hf hM _ _ h => ⟨lf f _ e hf hM h, trivial⟩⟩
  · have := le h; omega
  · rw [om, hc]
    unfold wt wO
    split
    · omega
    · split <;> omega
  · have q := nm_len3 hN h hb
    have := le (show p ≤ r.1 by omega)
    omega
theorem objS_o (hS : SW S) (hN : NE S) (hO : OD S od) (hI : ∀ k, I k < 256) (d : Nat) : EW S n (fun _ => True) (om I) (oW S od (lo2 S) 14 12 6 0 d) (objS S I n d) := objS_W (MZ_o hS hN hI) hS hO hI (by decide) (by decide) (by decide) (by decide) d
theorem lc_2 (f : Nat) (x : Int64) (o : List UInt8) : (plain S f → 1 ≤ lcF S f x o ∧ (numE S f x).length ≤ 6 + 2 * lcF S f x o ∧ (qk S f ≠ 7 → 3 * (numE S f x).length ≤ 10 + 10 * lcF S f x o) ∧ (numE S f x).length ≤ 4 + 4 * lcF S f x o) ∧ (¬ plain S f → lcF S f x o = o.length + 2) := by
  have h10 := numE_len S f x
  unfold lcF
  constructor
  · intro h
    rw [if_pos h]
    have lx := lcx_or x
    by_cases c : un x ≤ 9
    · have e1 : lcx x = 1 := by unfold lcx; rw [if_pos c]
      have q := numE_small2 S f c
      rw [lN_un] at q
      rw [e1]
      by_cases c7 : qk S f = 7
      · rw [if_pos c7] at q
        exact ⟨by omega, by omega, fun w => absurd c7 w, by omega⟩
      · rw [if_neg c7] at q
        exact ⟨by omega, by omega, fun _ => by omega, by omega⟩
    · have e1 : lcx x = 2 := by unfold lcx; rw [if_neg c]
      rw [e1]
      exact ⟨by omega, by omega, fun _ => by omega, by omega⟩
  · intro h
    rw [if_neg h]
/-- four bytes a char -/
theorem LT_n : LT S (lcF S) 1 4 5 6 1 1 11 17 := by
  refine ⟨fun f x o _ hp _ => ?_, fun f x o _ hp _ => ?_, fun f x o _ hp _ => ?_, by decide, by decide, by decide, by decide, by decide, by decide⟩
  · have := (lc_2 f x o).1 hp; omega
  · have := (lc_2 f x o).1 hp; omega
  · have := (lc_2 f x o).2 hp; exact ⟨by omega, by omega⟩
/-- commas and braces -/
theorem LT_o : LT S (lo2 S) 1 1 14 12 6 0 3 3 := by
  refine ⟨fun f x o _ hp _ => ?_, fun f x o _ hp _ => ?_, fun f x o _ hp _ => ?_, by decide, by decide, by decide, by decide, by decide, by decide⟩
  · have := (lc_2 f x o).1 hp; unfold lo2; omega
  · have := (lc_2 f x o).1 hp; unfold lo2; omega
  · have := (lc_2 f x o).2 hp; unfold lo2; exact ⟨by omega, by omega⟩
/-- ten bytes in three chars, if no row holds numbers of eight bytes -/
theorem LT_t (h7 : ∀ f, f < nF_ S → qr S f = 1 → qk S f ≠ 7) : LT S (lcF S) 3 10 5 6 1 1 20 39 := by
  refine ⟨fun f x o _ hp _ => ?_, fun f x o hf hp hr => ?_, fun f x o _ hp _ => ?_, by decide, by decide, by decide, by decide, by decide, by decide⟩
  · have := (lc_2 f x o).1 hp; omega
  · have := ((lc_2 f x o).1 hp).2.2.1 (h7 f hf hr); omega
  · have := (lc_2 f x o).2 hp; exact ⟨by omega, by omega⟩
end D7
