set_option maxRecDepth 100000
/-! JSON: a value, as the system reads it -/
theorem strS_rel {I : Nat → Nat} {n : Nat} : ∀ (m k : Nat) (w : List UInt8) (r : Nat × List UInt8), n + 1 - k ≤ m → strS I n k w = some r → r.2.length + k ≤ w.length + r.1 := by
  intro m
  induction m with
  | zero =>
    intro k w r h1 h
    rw [strS, dif_pos (by rw [lk_ge (by omega)]; decide)] at h
    cases h
  | succ m ih =>
    intro k w r h1 h
    by_cases c0 : lk I n k < 32
    · rw [strS, dif_pos c0] at h; cases h
    · have hk : k < n := lk_in (I := I) (by omega)
      by_cases c1 : lk I n k = 34
      · rw [strS, dif_neg c0, if_pos c1] at h
        cases h
        exact Nat.le_refl _
      · rw [strS_stp c0 c1] at h
        cases e : stp I n k with
        | none => rw [e] at h; cases h
        | some v =>
          rw [e] at h
          have hv := stp_rg hk e
          have q := ih v.2 (w ++ v.1) r (by omega) h
          rw [List.length_append] at q
          omega
theorem strX_rel {I : Nat → Nat} {n p : Nat} {r : Nat × List UInt8} (h : strX I n p = some r) : r.2.length + p + 2 ≤ r.1 := by
  have hs := (strX_bd h).2.2.2.1
  unfold str at hs
  split at hs
  · cases e : strS I n (p + 1) [] with
    | none => rw [e] at hs; cases hs
    | some q =>
      rw [e] at hs
      cases hs
      have := strS_rel _ _ _ _ (Nat.le_refl _) e
      simp only [List.length_nil] at this ⊢
      omega
  · cases hs
theorem numW_nil (k : Nat) : numW k [] = none := by
  unfold numW
  have hs := dg_sp (wI []) 0 (g0 (wI []) 0 0)
  rw [if_neg (fun q => ?_)]
  have h0 : lk (wI []) 0 0 = -1 := lk_ge (Nat.le_refl _)
  have e0 : g0 (wI []) 0 0 = 0 := by unfold g0; rw [h0, if_neg (by decide)]
  have e1 : g1 (wI []) 0 0 = 0 := by unfold g1; rw [e0, dg_eq, h0, if_pos (by decide)]
  have := q.1.1
  simp only [List.length_nil] at this
  rw [e0, e1] at this
  omega
theorem sg_or (l : Nat) : (sg l = 0 ∧ l ≤ 16) ∨ (sg l = 4 * l ∧ 16 < l) := by
  unfold sg
  split
  · exact Or.inl ⟨rfl, by assumption⟩
  · exact Or.inr ⟨rfl, by omega⟩
theorem lcx_or (x : Int64) : 1 ≤ lcx x ∧ lcx x ≤ 2 := by unfold lcx; split <;> omega
theorem cst_le {S : SC} {I : Nat → Nat} {n f p : Nat} {e : Nat × Int64 × List UInt8} (hI : ∀ k, I k < 256) (hp : p ≤ n) (h : sclS S I n f p = some e) : cst S f e.2.2 + sg (e.1 - p) + (if qk S f = 9 ∨ qk S f = 10 then 0 else 8 * lcx e.2.1 - 5) ≤ 8 * (e.1 - p) ∧ 4 + e.2.2.length / 4 ≤ 5 * (e.1 - p) := by
  have s6 : slen 6 = 4 ∧ slen 7 = 5 := by decide +kernel
  unfold sclS at h
  unfold cst
  split at h
  · rename_i c8
    rw [if_neg (by omega), if_neg (by omega)]
    split at h
    · cases h; have := sg_or (p + slen 6 - p); have := lcx_or 1; simp only [List.length_nil]; omega
    · split at h
      · cases h; have := sg_or (p + slen 7 - p); have := lcx_or 0; simp only [List.length_nil]; omega
      · cases h
  · split at h
    · rename_i c9
      rw [if_pos (Or.inl c9), if_pos (Or.inl c9)]
      cases es : strX I n p with
      | none => rw [es] at h; cases h
      | some r => rw [es] at h; cases h; have := strX_rel es; have := strX_len es; have := sg_or (r.1 - p); simp only; omega
    · split at h
      · rename_i c10
        rw [if_pos (Or.inr c10), if_pos (Or.inr c10)]
        cases es : strX I n p with
        | none => rw [es] at h; cases h
        | some r =>
          rw [es] at h
          change (unb r.2).map _ = _ at h
          cases eu : unb r.2 with
          | none => rw [eu] at h; cases h
          | some o => rw [eu] at h; cases h; have := strX_rel es; have := strX_len es; have := sg_or (r.1 - p); have := unb_len eu; simp only; omega
      · rename_i n8 n9 n10
        rw [if_neg (by omega), if_neg (by omega)]
        split at h
        · cases es : strX I n p with
          | none => rw [es] at h; cases h
          | some r =>
            rw [es] at h
            change (vnm S (qk S f - 32) r.2).map _ = _ at h
            cases eu : vnm S (qk S f - 32) r.2 with
            | none => rw [eu] at h; cases h
            | some o => rw [eu] at h; cases h; have := strX_rel es; have := sg_or (r.1 - p); have := lcx_or (lN (vn S o)); simp only [List.length_nil]; omega
        · split at h
          · cases es : strX I n p with
            | none => rw [es] at h; cases h
            | some r =>
              rw [es] at h
              change (numW (qk S f) r.2).map _ = _ at h
              cases eu : numW (qk S f) r.2 with
              | none => rw [eu] at h; cases h
              | some o => rw [eu] at h; cases h; have := strX_rel es; have := sg_or (r.1 - p); have := lcx_or o; simp only [List.length_nil]; omega
          · cases eu : numW (qk S f) (cut I p (rns I n p)) with
            | none => rw [eu] at h; cases h
            | some o =>
              have hR := Rns.mk (n := n) (p := p) hI
              have hne : rns I n p ≠ p := fun e => by
                have : cut I p (rns I n p) = [] := List.eq_nil_of_length_eq_zero (by rw [cut_len, e, Nat.sub_self])
                rw [this, numW_nil] at eu
                cases eu
              have h2 := hR.2.1
              have hl := numW_lcx eu
              rw [cut_len] at hl
              have := sg_or (rns I n p - p)
              have := lcx_or o
              rw [eu] at h; cases h
              simp only [List.length_nil]
              omega
/-- a slot with a value of any kind, and what came of it -/
def VLO {d : Nat} (σ : ST) (a b ra wa : Nat) (I : Nat → Nat) (n p : Nat) (S : SC) (fa ma : Nat → Nat) (o : Option (Nat × SV d)) (r : Option (Option Nat) × ST) : Prop := match o with
  | some e => ∃ σ' Fn c, r = (some (some (sZ σ)), σ') ∧ JRd σ' a b ra wa I n e.1 ∧ sZ σ < sZ σ' ∧ HSl S fa (HV S fa ma d σ') σ' (sZ σ) e.2 Fn ∧ sR σ' 196 (sZ σ) = none ∧ (∀ x, Fn x → sZ σ < x ∧ x < sZ σ') ∧ JG σ σ' a ra wa c (5 * (e.1 - p)) ∧ c + dV S (dM S d) e.2 ≤ 8 * (e.1 - p)
  | none => ∃ σ', r = (none, σ') ∧ JG σ σ' a ra wa (8 * (n + 1 - p) + 10005) (5 * (n + 1 - p) + 405)
section Vl
variable {z : Nat} {σ : ST} {S : SC} {fa ma ea : Nat → Nat} {od : Nat → List Nat} {a b ra wa : Nat} {I : Nat → Nat} {n p d : Nat} {rec : Nat × Nat → Option Nat → Option Nat → Int → ST → Option (Option (Option Nat) × ST)} {dp : Int} {sp : Nat → Nat → Option (Nat × TV d)}
theorem JRd.scl (hS : SW S) (hI : ∀ k, I k < 256) (hH : HSc z σ S fa ma ea od) (h : JRd σ a b ra wa I n p) (hp : p ≤ n) (hza : z ≤ a ∧ z ≤ ra ∧ z ≤ wa) {f : Nat} (hf : f < nF_ S) (hnm : ¬ isM S f) : Rn (·.2) σ (fun bb => jr_slot bb a (some (fa f)) σ) (VLO σ a b ra wa I n p S fa ma (valS S I n sp f (bl I n p))) := by
  have b1 := bl_ge' I n p
  have b2 := bl_le' I n p
  refine (h.slot hS hH hp hza hf hnm).mono (fun r _ hr => ?_)
  unfold valS
  rw [if_neg hnm]
  cases e : sclS S I n f (bl I n p) with
  | none =>
    rw [e] at hr
    obtain ⟨σ', e1, g⟩ := hr
    exact ⟨σ', e1, g.mono (by omega) (by omega)⟩
  | some x =>
    rw [e] at hr
    obtain ⟨σ', e1, hJ, hsl, g⟩ := hr
    obtain ⟨k1, k2⟩ := cst_le hI (by omega) e
    have bd := sclS_bd hI (by omega) e
    obtain ⟨s1, s2, s3, s4, s5, s6, s7⟩ := hsl
    refine ⟨σ', fun y => sZ σ < y ∧ y < sZ σ', cst S f x.2.2 + sg (x.1 - bl I n p), e1, hJ, s1, ⟨s2, hf, s3, ?_⟩, s6, fun y w => w, g.mono (Nat.le_refl _) (by show 4 + x.2.2.length / 4 ≤ 5 * (x.1 - p); omega), by
      show cst S f x.2.2 + sg (x.1 - bl I n p) + (if isM S f then _ else if qk S f = 9 ∨ qk S f = 10 then 0 else 8 * lcx x.2.1 - 5) ≤ 8 * (x.1 - p)
      rw [if_neg hnm]
      omega⟩
    show (if isM S f then _ else _)
    rw [if_neg hnm]
    refine ⟨s5, s4, ?_⟩
    show (if qk S f = 9 ∨ qk S f = 10 then _ else _)
    by_cases c : qk S f = 9 ∨ qk S f = 10
    · rw [if_pos c] at s7 ⊢
      obtain ⟨rw', t1, t2, t3, t4, t5⟩ := s7
      refine ⟨?_, rw', t1, ⟨t2, t3⟩, t3, t4, t5⟩
      unfold sclS at e
      rcases c with c | c
      · rw [if_neg (by omega), if_pos c] at e
        cases es : strX I n (bl I n p) with
        | none => rw [es] at e; cases e
        | some q => rw [es] at e; cases e; rfl
      · rw [if_neg (by omega), if_neg (by omega), if_pos c] at e
        cases es : strX I n (bl I n p) with
        | none => rw [es] at e; cases e
        | some q =>
          rw [es] at e
          change (unb q.2).map _ = _ at e
          cases eu : unb q.2 with
          | none => rw [eu] at e; cases e
          | some o => rw [eu] at e; cases e; rfl
    · rw [if_neg c] at s7 ⊢
      refine ⟨s7, ?_⟩
      unfold sclS at e
      split at e
      · split at e
        · cases e; rfl
        · split at e
          · cases e; rfl
          · cases e
      · rw [if_neg (by omega), if_neg (by omega)] at e
        split at e
        · cases es : strX I n (bl I n p) with
          | none => rw [es] at e; cases e
          | some q =>
            rw [es] at e
            change (vnm S (qk S f - 32) q.2).map _ = _ at e
            cases eu : vnm S (qk S f - 32) q.2 with
            | none => rw [eu] at e; cases e
            | some o => rw [eu] at e; cases e; rfl
        · split at e
          · cases es : strX I n (bl I n p) with
            | none => rw [es] at e; cases e
            | some q =>
              rw [es] at e
              change (numW (qk S f) q.2).map _ = _ at e
              cases eu : numW (qk S f) q.2 with
              | none => rw [eu] at e; cases e
              | some o => rw [eu] at e; cases e; rfl
          · cases eu : numW (qk S f) (cut I (bl I n p) (rns I n (bl I n p))) with
            | none => rw [eu] at e; cases e
            | some o => rw [eu] at e; cases e; rfl
end Vl
