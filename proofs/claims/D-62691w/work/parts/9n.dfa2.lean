set_option maxRecDepth 100000
/-! TEXTS: an input that is read is UTF-8, and texts in such an input are -/
abbrev gN (I : Nat → Nat) : Nat → Int := fun j => (I j : Int)
/-- letters below 128 only -/
def AS (I : Nat → Nat) (n k e : Nat) : Prop := ∀ j, k ≤ j → j < e → 0 ≤ lk I n j ∧ lk I n j < 128
def Z8 (I : Nat → Nat) (p e : Nat) : Prop := p ≤ e ∧ uR (gN I) (e - p) p 0 = 0
section D2
variable {I : Nat → Nat} {n k p e : Nat}
theorem AS.app {e2 : Nat} (h : AS I n k e) (g : AS I n e e2) : AS I n k e2 := fun j h1 h2 => by
  by_cases c : j < e
  · exact h j h1 c
  · exact g j (by omega) h2
theorem AS.one {c : Int} (h : lk I n k = c) (hc : 0 ≤ c ∧ c < 128) : AS I n k (k + 1) := fun j h1 h2 => by
  rw [show j = k by omega, h]; exact hc
theorem AS.nil : AS I n k k := fun j h1 h2 => by omega
theorem as_run : ∀ (c k s : Nat), AS I n k (k + c) → 1 ≤ c → uR (gN I) c k s = if s = 0 then 0 else 8
  | 0, k, s, _, h => by omega
  | c + 1, k, s, h, _ => by
    have h0 := h k (Nat.le_refl _) (by omega)
    have hk : k < n := lk_in (I := I) (by omega)
    rw [lk_lt hk] at h0
    rw [uR, uD_a h0.2]
    cases c with
    | zero => rfl
    | succ c =>
      rw [as_run (c + 1) (k + 1) _ (fun j h1 h2 => h j (by omega) (by omega)) (by omega)]
      by_cases e : s = 0
      · rw [if_pos e, if_pos rfl]
      · rw [if_neg e, if_neg (by decide)]
theorem Z8.as (h : AS I n k e) (hk : k ≤ e) : Z8 I k e := by
  refine ⟨hk, ?_⟩
  by_cases c : k = e
  · rw [c, Nat.sub_self]; rfl
  · rw [as_run (n := n) (e - k) k 0 (by rw [show k + (e - k) = e by omega]; exact h) (by omega), if_pos rfl]
theorem Z8.tr {e2 : Nat} (h : Z8 I k e) (g : Z8 I e e2) : Z8 I k e2 := by
  obtain ⟨a1, a2⟩ := h
  obtain ⟨b1, b2⟩ := g
  refine ⟨by omega, ?_⟩
  rw [show e2 - k = (e - k) + (e2 - e) by omega, uR_add, a2, show k + (e - k) = e by omega, b2]
theorem Z8.one {c : Int} (h : lk I n k = c) (hc : 0 ≤ c ∧ c < 128) : Z8 I k (k + 1) := Z8.as (AS.one h hc) (Nat.le_succ _)
theorem hxd_as {c : Int} (h : hxd c ≠ -1) : 0 ≤ c ∧ c < 128 := by
  unfold hxd at h
  split at h
  · split at h
    · split at h <;> omega
    · omega
  · omega
theorem hx_as : ∀ (m k : Nat) (v : Int), hx I n m k v ≠ -1 → AS I n k (k + m)
  | 0, k, v, _ => AS.nil
  | m + 1, k, v, h => by
    rw [hx] at h
    split at h
    · exact absurd rfl h
    · rename_i q
      have h1 := hxd_as q
      have h2 := hx_as m (k + 1) _ h
      rw [show k + (m + 1) = k + 1 + m by omega]
      exact (AS.one rfl h1).app h2
theorem escv_as {c : Int} (h : escv c ≠ -1) : 0 ≤ c ∧ c < 128 := by
  unfold escv at h
  repeat' split at h
  all_goals omega
abbrev vld (v : Int) : Prop := (0 ≤ v ∧ v < 55296) ∨ (57344 ≤ v ∧ v < 1114112)
theorem told_as {v : Int × Nat} (h : told I n k = some v) : AS I n k v.2 ∧ vld v.1 ∧ k < v.2 := by
  have h4 := hx4_rg I n k
  unfold told at h
  split at h
  · cases h
  · rename_i q
    have a1 := hx_as 4 k 0 q
    split at h
    · split at h
      · cases h
        exact ⟨a1, by simp only; omega, by simp only; omega⟩
      · cases h
    · split at h
      · rename_i q1 q2
        cases h
        have a2 := hx_as (I := I) (n := n) 4 (k + 6) 0 (by omega)
        have hp := pair_rg (v := hx I n 4 k 0) (w := hx I n 4 (k + 6) 0) (by omega) (by omega)
        refine ⟨?_, by simp only; omega, by simp only; omega⟩
        show AS I n k (k + 10)
        have b1 : AS I n (k + 4) (k + 4 + 1) := AS.one q2.1 (by decide)
        have b2 : AS I n (k + 5) (k + 5 + 1) := AS.one q2.2.1 (by decide)
        exact ((a1.app b1).app b2).app a2
      · cases h
theorem esc1_as {v : Int × Nat} (h : esc1 I n k = some v) : AS I n k v.2 ∧ vld v.1 ∧ k < v.2 := by
  unfold esc1 at h
  split at h
  · rename_i q
    obtain ⟨a1, a2, a3⟩ := told_as h
    exact ⟨(AS.one q (by decide)).app a1, a2, by omega⟩
  · split at h
    · cases h
    · rename_i q1 q2
      cases h
      have := escv_rg (lk I n k)
      exact ⟨AS.one rfl (escv_as q2), by simp only; omega, by simp only; omega⟩
theorem stp_dfa (hI : ∀ k, I k < 256) {v : List UInt8 × Nat} (hk : k < n) (h : stp I n k = some v) (s : Nat) : uR (gN I) (v.2 - k) k s = uL v.1 s := by
  unfold stp at h
  split at h
  · rename_i q
    cases e : esc1 I n (k + 1) with
    | none => rw [e] at h; cases h
    | some w =>
      rw [e] at h
      cases h
      obtain ⟨a1, a2, a3⟩ := esc1_as e
      show uR (gN I) (w.2 - k) k s = uL (sayL w.1) s
      have a0 : AS I n k w.2 := (AS.one q (by decide)).app a1
      rw [sayL_dfa a2, as_run (n := n) (w.2 - k) k s (by rw [show k + (w.2 - k) = w.2 by omega]; exact a0) (by omega)]
  · cases h
    show uR (gN I) (k + 1 - k) k s = uD s ((u8 (lk I n k)).toNat : Int)
    have h2 := hI k
    rw [show k + 1 - k = 1 by omega, lk_lt hk, u8_n (k := I k) rfl h2, tn_of h2]
    rfl
theorem strS_dfa (hI : ∀ k, I k < 256) : ∀ (m k : Nat) (w : List UInt8) (r : Nat × List UInt8), n + 1 - k ≤ m → strS I n k w = some r → k ≤ r.1 ∧ lk I n r.1 = 34 ∧ uR (gN I) (r.1 - k) k (uL w 0) = uL r.2 0 := by
  intro m
  induction m with
  | zero =>
    intro k w r h1 h
    rw [strS, dif_pos (by rw [lk_ge (by omega)]; decide)] at h
    cases h
  | succ m ih =>
    intro k w r h1 h
    by_cases c0 : lk I n k < 32
    · rw [strS, dif_pos c0] at h; cases h
    · have hk : k < n := lk_in (I := I) (by omega)
      by_cases c1 : lk I n k = 34
      · rw [strS, dif_neg c0, if_pos c1] at h
        cases h
        refine ⟨Nat.le_refl _, c1, ?_⟩
        show uR (gN I) (k - k) k _ = _
        rw [Nat.sub_self]; rfl
      · rw [strS_stp c0 c1] at h
        cases e : stp I n k with
        | none => rw [e] at h; cases h
        | some v =>
          rw [e] at h
          have hv := stp_rg hk e
          obtain ⟨q1, q2, q3⟩ := ih v.2 (w ++ v.1) r (by omega) h
          refine ⟨by omega, q2, ?_⟩
          rw [uL_app] at q3
          rw [show r.1 - k = (v.2 - k) + (r.1 - v.2) by omega, uR_add, stp_dfa hI hk e, show k + (v.2 - k) = v.2 by omega, q3]
theorem str_dfa (hI : ∀ k, I k < 256) {r : Nat × List UInt8} (h : str I n p = some r) : uR (gN I) (r.1 - p) p 0 = if tw r.2 = true then 0 else 8 := by
  unfold str at h
  split at h
  · rename_i c
    cases e : strS I n (p + 1) [] with
    | none => rw [e] at h; cases h
    | some q =>
      rw [e] at h
      cases h
      obtain ⟨q1, q2, q3⟩ := strS_dfa hI _ _ _ _ (Nat.le_refl _) e
      show uR (gN I) (q.1 + 1 - p) p 0 = if tw q.2 = true then 0 else 8
      rw [show q.1 + 1 - p = 1 + ((q.1 - (p + 1)) + 1) by omega, uR_add, as_run (n := n) 1 p 0 (AS.one c (by decide)) (by omega), if_pos rfl, uR_add]
      have q3' : uR (gN I) (q.1 - (p + 1)) (p + 1) 0 = uL q.2 0 := q3
      rw [q3', show p + 1 + (q.1 - (p + 1)) = q.1 by omega, as_run (n := n) 1 q.1 _ (AS.one q2 (by decide)) (by omega)]
      have := tw_dfa q.2
      by_cases c2 : tw q.2 = true
      · rw [if_pos c2, if_pos (this.mp c2)]
      · rw [if_neg c2, if_neg (fun w => c2 (this.mpr w))]
  · cases h
theorem strX_Z (hI : ∀ k, I k < 256) {r : Nat × List UInt8} (h : strX I n p = some r) : Z8 I p r.1 := by
  obtain ⟨a1, a2, a3, a4, a5⟩ := strX_bd h
  refine ⟨by omega, ?_⟩
  rw [str_dfa hI a4, if_pos a5]
theorem bl_Z (I : Nat → Nat) (n : Nat) : ∀ m k, n - k ≤ m → Z8 I k (bl I n k) := by
  intro m
  induction m with
  | zero => intro k h; rw [bl_eq, lk_ge (by omega), if_neg (by decide)]; exact Z8.as (n := n) AS.nil (Nat.le_refl _)
  | succ m ih =>
    intro k h
    rw [bl_eq]
    split
    · rename_i q
      have : k < n := lk_in (fun e => by rw [e] at q; revert q; decide)
      exact (Z8.one (n := n) (c := lk I n k) rfl (by omega)).tr (ih (k + 1) (by omega))
    · exact Z8.as (n := n) AS.nil (Nat.le_refl _)
theorem bl_Z' (I : Nat → Nat) (n k : Nat) : Z8 I k (bl I n k) := bl_Z I n _ k (Nat.le_refl _)
theorem lit_Z {s : Nat} (hs : ∀ j, j < slen s → sch s j < 128) (h : lit I n p s) : Z8 I p (p + slen s) := Z8.as (n := n) (fun j h1 h2 => by
  have q := h (j - p) (by omega)
  rw [show p + (j - p) = j by omega] at q
  have := hs (j - p) (by omega)
  omega) (Nat.le_add_right _ _)
theorem nsg_as {c : Int} (h : nsg c = true) : 0 ≤ c ∧ c < 128 := by
  unfold nsg dgt at h
  rw [Bool.or_eq_true, decide_eq_true_iff, decide_eq_true_iff] at h
  omega
theorem rns_Z (hI : ∀ k, I k < 256) : Z8 I p (rns I n p) := by
  have hR := Rns.mk (n := n) (p := p) hI
  exact Z8.as (n := n) (fun j h1 h2 => nsg_as (hR.2.2.2.2 j h1 h2)) hR.2.1
variable {S : SC} {d : Nat}
theorem sclS_Z (hI : ∀ k, I k < 256) {f : Nat} {e : Nat × Int64 × List UInt8} (h : sclS S I n f p = some e) : Z8 I p e.1 := by
  have l6 : ∀ j, j < slen 6 → sch 6 j < 128 := by decide +kernel
  have l7 : ∀ j, j < slen 7 → sch 7 j < 128 := by decide +kernel
  unfold sclS at h
  split at h
  · split at h
    · rename_i q
      cases h
      exact lit_Z l6 q
    · split at h
      · rename_i q
        cases h
        exact lit_Z l7 q
      · cases h
  · split at h
    · cases es : strX I n p with
      | none => rw [es] at h; cases h
      | some r => rw [es] at h; cases h; exact strX_Z hI es
    · split at h
      · cases es : strX I n p with
        | none => rw [es] at h; cases h
        | some r =>
          rw [es] at h
          change (unb r.2).map _ = _ at h
          cases eu : unb r.2 with
          | none => rw [eu] at h; cases h
          | some o => rw [eu] at h; cases h; exact strX_Z hI es
      · split at h
        · cases es : strX I n p with
          | none => rw [es] at h; cases h
          | some r =>
            rw [es] at h
            change (vnm S (qk S f - 32) r.2).map _ = _ at h
            cases eu : vnm S (qk S f - 32) r.2 with
            | none => rw [eu] at h; cases h
            | some o => rw [eu] at h; cases h; exact strX_Z hI es
        · split at h
          · cases es : strX I n p with
            | none => rw [es] at h; cases h
            | some r =>
              rw [es] at h
              change (numW (qk S f) r.2).map _ = _ at h
              cases eu : numW (qk S f) r.2 with
              | none => rw [eu] at h; cases h
              | some o => rw [eu] at h; cases h; exact strX_Z hI es
          · cases eu : numW (qk S f) (cut I p (rns I n p)) with
            | none => rw [eu] at h; cases h
            | some o => rw [eu] at h; cases h; exact rns_Z hI
def RZ {d : Nat} (I : Nat → Nat) (sp : Nat → Nat → Option (Nat × TV d)) : Prop := ∀ m p r, sp m p = some r → Z8 I p r.1
variable {sp : Nat → Nat → Option (Nat × TV d)}
theorem valS_Z (hI : ∀ k, I k < 256) (hR : RZ I sp) {f : Nat} {e : Nat × SV d} (h : valS S I n sp f p = some e) : Z8 I p e.1 := by
  unfold valS at h
  split at h
  · cases er : sp (qk S f - 16) p with
    | none => rw [er] at h; cases h
    | some r => rw [er] at h; cases h; exact hR _ _ _ er
  · cases er : sclS S I n f p with
    | none => rw [er] at h; cases h
    | some r => rw [er] at h; cases h; exact sclS_Z hI er
theorem arrL_Z (hI : ∀ k, I k < 256) (hR : RZ I sp) {f : Nat} : ∀ (c p : Nat) (acc : List (SV d)) (e : Nat × List (SV d)), arrL S I n sp f c p acc = some e → Z8 I p e.1
  | 0, p, acc, e, h => by cases h
  | c + 1, p, acc, e, h => by
    rw [arrL] at h
    cases ev : valS S I n sp f (bl I n p) with
    | none => rw [ev] at h; cases h
    | some r =>
      rw [ev] at h
      have z := ((bl_Z' I n p).tr (valS_Z hI hR ev)).tr (bl_Z' I n r.1)
      change (if lk I n (bl I n r.1) = 44 then arrL S I n sp f c (bl I n r.1 + 1) (acc ++ [r.2]) else if lk I n (bl I n r.1) = 93 then some (bl I n r.1 + 1, acc ++ [r.2]) else none) = some e at h
      split at h
      · rename_i q
        exact (z.tr (Z8.one q (by decide))).tr (arrL_Z hI hR c _ _ _ h)
      · split at h
        · rename_i q
          cases h
          exact z.tr (Z8.one q (by decide))
        · cases h
theorem itmS_Z (hI : ∀ k, I k < 256) (hR : RZ I sp) {f : Nat} {e : Nat × List (SV d)} (h : itmS S I n sp f p = some e) : Z8 I p e.1 := by
  unfold itmS at h
  split at h
  · unfold arrS at h
    split at h
    · rename_i q91
      split at h
      · rename_i q
        cases h
        exact ((Z8.one q91 (by decide)).tr (bl_Z' I n (p + 1))).tr (Z8.one q (by decide))
      · exact (Z8.one q91 (by decide)).tr (arrL_Z hI hR _ _ _ _ h)
    · cases h
  · cases ev : valS S I n sp f p with
    | none => rw [ev] at h; cases h
    | some r => rw [ev] at h; cases h; exact valS_Z hI hR ev
theorem memL_Z (hI : ∀ k, I k < 256) (hR : RZ I sp) {m : Nat} : ∀ (c p : Nat) (seen : List Nat) (T : TV (d + 1)) (e : Nat × TV (d + 1)), memL S I n sp m c p seen T = some e → Z8 I p e.1
  | 0, p, seen, T, e, g => by cases g
  | c + 1, p, seen, T, e, g => by
    rw [memL_1] at g
    cases e1 : mem1 S I n sp m p seen T with
    | none => rw [e1] at g; cases g
    | some x =>
      rw [e1] at g
      change (if lk I n (bl I n x.2.1) = 44 then memL S I n sp m c (bl I n x.2.1 + 1) (x.1 :: seen) x.2.2 else if lk I n (bl I n x.2.1) = 125 then some (bl I n x.2.1 + 1, x.2.2) else none) = _ at g
      obtain ⟨r, a1, a2, a3, a4, a5⟩ := mem1_inv e1
      have z0 := ((((bl_Z' I n p).tr (strX_Z hI a1)).tr (bl_Z' I n r.1)).tr (Z8.one a4 (by decide))).tr (bl_Z' I n (bl I n r.1 + 1))
      have zx : Z8 I p x.2.1 := by
        rcases a5 with ⟨b1, b2⟩ | ⟨b1, b2, ss, b3, b4⟩
        · have l5 : ∀ j, j < slen 5 → sch 5 j < 128 := by decide +kernel
          rw [b2]
          exact z0.tr (lit_Z l5 b1)
        · exact z0.tr (itmS_Z hI hR b3)
      have z := zx.tr (bl_Z' I n x.2.1)
      split at g
      · rename_i q
        exact (z.tr (Z8.one q (by decide))).tr (memL_Z hI hR c _ _ _ _ g)
      · split at g
        · rename_i q
          cases g
          exact z.tr (Z8.one q (by decide))
        · cases g
theorem objS_Z (hI : ∀ k, I k < 256) : ∀ d, RZ I (objS S I n d)
  | 0 => fun m p r h => by cases h
  | d + 1 => fun m p r h => by
    rw [objS] at h
    split at h
    · rename_i q
      split at h
      · rename_i q2
        cases h
        exact ((Z8.one q (by decide)).tr (bl_Z' I n (p + 1))).tr (Z8.one q2 (by decide))
      · exact (Z8.one q (by decide)).tr (memL_Z hI (objS_Z hI d) _ _ _ _ _ h)
    · cases h
theorem gN_rg (hI : ∀ k, I k < 256) : ∀ j, j < n → 0 ≤ gN I j ∧ gN I j < 256 := fun j _ => by
  have := hI j
  show 0 ≤ (I j : Int) ∧ (I j : Int) < 256
  omega
/-- texts in a UTF-8 input are UTF-8 -/
theorem txt_TXT (hI : ∀ k, I k < 256) (h : txt (gN I) n 0 = true) : TXT I n := by
  rw [txt_dfa (gN_rg hI) n n 0 (Nat.le_refl _) (Nat.zero_add _)] at h
  intro p r hr
  obtain ⟨-, l2, l3, l4⟩ := str_len hr
  have hs := str_dfa hI hr
  rw [show n = p + ((r.1 - p) + (n - r.1)) by omega, uR_add, uR_add, Nat.zero_add] at h
  have h0 : uR (gN I) p 0 0 = 0 := by
    by_cases c : uR (gN I) p 0 0 = 0
    · exact c
    · exfalso
      have e1 : uR (gN I) (r.1 - p) p (uR (gN I) p 0 0) = 8 := by
        rw [show r.1 - p = 1 + (r.1 - p - 1) by omega, uR_add, as_run (n := n) 1 p _ (AS.one l4 (by decide)) (by omega), if_neg c, uR_8]
      rw [e1, uR_8] at h
      cases h
  rw [h0, hs] at h
  by_cases c : tw r.2 = true
  · exact c
  · rw [if_neg c, uR_8] at h; cases h
/-- an input that is read whole is UTF-8 -/
theorem obj_txt (hI : ∀ k, I k < 256) {d m : Nat} {e : Nat × TV d} (h : objS S I n d m (bl I n 0) = some e) (he : bl I n e.1 = n) : txt (gN I) n 0 = true := by
  rw [txt_dfa (gN_rg hI) n n 0 (Nat.le_refl _) (Nat.zero_add _)]
  have z := ((bl_Z' I n 0).tr (objS_Z hI d _ _ _ h)).tr (bl_Z' I n e.1)
  rw [he] at z
  exact z.2
end D2
