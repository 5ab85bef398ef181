set_option maxRecDepth 100000
/-! TEXTS: whether bytes are UTF-8 -/
def sgm (a : Int) : Nat := if (a < 194) ∨ (224 ≤ a) then (if (a < 224) ∨ (240 ≤ a) then (if (a < 240) ∨ (245 ≤ a) then 0 else 4) else 3) else 2
abbrev ctb (b : Int) : Prop := 128 ≤ b ∧ b < 192
abbrev wrg (a b : Int) : Prop := (a = 224 ∧ b < 160) ∨ (a = 237 ∧ 159 < b) ∨ (a = 240 ∧ b < 144) ∨ (a = 244 ∧ 143 < b)
def sgl (g : Nat → Int) (e k : Nat) : Nat := if g k < 128 then 1 else if sgm (g k) = 0 ∨ e < k + sgm (g k) then 0 else if (∀ i, i < sgm (g k) → 1 ≤ i → ctb (g (k + i))) then (if wrg (g k) (g (k + 1)) then 0 else sgm (g k)) else 0
def txt (g : Nat → Int) (e k : Nat) : Bool := if h : k < e then (if h2 : sgl g e k = 0 then false else txt g e (k + sgl g e k)) else true
termination_by e - k
decreasing_by omega
theorem sgm_le (a : Int) : sgm a ≤ 4 := by
  unfold sgm
  repeat' split
  all_goals omega
theorem sgl_le (g : Nat → Int) (e k : Nat) (hk : k < e) : k + sgl g e k ≤ e := by
  unfold sgl
  repeat' split
  all_goals omega
theorem and192 {x : Int} (h : 0 ≤ x ∧ x < 256) : iAnd x 192 = 128 ↔ ctb x := by
  have q : ∀ k : Fin 256, iAnd ((k.val : Nat) : Int) 192 = 128 ↔ ctb ((k.val : Nat) : Int) := by decide +kernel
  have := q ⟨x.toNat, by omega⟩
  simp only at this
  rw [show ((x.toNat : Nat) : Int) = x by omega] at this
  exact this
theorem wrg_img (x y : Int) (hy : rg y) : (gd (x = 224 → rg y) (if (x = 224) ∧ (y < 160) then (some 1) else (gd (x = 237 → rg y) (if (x = 237) ∧ (159 < y) then (some 1) else (gd (x = 240 → rg y) (if (x = 240) ∧ (y < 144) then (some 1) else (gd (x = 244 → rg y) (if (x = 244) ∧ (¬ (y ≤ 143)) then (some 1) else (some 0)))))))) : Option Int) = some (if wrg x y then 1 else 0) := by
  rw [gd_pos (fun _ => hy), gd_pos (fun _ => hy), gd_pos (fun _ => hy), gd_pos (fun _ => hy)]
  repeat' split
  all_goals first | rfl | omega
/-- a row's bytes by place -/
def wI (w : List UInt8) (k : Nat) : Nat := (w.getD k 0).toNat
theorem wI_lt (w : List UInt8) (k : Nat) : wI w k < 256 := (w.getD k 0).toNat_lt
section TX
variable {σ : ST} {a : Nat} {τ : TT} {I : Nat → Nat} {n : Nat}
theorem row_at_eq (ha : sc σ a = 4) {x : Int} {k : Nat} (hx : x = (k : Int)) (hk : k < 100000000) : row_at a x σ = some (lk (wI (sW σ a)) (sW σ a).length k) := by
  subst hx
  unfold row_at
  rw [gd_pos (by omega), gd_pos (by exact fun _ => ha)]
  by_cases c : k < (sW σ a).length
  · rw [if_neg (by omega), gd_pos ha, gd_pos (by omega), sb_and, lk_lt c]
    unfold rB wI
    rw [Int.toNat_natCast]
  · rw [if_pos (by omega), lk_ge (by omega)]
theorem row_sl_L (ha : sc σ a = 4) (hl : (sW σ a).length < 50000000) {k m : Nat} (y : Int) (hm : m ≤ 4) (hk : k + m ≤ (sW σ a).length) : ∀ (d f i : Nat), m - i ≤ d → d < f → 1 ≤ i → i ≤ m → row_signLength_L90 a (k : Int) y (m : Int) σ f (i : Int) = some (if (∀ j, j < m → i ≤ j → ctb (lk (wI (sW σ a)) (sW σ a).length (k + j))) then Sum.inr () else Sum.inl 0) := by
  intro d
  induction d with
  | zero =>
    intro f i h1 h2 h3 h4
    obtain ⟨f, rfl⟩ : ∃ g, f = g + 1 := ⟨f - 1, by omega⟩
    rw [row_signLength_L90, gd_pos (by omega), gd_pos (by omega), if_pos (by omega), if_pos (fun j q1 q2 => absurd q1 (by omega))]
  | succ d ih =>
    intro f i h1 h2 h3 h4
    obtain ⟨f, rfl⟩ : ∃ g, f = g + 1 := ⟨f - 1, by omega⟩
    by_cases c : i < m
    · have hr := lk_rg (n := (sW σ a).length) (wI_lt (sW σ a)) (k + i)
      have hr2 : lk (wI (sW σ a)) (sW σ a).length (k + i) ≠ -1 := by rw [lk_lt (by omega)]; omega
      rw [row_signLength_L90, gd_pos (by omega), gd_pos (by omega), if_neg (by omega), gd_pos ha, row_at_eq ha (k := k + i) (by omega) (by omega), bind_some']
      have ha2 := and192 (x := lk (wI (sW σ a)) (sW σ a).length (k + i)) (by omega)
      by_cases q : ctb (lk (wI (sW σ a)) (sW σ a).length (k + i))
      · rw [if_pos (ha2.mpr q), show (i : Int) + 1 = ((i + 1 : Nat) : Int) by omega, ih f (i + 1) (by omega) (by omega) (by omega) (by omega)]
        congr 1
        by_cases r : ∀ j, j < m → i + 1 ≤ j → ctb (lk (wI (sW σ a)) (sW σ a).length (k + j))
        · rw [if_pos r, if_pos (fun j q1 q2 => by
            rcases Nat.lt_or_ge i j with e | e
            · exact r j q1 e
            · rw [show j = i by omega]; exact q)]
        · rw [if_neg r, if_neg (fun q => r (fun j q1 q2 => q j q1 (by omega)))]
      · rw [if_neg (fun e => q (ha2.mp e)), if_neg (fun r => q (r i c (Nat.le_refl _)))]
    · rw [row_signLength_L90, gd_pos (by omega), gd_pos (by omega), if_pos (by omega), if_pos (fun j q1 q2 => absurd q1 (by omega))]
theorem row_sl_eq (ha : sc σ a = 4) (hl : (sW σ a).length < 50000000) {k : Nat} (hk : k < (sW σ a).length) : row_signLength a (k : Int) σ = some (sgl (lk (wI (sW σ a)) (sW σ a).length) (sW σ a).length k : Int) := by
  have hr := lk_rg (n := (sW σ a).length) (wI_lt (sW σ a)) k
  have hr2 : lk (wI (sW σ a)) (sW σ a).length k ≠ -1 := by rw [lk_lt (by omega)]; omega
  unfold row_signLength sgl
  rw [gd_pos ha, row_at_eq ha (k := k) rfl (by omega), bind_some', gd_pos (rg_byte hr)]
  by_cases c1 : lk (wI (sW σ a)) (sW σ a).length k < 128
  · rw [if_neg (by omega), if_pos c1]; rfl
  · rw [if_pos (by omega), if_neg c1]
    have e : (if (lk (wI (sW σ a)) (sW σ a).length k < 240) ∨ (245 ≤ lk (wI (sW σ a)) (sW σ a).length k) then (if (lk (wI (sW σ a)) (sW σ a).length k < 224) ∨ (240 ≤ lk (wI (sW σ a)) (sW σ a).length k) then (if (lk (wI (sW σ a)) (sW σ a).length k < 194) ∨ (224 ≤ lk (wI (sW σ a)) (sW σ a).length k) then (some 0) else (some 2)) else (some 3)) else (some 4) : Option Int) = some ((sgm (lk (wI (sW σ a)) (sW σ a).length k) : Nat) : Int) := by
      unfold sgm
      repeat' split
      all_goals first | rfl | omega
    have hm := sgm_le (lk (wI (sW σ a)) (sW σ a).length k)
    rw [e, bind_some', gd_pos (by omega), gd_pos (by omega)]
    by_cases c2 : sgm (lk (wI (sW σ a)) (sW σ a).length k) = 0 ∨ (sW σ a).length < k + sgm (lk (wI (sW σ a)) (sW σ a).length k)
    · rw [if_pos (by omega), if_pos c2]; rfl
    · have h2 : 2 ≤ sgm (lk (wI (sW σ a)) (sW σ a).length k) := by
        revert c2; unfold sgm; repeat' split
        all_goals omega
      rw [if_neg (by omega), if_neg c2]
      have q := row_sl_L ha hl (lk (wI (sW σ a)) (sW σ a).length k) hm (k := k) (by omega) 4 FU 1 (by omega) (FU_gt (by omega)) (by omega) (by omega)
      rw [show ((1 : Nat) : Int) = 1 from rfl] at q
      rw [q, bind_some']
      by_cases c3 : ∀ j, j < sgm (lk (wI (sW σ a)) (sW σ a).length k) → 1 ≤ j → ctb (lk (wI (sW σ a)) (sW σ a).length (k + j))
      · have hr3 := lk_rg (n := (sW σ a).length) (wI_lt (sW σ a)) (k + 1)
        rw [if_pos c3, if_pos c3, elim_r, row_at_eq ha (k := k + 1) (by omega) (by omega), bind_some']
        rw [wrg_img _ _ (rg_byte hr3), bind_some']
        by_cases c4 : wrg (lk (wI (sW σ a)) (sW σ a).length k) (lk (wI (sW σ a)) (sW σ a).length (k + 1))
        · rw [if_pos c4, if_pos c4, gd_pos (by omega), if_neg (by omega)]; rfl
        · rw [if_neg c4, if_neg c4, gd_pos (by omega), if_pos rfl]
      · rw [if_neg c3, if_neg c3, elim_l]; rfl
theorem row_isText_L (ha : sc σ a = 4) (hl : (sW σ a).length < 900000) : ∀ (d f k : Nat), (sW σ a).length - k ≤ d → d < f → k ≤ (sW σ a).length → row_isText_L2 a σ f (k : Int) = some (if txt (lk (wI (sW σ a)) (sW σ a).length) (sW σ a).length k = true then 1 else 0) := by
  intro d
  induction d with
  | zero =>
    intro f k h1 h2 h3
    obtain ⟨f, rfl⟩ : ∃ g, f = g + 1 := ⟨f - 1, by omega⟩
    rw [row_isText_L2, gd_pos ha, gd_pos (by omega), if_pos (by omega), txt, dif_neg (by omega), if_pos rfl]
  | succ d ih =>
    intro f k h1 h2 h3
    obtain ⟨f, rfl⟩ : ∃ g, f = g + 1 := ⟨f - 1, by omega⟩
    by_cases c : k < (sW σ a).length
    · have hs := sgl_le (lk (wI (sW σ a)) (sW σ a).length) _ k c
      rw [row_isText_L2, gd_pos ha, gd_pos (by omega), if_neg (by omega), row_sl_eq ha (by omega) c, bind_some', gd_pos (by omega), txt, dif_pos c]
      by_cases q : sgl (lk (wI (sW σ a)) (sW σ a).length) (sW σ a).length k = 0
      · rw [if_pos (by omega), dif_pos q, if_neg (by decide)]
      · rw [if_neg (by omega), dif_neg q, nm_eq, show (k : Int) + (sgl (lk (wI (sW σ a)) (sW σ a).length) (sW σ a).length k : Int) = ((k + sgl (lk (wI (sW σ a)) (sW σ a).length) (sW σ a).length k : Nat) : Int) by omega]
        exact ih f _ (by omega) (by omega) (by omega)
    · rw [row_isText_L2, gd_pos ha, gd_pos (by omega), if_pos (by omega), txt, dif_neg (by omega), if_pos rfl]
theorem row_isText_eq (ha : sc σ a = 4) (hl : (sW σ a).length < 900000) : row_isText a σ = some (if txt (lk (wI (sW σ a)) (sW σ a).length) (sW σ a).length 0 = true then 1 else 0) :=
  row_isText_L ha hl _ FU 0 (Nat.le_refl _) (FU_gt (by omega)) (Nat.zero_le _)
theorem or64 {v c : Int} (hv : 0 ≤ v ∧ v < 1048576) (hc : ctb c) : iOr (iShl v 6) (iAnd c 63) = v * 64 + (c - 128) := by
  have q : ∀ k : Fin 256, ctb ((k.val : Nat) : Int) → iAnd ((k.val : Nat) : Int) 63 = ((k.val : Nat) : Int) - 128 := by decide +kernel
  have h1 := q ⟨c.toNat, by omega⟩
  simp only at h1
  rw [show ((c.toNat : Nat) : Int) = c by omega] at h1
  rw [h1 hc, iShl_n (a := v.toNat) (k := 6) (by omega) (by omega) (by omega) (by omega), iOr_n (a := v.toNat * 2 ^ 6) (b := (c - 128).toNat) rfl (by omega) (by omega) (by omega)]
  have h2 := Nat.shiftLeft_add_eq_or_of_lt (i := 6) (b := (c - 128).toNat) (by omega) v.toNat
  rw [Nat.shiftLeft_eq] at h2
  rw [← h2]
  omega
theorem hd31 {x : Int} {m : Nat} (h : 128 ≤ x ∧ x < 256) (hm : sgm x = m) (h0 : m ≠ 0) : iAnd x (iShr 255 ((m : Int) + 1)) = x - (if m = 2 then 192 else if m = 3 then 224 else 240) := by
  have q : ∀ k : Fin 256, 128 ≤ k.val → sgm ((k.val : Nat) : Int) ≠ 0 → iAnd ((k.val : Nat) : Int) (iShr 255 ((sgm ((k.val : Nat) : Int) : Int) + 1)) = ((k.val : Nat) : Int) - (if sgm ((k.val : Nat) : Int) = 2 then 192 else if sgm ((k.val : Nat) : Int) = 3 then 224 else 240) := by decide +kernel
  have h1 := q ⟨x.toNat, by omega⟩
  simp only at h1
  rw [show ((x.toNat : Nat) : Int) = x by omega, hm] at h1
  exact h1 (by omega) h0
theorem mt_step (h : TIn τ I n) {k m e : Nat} (hm : m ≤ 4) (hk : k + m ≤ e) (he : e ≤ n) {v : Int} {f i : Nat} (hi : i < m) (hv : 0 ≤ v ∧ v < 1048576) : m_isText_L133 2 (e : Int) (k : Int) (m : Int) τ (f + 1) v (i : Int) = if ctb (I (k + i) : Int) then m_isText_L133 2 (e : Int) (k : Int) (m : Int) τ f (v * 64 + ((I (k + i) : Int) - 128)) ((i + 1 : Nat) : Int) else some (Sum.inl 0) := by
  have hn := h.2.1
  have hI := h.2.2.2 (k + i)
  rw [m_isText_L133, gd_pos (by omega), gd_pos (by omega), if_neg (by omega), gd_pos (by show 0 ≤ _ ∧ _ < ((1000 : Nat) : Int); omega), show ((k : Int) + (i : Int)).toNat = k + i by omega, h.2.2.1 (k + i) (by omega)]
  unfold m_isTail
  have ha := and192 (x := (I (k + i) : Int)) (by omega)
  by_cases c : ctb (I (k + i) : Int)
  · rw [if_pos (ha.mpr c), bind_some', gd_pos (by omega), if_neg (by omega), nm_eq, or64 hv c, if_pos c]
    rfl
  · rw [if_neg (fun q => c (ha.mp q)), bind_some', gd_pos (by omega), if_pos rfl, if_neg c]
theorem mt_end {k m e : Nat} (hm : m ≤ 4) {v : Int} {f : Nat} : m_isText_L133 2 (e : Int) (k : Int) (m : Int) τ (f + 1) v (m : Int) = some (Sum.inr v) := by
  rw [m_isText_L133, gd_pos (by omega), gd_pos (by omega), if_pos (by omega)]
theorem FU_s (j : Nat) (h : j ≤ 100) : FU = (FU - j - 1) + 1 + j := by
  show (1000000 : Nat) = (1000000 - j - 1) + 1 + j
  omega
theorem sgl_0 {g : Nat → Int} {e k : Nat} (h1 : ¬ g k < 128) (h2 : sgm (g k) = 0 ∨ e < k + sgm (g k)) : sgl g e k = 0 := by
  unfold sgl
  rw [if_neg h1, if_pos h2]
theorem sgl_c {g : Nat → Int} {e k j : Nat} (h1 : ¬ g k < 128) (hj : j < sgm (g k)) (h0 : 1 ≤ j) (h3 : ¬ ctb (g (k + j))) : sgl g e k = 0 := by
  unfold sgl
  rw [if_neg h1]
  split
  · rfl
  · rw [if_neg (fun q => h3 (q j hj h0))]
theorem sgl_w {g : Nat → Int} {e k : Nat} (h1 : ¬ g k < 128) (h4 : wrg (g k) (g (k + 1))) : sgl g e k = 0 := by
  unfold sgl
  rw [if_neg h1]
  repeat' split
  all_goals first | rfl | contradiction
theorem sgl_v {g : Nat → Int} {e k m : Nat} (h1 : ¬ g k < 128) (hm : sgm (g k) = m) (h0 : m ≠ 0) (he : k + m ≤ e) (h3 : ∀ j, j < m → 1 ≤ j → ctb (g (k + j))) (h4 : ¬ wrg (g k) (g (k + 1))) : sgl g e k = m := by
  unfold sgl
  rw [if_neg h1, hm, if_neg (by omega), if_pos h3, if_neg h4]
/-- one sign, as the reference looks at it -/
theorem m_sign1 (h : TIn τ I n) {k e : Nat} (hk : k < e) (he : e ≤ n) {f : Nat} : m_isText_L3 2 (e : Int) τ (f + 1) (k : Int) = if sgl (fun j => (I j : Int)) e k = 0 then some 0 else m_isText_L3 2 (e : Int) τ f ((k + sgl (fun j => (I j : Int)) e k : Nat) : Int) := by
  have hn := h.2.1
  have hI := h.2.2.2 k
  have i1 := h.2.2.2 (k + 1)
  have i2 := h.2.2.2 (k + 2)
  have i3 := h.2.2.2 (k + 3)
  rw [m_isText_L3, gd_pos (by omega), gd_pos (by omega), if_neg (by omega), gd_pos (by show 0 ≤ _ ∧ _ < ((1000 : Nat) : Int); omega), nm_eq, Int.toNat_natCast, h.2.2.1 k (by omega), gd_pos (by omega)]
  by_cases c1 : (I k : Int) < 128
  · have hv : sgl (fun j => (I j : Int)) e k = 1 := by unfold sgl; rw [if_pos c1]
    rw [hv, if_neg (show ¬ 128 ≤ (I k : Int) by omega), bind_some', gd_pos (by omega), gd_pos (by omega), if_neg (show ¬ (((1 : Int) = 0) ∨ ¬ ((k : Int) + 1 ≤ (e : Int))) by omega), if_pos (show (1 : Int) = 1 from rfl), bind_some']
    have q := mt_end (τ := τ) (k := k) (m := 1) (e := e) (by omega) (v := (I k : Int)) (f := FU - 1)
    rw [show ((1 : Nat) : Int) = 1 from rfl, show FU - 1 + 1 = FU from rfl] at q
    rw [q, bind_some', elim_r, if_neg (show ¬ (1 : Int) = 3 by omega), bind_some', elim_r, if_neg (show ¬ (1 : Int) = 4 by omega), bind_some', elim_r, nm_eq, if_neg (show ¬ 1 = 0 by omega)]
    rfl
  · rw [if_pos (show 128 ≤ (I k : Int) by omega)]
    have e1 : (if ((I k : Int) < 194) ∨ (224 ≤ (I k : Int)) then (if ((I k : Int) < 224) ∨ (240 ≤ (I k : Int)) then (if ((I k : Int) < 240) ∨ (245 ≤ (I k : Int)) then (some 0) else (some 4)) else (some 3)) else (some 2) : Option Int) = some ((sgm (I k : Int) : Nat) : Int) := by
      unfold sgm
      repeat' split
      all_goals rfl
    have hm := sgm_le (I k : Int)
    rw [e1, bind_some', gd_pos (by omega), gd_pos (by omega)]
    by_cases c2 : sgm (I k : Int) = 0 ∨ e < k + sgm (I k : Int)
    · rw [if_pos (show (((sgm (I k : Int) : Nat) : Int) = 0) ∨ ¬ ((k : Int) + ((sgm (I k : Int) : Nat) : Int) ≤ (e : Int)) by omega), sgl_0 (g := fun j => (I j : Int)) c1 c2, if_pos (show 0 = 0 from rfl)]
    · have hcase : (sgm (I k : Int) = 2 ∧ 194 ≤ I k ∧ I k < 224) ∨ (sgm (I k : Int) = 3 ∧ 224 ≤ I k ∧ I k < 240) ∨ (sgm (I k : Int) = 4 ∧ 240 ≤ I k ∧ I k < 245) := by
        revert c2; unfold sgm; repeat' split
        all_goals omega
      rw [if_neg (show ¬ ((((sgm (I k : Int) : Nat) : Int) = 0) ∨ ¬ ((k : Int) + ((sgm (I k : Int) : Nat) : Int) ≤ (e : Int))) by omega), if_neg (show ¬ ((sgm (I k : Int) : Nat) : Int) = 1 by omega), bind_some', hd31 (by omega) rfl (by omega)]
      rcases hcase with ⟨em, l1, l2⟩ | ⟨em, l1, l2⟩ | ⟨em, l1, l2⟩
      · rw [em, if_pos (show 2 = 2 from rfl), FU_s 1 (by omega)]
        have s1 := mt_step h (k := k) (m := 2) (e := e) (by omega) (by omega) he (v := (I k : Int) - 192) (f := FU - 1 - 1 + 1) (i := 1) (by omega) (by omega)
        rw [show ((1 : Nat) : Int) = 1 from rfl] at s1
        rw [s1]
        by_cases d1 : ctb (I (k + 1) : Int)
        · have hv : sgl (fun j => (I j : Int)) e k = 2 := sgl_v (g := fun j => (I j : Int)) c1 em (by omega) (by omega) (fun j q1 q2 => by rw [show j = 1 by omega]; exact d1) (by show ¬ wrg (I k : Int) (I (k + 1) : Int); omega)
          rw [hv, if_pos d1, mt_end (by omega), bind_some', elim_r, if_neg (show ¬ ((2 : Nat) : Int) = 3 by omega), bind_some', elim_r, if_neg (show ¬ ((2 : Nat) : Int) = 4 by omega), bind_some', elim_r, nm_eq, if_neg (show ¬ 2 = 0 by omega)]
          rfl
        · rw [if_neg d1, bind_some', elim_l, sgl_c (g := fun j => (I j : Int)) (j := 1) c1 (by rw [em]; omega) (by omega) d1, if_pos rfl]
      · rw [em, if_neg (show ¬ 3 = 2 by omega), if_pos (show 3 = 3 from rfl), FU_s 2 (by omega)]
        have s1 := mt_step h (k := k) (m := 3) (e := e) (by omega) (by omega) he (v := (I k : Int) - 224) (f := FU - 2 - 1 + 1 + 1) (i := 1) (by omega) (by omega)
        rw [show ((1 : Nat) : Int) = 1 from rfl] at s1
        rw [s1]
        by_cases d1 : ctb (I (k + 1) : Int)
        · have s2 := mt_step h (k := k) (m := 3) (e := e) (by omega) (by omega) he (v := ((I k : Int) - 224) * 64 + ((I (k + 1) : Int) - 128)) (f := FU - 2 - 1 + 1) (i := 2) (by omega) (by omega)
          rw [if_pos d1, s2]
          by_cases d2 : ctb (I (k + 2) : Int)
          · rw [if_pos d2, mt_end (by omega), bind_some', elim_r, if_pos (show ((3 : Nat) : Int) = 3 from rfl), gd_pos (by omega)]
            by_cases d3 : wrg (I k : Int) (I (k + 1) : Int)
            · rw [sgl_w (g := fun j => (I j : Int)) c1 d3, if_pos (show 0 = 0 from rfl)]
              by_cases d4 : (((I k : Int) - 224) * 64 + ((I (k + 1) : Int) - 128)) * 64 + ((I (k + 2) : Int) - 128) < 2048
              · rw [if_pos d4, bind_some', elim_l]
              · rw [if_neg d4, if_neg (by omega), bind_some', elim_l]
            · have hv : sgl (fun j => (I j : Int)) e k = 3 := sgl_v (g := fun j => (I j : Int)) c1 em (by omega) (by omega) (fun j q1 q2 => by
                rcases (show j = 1 ∨ j = 2 by omega) with r | r <;> rw [r] <;> assumption) d3
              rw [hv, if_neg (show ¬ (((I k : Int) - 224) * 64 + ((I (k + 1) : Int) - 128)) * 64 + ((I (k + 2) : Int) - 128) < 2048 by omega), if_pos (by omega), bind_some', elim_r, if_neg (show ¬ ((3 : Nat) : Int) = 4 by omega), bind_some', elim_r, nm_eq, if_neg (show ¬ 3 = 0 by omega)]
              rfl
          · rw [if_neg d2, bind_some', elim_l, sgl_c (g := fun j => (I j : Int)) (j := 2) c1 (by rw [em]; omega) (by omega) d2, if_pos rfl]
        · rw [if_neg d1, bind_some', elim_l, sgl_c (g := fun j => (I j : Int)) (j := 1) c1 (by rw [em]; omega) (by omega) d1, if_pos rfl]
      · rw [em, if_neg (show ¬ 4 = 2 by omega), if_neg (show ¬ 4 = 3 by omega), FU_s 3 (by omega)]
        have s1 := mt_step h (k := k) (m := 4) (e := e) (by omega) (by omega) he (v := (I k : Int) - 240) (f := FU - 3 - 1 + 1 + 2) (i := 1) (by omega) (by omega)
        rw [show ((1 : Nat) : Int) = 1 from rfl] at s1
        rw [s1]
        by_cases d1 : ctb (I (k + 1) : Int)
        · have s2 := mt_step h (k := k) (m := 4) (e := e) (by omega) (by omega) he (v := ((I k : Int) - 240) * 64 + ((I (k + 1) : Int) - 128)) (f := FU - 3 - 1 + 1 + 1) (i := 2) (by omega) (by omega)
          rw [if_pos d1, s2]
          by_cases d2 : ctb (I (k + 2) : Int)
          · have s3 := mt_step h (k := k) (m := 4) (e := e) (by omega) (by omega) he (v := (((I k : Int) - 240) * 64 + ((I (k + 1) : Int) - 128)) * 64 + ((I (k + 2) : Int) - 128)) (f := FU - 3 - 1 + 1) (i := 3) (by omega) (by omega)
            rw [if_pos d2, s3]
            by_cases d3 : ctb (I (k + 3) : Int)
            · rw [if_pos d3, mt_end (by omega), bind_some', elim_r, if_neg (show ¬ ((4 : Nat) : Int) = 3 by omega), bind_some', elim_r, if_pos (show ((4 : Nat) : Int) = 4 from rfl), gd_pos (by omega)]
              by_cases d4 : wrg (I k : Int) (I (k + 1) : Int)
              · rw [sgl_w (g := fun j => (I j : Int)) c1 d4, if_pos (show 0 = 0 from rfl), if_pos (by omega), bind_some', elim_l]
              · have hv : sgl (fun j => (I j : Int)) e k = 4 := sgl_v (g := fun j => (I j : Int)) c1 em (by omega) (by omega) (fun j q1 q2 => by
                  rcases (show j = 1 ∨ j = 2 ∨ j = 3 by omega) with r | r | r <;> rw [r] <;> assumption) d4
                rw [hv, if_neg (show ¬ 4 = 0 by omega), if_neg (by omega), bind_some', elim_r, nm_eq]
                rfl
            · rw [if_neg d3, bind_some', elim_l, sgl_c (g := fun j => (I j : Int)) (j := 3) c1 (by rw [em]; omega) (by omega) d3, if_pos rfl]
          · rw [if_neg d2, bind_some', elim_l, sgl_c (g := fun j => (I j : Int)) (j := 2) c1 (by rw [em]; omega) (by omega) d2, if_pos rfl]
        · rw [if_neg d1, bind_some', elim_l, sgl_c (g := fun j => (I j : Int)) (j := 1) c1 (by rw [em]; omega) (by omega) d1, if_pos rfl]
theorem m_isText_L (h : TIn τ I n) {e : Nat} (he : e ≤ n) : ∀ (d f k : Nat), e - k ≤ d → d < f → k ≤ e → m_isText_L3 2 (e : Int) τ f (k : Int) = some (if txt (fun j => (I j : Int)) e k = true then 1 else 0) := by
  intro d
  have hn := h.2.1
  induction d with
  | zero =>
    intro f k h1 h2 h3
    obtain ⟨f, rfl⟩ : ∃ g, f = g + 1 := ⟨f - 1, by omega⟩
    rw [m_isText_L3, gd_pos (by omega), gd_pos (by omega), if_pos (by omega), txt, dif_neg (by omega), if_pos rfl]
  | succ d ih =>
    intro f k h1 h2 h3
    obtain ⟨f, rfl⟩ : ∃ g, f = g + 1 := ⟨f - 1, by omega⟩
    by_cases c : k < e
    · have hs := sgl_le (fun j => (I j : Int)) e k c
      rw [m_sign1 h c he, txt, dif_pos c]
      by_cases q : sgl (fun j => (I j : Int)) e k = 0
      · rw [if_pos q, dif_pos q, if_neg (by decide)]
      · rw [if_neg q, dif_neg q]
        exact ih f _ (by omega) (by omega) hs
    · rw [m_isText_L3, gd_pos (by omega), gd_pos (by omega), if_pos (by omega), txt, dif_neg (by omega), if_pos rfl]
theorem m_isText_eq (h : TIn τ I n) {x y : Int} {k e : Nat} (hx : x = (k : Int)) (hy : y = (e : Int)) (hk : k ≤ e) (he : e ≤ n) : m_isText 2 x y τ = some (if txt (fun j => (I j : Int)) e k = true then 1 else 0) := by
  subst hx hy
  have hn := h.2.1
  exact m_isText_L h he _ FU k (Nat.le_refl _) (FU_gt (by omega)) hk
end TX
