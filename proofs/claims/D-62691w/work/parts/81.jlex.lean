set_option maxRecDepth 100000
/-! JSON, its letters: what both sides compute, over the input's bytes I and their number n -/
def lk (I : Nat → Nat) (n k : Nat) : Int := if k < n then (I k : Int) else -1
abbrev isB (c : Int) : Prop := ((c = 32 ∨ c = 9) ∨ c = 10) ∨ c = 13
def blk (I : Nat → Nat) (n : Nat) : Nat → Nat → Nat
  | 0, k => k
  | m + 1, k => if isB (lk I n k) then blk I n m (k + 1) else k
def bl (I : Nat → Nat) (n k : Nat) : Nat := blk I n (n - k) k
section Lk
variable {I : Nat → Nat} {n k : Nat}
theorem lk_lt (h : k < n) : lk I n k = (I k : Int) := if_pos h
theorem lk_ge (h : n ≤ k) : lk I n k = -1 := if_neg (by omega)
theorem lk_rg (hI : ∀ k, I k < 256) (k : Nat) : -1 ≤ lk I n k ∧ lk I n k < 256 := by
  unfold lk
  have := hI k
  split <;> omega
theorem lk_in (h : lk I n k ≠ -1) : k < n := by
  unfold lk at h
  split at h
  · assumption
  · exact absurd rfl h
theorem bl_eq (I : Nat → Nat) (n k : Nat) : bl I n k = if isB (lk I n k) then bl I n (k + 1) else k := by
  unfold bl
  by_cases h : k < n
  · rw [show n - k = (n - (k + 1)) + 1 by omega]; rfl
  · rw [show n - k = 0 by omega, lk_ge (by omega), if_neg (by decide)]; rfl
theorem bl_ge (I : Nat → Nat) (n : Nat) : ∀ m k, n - k ≤ m → k ≤ bl I n k := by
  intro m
  induction m with
  | zero => intro k h; rw [bl_eq, lk_ge (by omega), if_neg (by decide)]; exact Nat.le_refl _
  | succ m ih =>
    intro k h
    rw [bl_eq]
    split
    · exact Nat.le_trans (Nat.le_succ _) (ih (k + 1) (by omega))
    · exact Nat.le_refl _
theorem bl_ge' (I : Nat → Nat) (n k : Nat) : k ≤ bl I n k := bl_ge I n _ k (Nat.le_refl _)
theorem bl_le (I : Nat → Nat) (n : Nat) : ∀ m k, n - k ≤ m → bl I n k ≤ max k n := by
  intro m
  induction m with
  | zero => intro k h; rw [bl_eq, lk_ge (by omega), if_neg (by decide)]; omega
  | succ m ih =>
    intro k h
    rw [bl_eq]
    split
    · rename_i q
      have : k < n := lk_in (fun e => by rw [e] at q; revert q; decide)
      have := ih (k + 1) (by omega)
      omega
    · omega
theorem bl_le' (I : Nat → Nat) (n k : Nat) : bl I n k ≤ max k n := bl_le I n _ k (Nat.le_refl _)
theorem bl_nb (I : Nat → Nat) (n : Nat) : ∀ m k, n - k ≤ m → ¬ isB (lk I n (bl I n k)) := by
  intro m
  induction m with
  | zero =>
    intro k h
    have e : bl I n k = k := by rw [bl_eq, lk_ge (by omega), if_neg (by decide)]
    rw [e, lk_ge (by omega)]; decide
  | succ m ih =>
    intro k h
    rw [bl_eq]
    split
    · exact ih (k + 1) (by omega)
    · assumption
theorem bl_bl (I : Nat → Nat) (n k : Nat) : bl I n (bl I n k) = bl I n k := by
  rw [bl_eq, if_neg (bl_nb I n _ k (Nat.le_refl _))]
end Lk
/-- the reference's input -/
def TIn (τ : TT) (I : Nat → Nat) (n : Nat) : Prop := tI τ 5 = (n : Int) ∧ n ≤ 1000 ∧ (∀ k, k < n → tA τ 2 k = (I k : Int)) ∧ ∀ k, I k < 256
/-- the system's reader of JSON -/
def JRd (σ : ST) (a b ra wa : Nat) (I : Nat → Nat) (n p : Nat) : Prop := sc σ a = 14 ∧ sR σ 208 a = some b ∧ sc σ b = 101 ∧ sN σ b = 1000 ∧ (∀ k, k < n → (sB σ b k).toNat = I k) ∧ n ≤ 1000 ∧ sI σ 209 a = (n : Int) ∧ sI σ 210 a = (p : Int) ∧ p ≤ 1001 ∧ sR σ 211 a = some ra ∧ RW σ ra ∧ sR σ 212 a = some wa ∧ sc σ wa = 15 ∧ a < sZ σ ∧ b < sZ σ ∧ ra < sZ σ ∧ wa < sZ σ
section JL
variable {I : Nat → Nat} {n k p : Nat} {τ : TT} {σ : ST} {a b ra wa : Nat}
theorem m_look_eq (h : TIn τ I n) {w : Int} (hw : w = (p : Int)) (hp : p < 100000) : m_look w τ = some (lk I n p) := by
  obtain ⟨h5, hn, hI, hb⟩ := h
  subst hw
  unfold m_look
  rw [h5, gd_pos (by omega), gd_pos (by omega)]
  by_cases c : p < n
  · rw [if_neg (by omega), gd_pos (by omega), lk_lt c, Int.toNat_natCast, hI p c]
  · rw [if_pos (by omega), lk_ge (by omega)]
theorem m_blanks_L (h : TIn τ I n) : ∀ (m f k : Nat), n - k ≤ m → m < f → k ≤ 5000 → m_blanks_L2 τ f (k : Int) = some ((bl I n k : Nat) : Int) := by
  intro m
  induction m with
  | zero =>
    intro f k h1 h2 hk
    obtain ⟨f, rfl⟩ : ∃ g, f = g + 1 := ⟨f - 1, by omega⟩
    have hn := h.2.1
    rw [bl_eq, lk_ge (by omega), if_neg (by decide), m_blanks_L2, h.1, gd_pos (by omega), gd_pos (by omega), if_pos (by omega)]
  | succ m ih =>
    intro f k h1 h2 hk
    obtain ⟨f, rfl⟩ : ∃ g, f = g + 1 := ⟨f - 1, by omega⟩
    have hn := h.2.1
    by_cases c : k < n
    · have hb := h.2.2.2 k
      rw [m_blanks_L2, h.1, gd_pos (by omega), gd_pos (by omega), if_neg (by omega), gd_pos (by omega), Int.toNat_natCast, h.2.2.1 k c, gd_pos (by omega), bl_eq, lk_lt c]
      by_cases q : isB ((I k : Nat) : Int)
      · rw [if_pos q, if_pos q, show (k : Int) + 1 = ((k + 1 : Nat) : Int) by omega]
        exact ih f (k + 1) (by omega) (by omega) (by omega)
      · rw [if_neg q, if_neg q]
    · rw [bl_eq, lk_ge (by omega), if_neg (by decide), m_blanks_L2, h.1, gd_pos (by omega), gd_pos (by omega), if_pos (by omega)]
theorem FU_gt {m : Nat} (h : m < 1000000) : m < FU := h
theorem m_blanks_eq (h : TIn τ I n) {w : Int} (hw : w = (p : Int)) (hp : p ≤ 5000) : m_blanks w τ = some ((bl I n p : Nat) : Int) := by
  subst hw
  have hn := h.2.1
  exact m_blanks_L h _ _ p (Nat.le_refl _) (FU_gt (by omega)) hp
theorem JRd.look (h : JRd σ a b ra wa I n p) : jr_look a σ = some (lk I n p) := by
  obtain ⟨h1, h2, h3, h4, h5, h6, h7, h8, h9, -⟩ := h
  unfold jr_look
  rw [gd_pos h1, h7, h8, gd_pos (by omega), gd_pos (by omega)]
  by_cases c : p < n
  · rw [if_neg (by omega), h2, bind_some', gd_pos h3, gd_pos (by rw [h4]; omega), sb_and, Int.toNat_natCast, h5 p c, lk_lt c]
  · rw [if_pos (by omega), lk_ge (by omega)]
theorem JRd.rgI (h : JRd σ a b ra wa I n p) : -1 ≤ lk I n p ∧ lk I n p < 256 := by
  obtain ⟨h1, h2, h3, h4, h5, h6, h7, h8, h9, -⟩ := h
  by_cases c : p < n
  · rw [lk_lt c, ← h5 p c]
    have := (sB σ b p).toNat_lt
    omega
  · rw [lk_ge (by omega)]; omega
theorem JRd.to (h : JRd σ a b ra wa I n p) {q : Nat} (hq : q ≤ 1001) {v : Int} (hv : v = (q : Int)) : JRd (pI σ 210 a v) a b ra wa I n q := by
  obtain ⟨h1, h2, h3, h4, h5, h6, h7, h8, h9, h10, h11, h12⟩ := h
  refine ⟨h1, h2, h3, h4, h5, h6, ?_, ?_, hq, h10, h11, h12⟩
  · rw [sI_pI, if_neg (by omega)]; exact h7
  · rw [sI_pI, if_pos ⟨rfl, rfl⟩]; exact hv
theorem up_up2 {A : Type} (f : Nat → Nat → A) (k a : Nat) (v w : A) : up (up f k (up (f k) a v)) k (up (up f k (up (f k) a v) k) a w) = up f k (up (f k) a w) := by
  funext j b
  unfold up
  by_cases h : j = k
  · by_cases h2 : b = a <;> simp [h, h2]
  · simp [h]
theorem up_self2 {A : Type} (f : Nat → Nat → A) (k a : Nat) : up f k (up (f k) a (f k a)) = f := by
  funext j b
  unfold up
  by_cases h : j = k
  · by_cases h2 : b = a <;> simp [h, h2]
  · simp [h]
theorem pI_pI (σ : ST) (k a : Nat) (v w : Int) : pI (pI σ k a v) k a w = pI σ k a w := by
  show (sc σ, up (up (sI σ) k (up (sI σ k) a v)) k (up (up (sI σ) k (up (sI σ k) a v) k) a w), sJ σ, sR σ, sW σ, sA σ, sN σ, sB σ, sE σ, sF σ, sH σ, sZ σ, sC σ, sS σ) = _
  rw [up_up2]
  rfl
theorem pI_self (σ : ST) (k a : Nat) {v : Int} (h : sI σ k a = v) : pI σ k a v = σ := by
  subst h
  show (sc σ, up (sI σ) k (up (sI σ k) a (sI σ k a)), sJ σ, sR σ, sW σ, sA σ, sN σ, sB σ, sE σ, sF σ, sH σ, sZ σ, sC σ, sS σ) = _
  rw [up_self2]
  rfl
theorem jr_blanks_L (bb : Nat × Nat) (h : JRd σ a b ra wa I n p) : ∀ (m f k : Nat), n - k ≤ m → m < f → k ≤ 1001 → jr_blanks_L0 bb a f (pI σ 210 a (k : Int)) = some (pI σ 210 a ((bl I n k : Nat) : Int)) := by
  intro m
  induction m with
  | zero =>
    intro f k h1 h2 hk
    obtain ⟨f, rfl⟩ : ∃ g, f = g + 1 := ⟨f - 1, by omega⟩
    have hJ := h.to hk rfl
    have hx := hJ.rgI
    rw [bl_eq, jr_blanks_L0, gd_pos hJ.1, hJ.look, lk_ge (by omega), bind_some', if_neg (by decide)]
    rfl
  | succ m ih =>
    intro f k h1 h2 hk
    obtain ⟨f, rfl⟩ : ∃ g, f = g + 1 := ⟨f - 1, by omega⟩
    have hJ := h.to hk rfl
    have hx := hJ.rgI
    have hn := h.2.2.2.2.2.1
    rw [bl_eq, jr_blanks_L0, gd_pos hJ.1, hJ.look, bind_some', gd_pos (by omega), gd_pos (by exact fun _ => rfl), gd_pos (by exact fun _ => by rw [vv_s]; omega), gd_pos (by exact fun _ => rfl), gd_pos (by exact fun _ => by rw [vv_s]; omega), gd_pos (by exact fun _ => rfl), gd_pos (by exact fun _ => by rw [vv_s]; omega)]
    rw [vv_s]
    by_cases q : isB (lk I n k)
    · have hkn : k < n := lk_in (fun e => by rw [e] at q; revert q; decide)
      rw [if_pos q, if_pos q, nm_eq, hJ.2.2.2.2.2.2.2.1, pI_pI, show (k : Int) + 1 = ((k + 1 : Nat) : Int) by omega]
      exact ih f (k + 1) (by omega) (by omega) (by omega)
    · rw [if_neg q, if_neg q]
theorem JRd.blanks (bb : Nat × Nat) (h : JRd σ a b ra wa I n p) : jr_blanks bb a σ = some (pI σ 210 a ((bl I n p : Nat) : Int)) := by
  have hn := h.2.2.2.2.2.1
  have hp := h.2.2.2.2.2.2.2.2.1
  have q := jr_blanks_L bb h _ FU p (Nat.le_refl _) (FU_gt (by omega)) hp
  rw [pI_self σ 210 a h.2.2.2.2.2.2.2.1] at q
  exact q
theorem JRd.atbl (h : JRd σ a b ra wa I n p) : JRd (pI σ 210 a ((bl I n p : Nat) : Int)) a b ra wa I n (bl I n p) := h.to (by have := bl_le' I n p; have := h.2.2.2.2.2.1; have := h.2.2.2.2.2.2.2.2.1; omega) rfl
end JL
