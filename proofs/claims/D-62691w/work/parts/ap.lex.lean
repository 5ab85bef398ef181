set_option maxRecDepth 100000
/-! SCHEMAS, READ: tokens -/
def lch (c : Int) : Bool := decide ((97 ≤ c ∧ c ≤ 122) ∨ (65 ≤ c ∧ c ≤ 90))
def dch (c : Int) : Bool := decide (48 ≤ c ∧ c ≤ 57)
def wch (c : Int) : Bool := lch c || dch c || decide (c = 95)
def bch (c : Int) : Bool := decide (c = 32 ∨ c = 10)
def sgc (c : Int) : Bool := decide (c = 61 ∨ c = 59 ∨ c = 123 ∨ c = 125 ∨ c = 46 ∨ c = 44 ∨ c = 34)
/-- the end of a run of bytes -/
def rnE (P : Int → Bool) (I : Nat → Nat) (n : Nat) : Nat → Nat → Nat
  | 0, p => p
  | c + 1, p => if P (lk I n p) = true then rnE P I n c (p + 1) else p
def rnF (P : Int → Bool) (I : Nat → Nat) (n p : Nat) : Nat := rnE P I n (n - p) p
/-- a token: its kind (0 end, 1 word, 2 number, 3 sign, 4 none of them), where it begins and ends -/
def tkA (I : Nat → Nat) (n s : Nat) : Nat × Nat := if lch (lk I n s) = true then (if rnF wch I n (s + 1) - s ≤ 24 then 1 else 4, rnF wch I n (s + 1)) else if dch (lk I n s) = true then (if rnF dch I n (s + 1) - s ≤ 9 then 2 else 4, rnF dch I n (s + 1)) else (if sgc (lk I n s) = true then 3 else 4, s + 1)
def tkT (I : Nat → Nat) (n p : Nat) : Nat × Nat × Nat := if n ≤ rnF bch I n p then (0, rnF bch I n p, rnF bch I n p) else ((tkA I n (rnF bch I n p)).1, rnF bch I n p, (tkA I n (rnF bch I n p)).2)
/-- where the k-th token is looked for -/
def tkP (I : Nat → Nat) (n : Nat) : Nat → Nat
  | 0 => 0
  | k + 1 => (tkT I n (tkP I n k)).2.2
def tkn (I : Nat → Nat) (n k : Nat) : Nat × Nat × Nat := tkT I n (tkP I n k)
section Lx
variable {P : Int → Bool} {I : Nat → Nat} {n p s : Nat} {τ τ' : TT}
theorem rnE_ge (P : Int → Bool) (I : Nat → Nat) (n : Nat) : ∀ c p, p ≤ rnE P I n c p ∧ rnE P I n c p ≤ p + c
  | 0, p => ⟨Nat.le_refl _, Nat.le_refl _⟩
  | c + 1, p => by
    rw [rnE]
    have := rnE_ge P I n c (p + 1)
    split <;> omega
theorem rnF_ge (P : Int → Bool) (I : Nat → Nat) (n p : Nat) : p ≤ rnF P I n p := (rnE_ge P I n _ p).1
theorem rnF_le (P : Int → Bool) (I : Nat → Nat) {n p : Nat} (h : p ≤ n) : rnF P I n p ≤ n := by
  have := (rnE_ge P I n (n - p) p).2
  unfold rnF; omega
theorem rnF_s (h : p < n) (h2 : P (lk I n p) = true) : rnF P I n p = rnF P I n (p + 1) := by
  unfold rnF
  rw [show n - p = (n - (p + 1)) + 1 by omega, rnE, if_pos h2]
theorem rnF_n (h2 : P (lk I n p) ≠ true) : rnF P I n p = p := by
  unfold rnF
  cases n - p with
  | zero => rfl
  | succ c => rw [rnE, if_neg h2]
theorem rnF_end (h : n ≤ p) : rnF P I n p = p := by unfold rnF; rw [show n - p = 0 by omega]; rfl
theorem rnF_st (P : Int → Bool) (I : Nat → Nat) (n : Nat) : ∀ (c p : Nat), n - p ≤ c → rnF P I n p < n → P (lk I n (rnF P I n p)) ≠ true
  | 0, p, h, h2 => by rw [rnF_end (by omega)] at h2; omega
  | c + 1, p, h, h2 => by
    by_cases hp : n ≤ p
    · rw [rnF_end hp] at h2; omega
    · by_cases q : P (lk I n p) = true
      · rw [rnF_s (by omega) q] at h2 ⊢
        exact rnF_st P I n c (p + 1) (by omega) h2
      · rw [rnF_n q]; exact q
theorem tkA_bd (h : s < n) : s < (tkA I n s).2 ∧ (tkA I n s).2 ≤ n := by
  have a1 := rnF_ge wch I n (s + 1)
  have a2 := rnF_le wch I (n := n) (p := s + 1) (by omega)
  have b1 := rnF_ge dch I n (s + 1)
  have b2 := rnF_le dch I (n := n) (p := s + 1) (by omega)
  unfold tkA
  split
  · exact ⟨by show s < rnF wch I n (s + 1); omega, a2⟩
  · split
    · exact ⟨by show s < rnF dch I n (s + 1); omega, b2⟩
    · exact ⟨by show s < s + 1; omega, by show s + 1 ≤ n; omega⟩
theorem tkT_bd (h : p ≤ n) : p ≤ (tkT I n p).2.1 ∧ (tkT I n p).2.1 ≤ (tkT I n p).2.2 ∧ (tkT I n p).2.2 ≤ n := by
  have a1 := rnF_ge bch I n p
  have a2 := rnF_le bch I (n := n) h
  unfold tkT
  split
  · exact ⟨a1, Nat.le_refl _, a2⟩
  · have := tkA_bd (I := I) (n := n) (s := rnF bch I n p) (by omega)
    exact ⟨a1, by show rnF bch I n p ≤ (tkA I n (rnF bch I n p)).2; omega, this.2⟩
theorem tkP_le (I : Nat → Nat) (n : Nat) : ∀ k, tkP I n k ≤ n
  | 0 => Nat.zero_le _
  | k + 1 => (tkT_bd (tkP_le I n k)).2.2
/-- what the reference has of tokens -/
def rkd (k : Nat) : Nat := if k = 0 then 4 else if k = 4 then 5 else k
def TTk (I : Nat → Nat) (n : Nat) (τ : TT) (i : Nat) : Prop := tA τ 9 i = (rkd (tkn I n i).1 : Int) ∧ tA τ 10 i = ((tkn I n i).2.1 : Int) ∧ tA τ 11 i = (((tkn I n i).2.2 - (tkn I n i).2.1 : Nat) : Int)
theorem m_isLetter_eq {c : Int} (h : rg c) : m_isLetter c = some (if lch c = true then 1 else 0) := by
  unfold m_isLetter lch
  rw [gd_pos h]
  by_cases q : (97 ≤ c ∧ c ≤ 122) ∨ (65 ≤ c ∧ c ≤ 90)
  · rw [if_pos (decide_eq_true q)]
    by_cases r : (c < 97) ∨ (¬ (c ≤ 122))
    · rw [if_pos r, if_neg (by omega)]
    · rw [if_neg r]
  · rw [if_pos (show c < 97 ∨ ¬ c ≤ 122 by omega), if_pos (show c < 65 ∨ 90 < c by omega), if_neg (show ¬ decide ((97 ≤ c ∧ c ≤ 122) ∨ (65 ≤ c ∧ c ≤ 90)) = true by rw [decide_eq_true_iff]; exact q)]
theorem m_isDigit_t {c : Int} (h : rg c) : m_isDigit c = some (if dch c = true then 1 else 0) := by
  unfold m_isDigit dch
  rw [gd_pos h]
  by_cases q : 48 ≤ c ∧ c ≤ 57
  · rw [if_pos (decide_eq_true q), if_neg (by omega)]
  · rw [if_pos (show c < 48 ∨ 57 < c by omega), if_neg (show ¬ decide (48 ≤ c ∧ c ≤ 57) = true by rw [decide_eq_true_iff]; exact q)]
end Lx
