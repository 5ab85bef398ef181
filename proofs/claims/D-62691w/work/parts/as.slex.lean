set_option maxRecDepth 100000
/-! SCHEMAS, READ: tokens of the system -/
def SRd (σ : ST) (a b : Nat) (I : Nat → Nat) (n q : Nat) : Prop := sc σ a = 6 ∧ sR σ 80 a = some b ∧ sc σ b = 101 ∧ sN σ b = 1000 ∧ (∀ k, k < n → (sB σ b k).toNat = I k) ∧ n ≤ 1000 ∧ sI σ 81 a = (n : Int) ∧ sI σ 82 a = (q : Int) ∧ q ≤ n ∧ a < sZ σ ∧ b < sZ σ
section Sl
variable {σ : ST} {a b n q s : Nat} {I : Nat → Nat}
theorem SRd.to (h : SRd σ a b I n q) {r : Nat} (hr : r ≤ n) : SRd (pI σ 82 a (r : Int)) a b I n r := by
  obtain ⟨h1, h2, h3, h4, h5, h6, h7, h8, h9, h10, h11⟩ := h
  exact ⟨h1, h2, h3, h4, h5, h6, by rw [sI_pI, if_neg (by omega)]; exact h7, by rw [sI_pI, if_pos ⟨rfl, rfl⟩], hr, h10, h11⟩
/-- a field that is not the place -/
theorem SRd.fld (h : SRd σ a b I n q) {j : Nat} (h1' : j ≠ 81) (h2' : j ≠ 82) (v : Int) : SRd (pI σ j a v) a b I n q := by
  obtain ⟨h1, h2, h3, h4, h5, h6, h7, h8, h9, h10, h11⟩ := h
  exact ⟨h1, h2, h3, h4, h5, h6, by rw [sI_pI, if_neg (fun u => h1' u.1.symm)]; exact h7, by rw [sI_pI, if_neg (fun u => h2' u.1.symm)]; exact h8, h9, h10, h11⟩
theorem SRd.look (h : SRd σ a b I n q) {x : Int} {k : Nat} (hx : x = (k : Int)) (hk : k ≤ 2000) : sr_look a x σ = some (lk I n k) := by
  obtain ⟨h1, h2, h3, h4, h5, h6, h7, h8, h9, h10, h11⟩ := h
  subst hx
  unfold sr_look
  rw [gd_pos h1, gd_pos (by omega), h7, gd_pos (by omega)]
  by_cases c : n ≤ k
  · rw [if_pos (by omega), lk_ge c]
  · rw [if_neg (by omega), h2, bind_some', gd_pos h3, gd_pos (by rw [h4]; omega), Int.toNat_natCast, sb_and, h5 k (by omega), lk_lt (by omega)]
theorem sr_isLetter_eq {c : Int} (h : rg c) : sr_isLetter c = some (if lch c = true then 1 else 0) := m_isLetter_eq h
theorem sr_isDigit_eq {c : Int} (h : rg c) : sr_isDigit c = some (if dch c = true then 1 else 0) := m_isDigit_t h
theorem bch_in (h : bch (lk I n q) = true) : q < n := lk_in (fun e => by rw [e] at h; revert h; decide)
theorem wch_in (h : wch (lk I n q) = true) : q < n := lk_in (fun e => by rw [e] at h; revert h; decide)
theorem dch_in (h : dch (lk I n q) = true) : q < n := lk_in (fun e => by rw [e] at h; revert h; decide)
theorem sr_L0 (bb : Nat × Nat) (hI : ∀ k, I k < 256) : ∀ (c N q : Nat) (σ : ST), SRd σ a b I n q → n - q ≤ c → c < N → sr_next_L0 bb a N σ = some (pI σ 82 a ((rnF bch I n q : Nat) : Int))
  | c, 0, q, σ, _, _, h => by omega
  | c, N + 1, q, σ, h, hc, hN => by
    have h82 := h.2.2.2.2.2.2.2.1
    have hq := h.2.2.2.2.2.2.2.2.1
    have hn := h.2.2.2.2.2.1
    have rl := lk_rg (n := n) hI q
    have e := h.look (x := (q : Int)) rfl (by omega)
    rw [sr_next_L0, gd_pos h.1, h82, e, bind_some', vv_s, gd_pos (by omega), gd_pos (by exact fun _ => rfl), gd_pos (by omega)]
    by_cases cb : lk I n q = 32 ∨ lk I n q = 10
    · have cb' : bch (lk I n q) = true := decide_eq_true cb
      have hqn := bch_in cb'
      obtain ⟨c, rfl⟩ : ∃ c', c = c' + 1 := ⟨c - 1, by omega⟩
      have h1 := h.to (r := q + 1) (by omega)
      have ih := sr_L0 bb hI c N (q + 1) _ h1 (by omega) (by omega)
      rw [if_pos cb, nm_eq, show (q : Int) + 1 = ((q + 1 : Nat) : Int) by omega, ih, pI_pI, ← rnF_s hqn cb']
    · rw [if_neg cb, rnF_n (fun u => cb (of_decide_eq_true u)), pI_self σ 82 a h82]
theorem sr_L75 (bb : Nat × Nat) (hI : ∀ k, I k < 256) : ∀ (c N q : Nat) (σ : ST), SRd σ a b I n q → n - q ≤ c → c < N → sr_next_L75 bb a N σ = some (pI σ 82 a ((rnF wch I n q : Nat) : Int))
  | c, 0, q, σ, _, _, h => by omega
  | c, N + 1, q, σ, h, hc, hN => by
    have h82 := h.2.2.2.2.2.2.2.1
    have hq := h.2.2.2.2.2.2.2.2.1
    have hn := h.2.2.2.2.2.1
    have rl := lk_rg (n := n) hI q
    have e := h.look (x := (q : Int)) rfl (by omega)
    rw [sr_next_L75, gd_pos h.1, h82, e, bind_some', vv_s, sr_isLetter_eq (by omega), bind_some', sr_isDigit_eq (by omega), vv_s, gd_pos (by split <;> omega), gd_pos (by exact fun _ => rfl), gd_pos (by exact fun _ => rfl), gd_pos (by exact fun _ => by split <;> omega), gd_pos (by exact fun _ => rfl), gd_pos (by omega)]
    by_cases cw : wch (lk I n q) = true
    · have hqn := wch_in cw
      obtain ⟨c, rfl⟩ : ∃ c', c = c' + 1 := ⟨c - 1, by omega⟩
      have h1 := h.to (r := q + 1) (by omega)
      have ih := sr_L75 bb hI c N (q + 1) _ h1 (by omega) (by omega)
      rw [if_neg (by
        intro u
        have cw2 := cw
        unfold wch at cw2
        rw [Bool.or_eq_true, Bool.or_eq_true, decide_eq_true_iff] at cw2
        obtain ⟨⟨u1, u2'⟩, u3⟩ := u
        rcases cw2 with (q | q) | q
        · rw [if_pos q] at u1; omega
        · rw [if_pos q] at u2'; omega
        · exact u3 q), nm_eq, show (q : Int) + 1 = ((q + 1 : Nat) : Int) by omega, ih, pI_pI, ← rnF_s hqn cw]
    · rw [if_pos (by
        have cw2 := cw
        unfold wch at cw2
        rw [Bool.or_eq_true, Bool.or_eq_true, decide_eq_true_iff] at cw2
        refine ⟨⟨?_, ?_⟩, fun u => cw2 (Or.inr u)⟩
        · rw [if_neg (fun u => cw2 (Or.inl (Or.inl u)))]
        · rw [if_neg (fun u => cw2 (Or.inl (Or.inr u)))]), rnF_n cw, pI_self σ 82 a h82]
end Sl
