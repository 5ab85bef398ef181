set_option maxRecDepth 100000
/-! SCHEMAS, READ: tokens of the reference -/
section Ml
variable {I : Nat → Nat} {n p s : Nat} {τ τ' : TT}
/-- the reference's schema text -/
def T8 (τ : TT) (I : Nat → Nat) (n : Nat) : Prop := tI τ 5 = (n : Int) ∧ n ≤ 1000 ∧ (∀ k, k < n → tA τ 8 k = (I k : Int)) ∧ ∀ k, I k < 256
theorem T8.tr {l : List Nat} (h : T8 τ I n) (f : TF l τ τ') (h1 : 5 ∉ l) (h2 : 8 ∉ l) : T8 τ' I n := ⟨by rw [(f 5 h1).1]; exact h.1, h.2.1, fun k hk => by rw [(f 8 h2).2.2]; exact h.2.2.1 k hk, h.2.2.2⟩
def pch (b4 b5 : Bool) (c : Int) : Bool := (b4 && wch c) || (b5 && dch c)
theorem m_rt_54 (hT : T8 τ I n) (b4 b5 : Bool) (u2 : Int) : ∀ (c N k : Nat), s + k + c = n → c < N → m_readTokens_L54 (s : Int) u2 (if b4 = true then 1 else 0) (if b5 = true then 1 else 0) τ N (k : Int) = some ((rnF (pch b4 b5) I n (s + k) - s : Nat) : Int)
  | c, 0, k, _, h => by omega
  | 0, N + 1, k, h, _ => by
    have hn := hT.2.1
    rw [m_readTokens_L54, hT.1, gd_pos (by omega), gd_pos (by omega), if_pos (by omega), rnF_end (by omega)]
    congr 2; omega
  | c + 1, N + 1, k, h, hN => by
    have hn := hT.2.1
    have hb := hT.2.2.2 (s + k)
    have hk : s + k < n := by omega
    have e8 : tA τ 8 (s + k) = (I (s + k) : Int) := hT.2.2.1 _ hk
    have el : lk I n (s + k) = (I (s + k) : Int) := by unfold lk; rw [if_pos hk]
    have ex : ((s : Int) + (k : Int)).toNat = s + k := by omega
    have ih := m_rt_54 hT b4 b5 u2 c N (k + 1) (by omega) (by omega)
    rw [m_readTokens_L54, hT.1, gd_pos (by omega), gd_pos (by omega), if_neg (by omega), ex, e8, m_isLetter_eq (by omega), m_isDigit_t (by omega), vv_s]
    obtain ⟨x, hx⟩ : ∃ x : Int, x = (I (s + k) : Int) := ⟨_, rfl⟩
    rw [← hx] at el ⊢
    have go : pch b4 b5 x = true → m_readTokens_L54 (s : Int) u2 (if b4 = true then 1 else 0) (if b5 = true then 1 else 0) τ N ((k : Int) + 1) = some ((rnF (pch b4 b5) I n (s + k) - s : Nat) : Int) := fun q => by
      rw [rnF_s hk (by rw [el]; exact q), show (k : Int) + 1 = ((k + 1 : Nat) : Int) by omega, ih, show s + (k + 1) = s + k + 1 by omega]
    have stop : pch b4 b5 x ≠ true → (some ((k : Nat) : Int) : Option Int) = some ((rnF (pch b4 b5) I n (s + k) - s : Nat) : Int) := fun q => by
      rw [rnF_n (by rw [el]; exact q)]
      congr 2; omega
    have second : ¬ (b4 = true ∧ wch x = true) → Option.bind (gd (rg (if b5 = true then (1 : Int) else 0)) (gd (¬ ((if b5 = true then (1 : Int) else 0) = 0) → ib ((s : Int) + (k : Int)) 1000) (gd (¬ ((if b5 = true then (1 : Int) else 0) = 0) → ok (some (if dch x = true then (1 : Int) else 0))) (gd (¬ ((if b5 = true then (1 : Int) else 0) = 0) → rg (if dch x = true then (1 : Int) else 0)) (if ((if b5 = true then (1 : Int) else 0) = 0) ∨ ((if dch x = true then (1 : Int) else 0) = 0) then (some (Sum.inl ((k : Nat) : Int) : Int ⊕ Unit)) else (some (Sum.inr ()))))))) (Sum.elim some fun (_ : Unit) => m_readTokens_L54 (s : Int) u2 (if b4 = true then 1 else 0) (if b5 = true then 1 else 0) τ N ((k : Int) + 1)) = some ((rnF (pch b4 b5) I n (s + k) - s : Nat) : Int) := fun hw => by
      rw [gd_pos (by split <;> omega), gd_pos (by omega), gd_pos (by exact fun _ => rfl), gd_pos (by exact fun _ => by split <;> omega)]
      by_cases q : b5 = true ∧ dch x = true
      · rw [if_neg (by rw [if_pos q.1, if_pos q.2]; omega), bind_some', elim_r]
        refine go ?_
        unfold pch; rw [q.1, q.2]; simp
      · rw [if_pos (by
          by_cases q5 : b5 = true
          · right; rw [if_neg (fun u => q ⟨q5, u⟩)]
          · left; rw [if_neg q5]), bind_some', elim_l]
        refine stop (fun u => ?_)
        unfold pch at u
        rw [Bool.or_eq_true, Bool.and_eq_true, Bool.and_eq_true] at u
        exact u.elim hw q
    cases b4 with
    | false =>
      have := second (fun q => by cases q.1)
      rw [gd_pos (by omega), if_pos (show (if false = true then (1 : Int) else 0) = 0 from rfl), bind_some', elim_r]
      exact this
    | true =>
      rw [gd_pos (by omega), if_neg (show ¬ (if true = true then (1 : Int) else 0) = 0 by decide), gd_pos (show ib ((s : Int) + (k : Int)) 1000 by omega), bind_some', gd_pos (by split <;> omega), gd_pos (by exact fun _ => rfl), gd_pos (by exact fun _ => by split <;> omega), gd_pos (by omega)]
      by_cases q : wch x = true
      · rw [if_neg (by
          intro u
          unfold wch at q
          rw [Bool.or_eq_true, Bool.or_eq_true, decide_eq_true_iff] at q
          obtain ⟨⟨u1, u2'⟩, u3⟩ := u
          rcases q with (q | q) | q
          · rw [if_pos q] at u1; omega
          · rw [if_pos q] at u2'; omega
          · exact u3 q), bind_some', elim_l, bind_some', elim_r]
        exact go (by unfold pch; rw [q]; rfl)
      · rw [if_pos (by
          unfold wch at q
          rw [Bool.or_eq_true, Bool.or_eq_true, decide_eq_true_iff] at q
          refine ⟨⟨?_, ?_⟩, fun u => q (Or.inr u)⟩
          · rw [if_neg (fun u => q (Or.inl (Or.inl u)))]
          · rw [if_neg (fun u => q (Or.inl (Or.inr u)))]), bind_some', elim_r]
        exact second (fun u => q u.2)
end Ml
