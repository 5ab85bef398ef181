set_option maxRecDepth 100000
/-! SCHEMAS, READ: tokens of the system -/
def nvl (I : Nat → Nat) (s : Nat) : Nat → Nat
  | 0 => 0
  | j + 1 => 10 * nvl I s j + (I (s + j) - 48)
/-- only one object was written, nothing was made -/
def JO (a : Nat) (σ σ' : ST) : Prop := FR (fun x => x = a) σ σ' ∧ sC σ' = sC σ ∧ sS σ' = sS σ ∧ sZ σ' = sZ σ ∧ ∀ j, sR σ' j a = sR σ j a
section Sm
variable {σ σ1 σ2 : ST} {a b n q s : Nat} {I : Nat → Nat}
theorem JO.refl (a : Nat) (σ : ST) : JO a σ σ := ⟨FR.refl _ _, rfl, rfl, rfl, fun _ => rfl⟩
theorem JO.tr (h : JO a σ σ1) (g : JO a σ1 σ2) : JO a σ σ2 := ⟨h.1.tr g.1 (fun _ _ u => u), g.2.1.trans h.2.1, g.2.2.1.trans h.2.2.1, g.2.2.2.1.trans h.2.2.2.1, fun j => (g.2.2.2.2 j).trans (h.2.2.2.2 j)⟩
theorem JO.pI (σ : ST) (j a : Nat) (v : Int) : JO a σ (pI σ j a v) := ⟨FR.at1 (at_pI σ j a v) rfl, rfl, rfl, rfl, fun _ => rfl⟩
theorem sr_L167 (hI : ∀ k, I k < 256) : ∀ (c q : Nat) (σ : ST), SRd σ a b I n q → sI σ 84 a = (s : Int) → s ≤ q → sI σ 85 a = ((nvl I s (min (q - s) 9) : Nat) : Int) → n - q ≤ c → ∃ σ', (∀ (bb : Nat × Nat) (N : Nat), c < N → sr_next_L167 bb a N σ = some σ') ∧ SRd σ' a b I n (rnF dch I n q) ∧ sI σ' 84 a = (s : Int) ∧ sI σ' 85 a = ((nvl I s (min (rnF dch I n q - s) 9) : Nat) : Int) ∧ JO a σ σ'
  | c, q, σ, h, h84, hs, h85, hc => by
    have h82 := h.2.2.2.2.2.2.2.1
    have hq := h.2.2.2.2.2.2.2.2.1
    have hn := h.2.2.2.2.2.1
    have rl := lk_rg (n := n) hI q
    have e := h.look (x := (q : Int)) rfl (by omega)
    by_cases cd : dch (lk I n q) = true
    · have hqn := dch_in cd
      have cd2 : 48 ≤ lk I n q ∧ lk I n q ≤ 57 := of_decide_eq_true cd
      have el : lk I n q = (I q : Int) := lk_lt hqn
      obtain ⟨c, rfl⟩ : ∃ c', c = c' + 1 := ⟨c - 1, by omega⟩
      obtain ⟨σ1, e1, j1, h1, k84, k85⟩ : ∃ σ1, (gd (rg ((q : Int) - (s : Int))) (if 9 ≤ ((q : Int) - (s : Int)) then (some σ) else (Option.bind (sr_look a (q : Int) σ) fun y84 => nm (pI σ 85 a (((10 * ((nvl I s (min (q - s) 9) : Nat) : Int)) + y84) - 48)) fun σ85 => some σ85))) = some σ1 ∧ JO a σ σ1 ∧ SRd σ1 a b I n q ∧ sI σ1 84 a = (s : Int) ∧ sI σ1 85 a = ((nvl I s (min (q + 1 - s) 9) : Nat) : Int) := by
        rw [gd_pos (by omega)]
        by_cases c9 : 9 ≤ q - s
        · refine ⟨σ, by rw [if_pos (by omega)], JO.refl _ _, h, h84, ?_⟩
          rw [h85, show min (q - s) 9 = min (q + 1 - s) 9 by omega]
        · refine ⟨pI σ 85 a ((nvl I s (min (q + 1 - s) 9) : Nat) : Int), ?_, JO.pI _ _ _ _, h.fld (by decide) (by decide) _, by rw [sI_pI, if_neg (by omega)]; exact h84, by rw [sI_pI, if_pos ⟨rfl, rfl⟩]⟩
          rw [if_neg (by omega), e, bind_some', nm_eq, show min (q + 1 - s) 9 = (q - s) + 1 by omega, show min (q - s) 9 = q - s by omega, nvl, show s + (q - s) = q by omega, el]
          congr 2; omega
      have h2 := h1.to (r := q + 1) (by omega)
      obtain ⟨σ', q1, q2, q3, q4, q5⟩ := sr_L167 hI c (q + 1) _ h2 (by rw [sI_pI, if_neg (by omega)]; exact k84) (by omega) (by rw [sI_pI, if_neg (by omega)]; exact k85) (by omega)
      rw [← rnF_s hqn cd] at q2 q4
      refine ⟨σ', fun bb N hN => ?_, q2, q3, q4, (j1.tr (JO.pI _ _ _ _)).tr q5⟩
      obtain ⟨N, rfl⟩ : ∃ N', N = N' + 1 := ⟨N - 1, by omega⟩
      have k82 : sI σ1 82 a = (q : Int) := h1.2.2.2.2.2.2.2.1
      rw [sr_next_L167, gd_pos h.1, h82, e, bind_some', sr_isDigit_eq (by omega), bind_some', if_pos cd, gd_pos (by omega), if_neg (by omega), h84, h85, ← e, e1, bind_some', gd_pos h1.1, k82, nm_eq, show (q : Int) + 1 = ((q + 1 : Nat) : Int) by omega]
      exact q1 bb N (by omega)
    · refine ⟨σ, fun bb N hN => ?_, by rw [rnF_n cd]; exact h, h84, by rw [rnF_n cd]; exact h85, JO.refl _ _⟩
      obtain ⟨N, rfl⟩ : ∃ N', N = N' + 1 := ⟨N - 1, by omega⟩
      rw [sr_next_L167, gd_pos h.1, h82, e, bind_some', sr_isDigit_eq (by omega), bind_some', if_neg cd, gd_pos (by omega), if_pos rfl]
end Sm
