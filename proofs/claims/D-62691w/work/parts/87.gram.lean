set_option maxRecDepth 100000
/-! NUMBERS as JSON has them: their grammar -/
def runf (P : Int → Bool) (J : Nat → Nat) (N : Nat) : Nat → Nat → Nat
  | 0, k => k
  | m + 1, k => if P (lk J N k) = true then runf P J N m (k + 1) else k
def run (P : Int → Bool) (J : Nat → Nat) (N k : Nat) : Nat := runf P J N (N - k) k
def dgt (c : Int) : Bool := decide (48 ≤ c ∧ c ≤ 57)
theorem dgt_iff (c : Int) : dgt c = true ↔ 48 ≤ c ∧ c ≤ 57 := decide_eq_true_iff
section Run
variable {P : Int → Bool} {J : Nat → Nat} {N : Nat}
theorem run_eq (hP : P (-1) = false) (k : Nat) : run P J N k = if P (lk J N k) = true then run P J N (k + 1) else k := by
  unfold run
  by_cases h : k < N
  · rw [show N - k = (N - (k + 1)) + 1 by omega]; rfl
  · rw [show N - k = 0 by omega, lk_ge (by omega), if_neg (by rw [hP]; decide)]; rfl
theorem run_sp (hP : P (-1) = false) : ∀ m k, N - k ≤ m → k ≤ run P J N k ∧ run P J N k ≤ max k N ∧ ¬ P (lk J N (run P J N k)) = true ∧ ∀ j, k ≤ j → j < run P J N k → P (lk J N j) = true := by
  intro m
  induction m with
  | zero =>
    intro k h
    rw [run_eq hP, lk_ge (by omega), if_neg (by rw [hP]; decide), lk_ge (by omega), hP]
    exact ⟨by omega, by omega, by decide, fun j h1 h2 => absurd h2 (by omega)⟩
  | succ m ih =>
    intro k h
    rw [run_eq hP]
    split
    · rename_i q
      have hk : k < N := lk_in (fun e => by rw [e, hP] at q; cases q)
      obtain ⟨a, b, c, d⟩ := ih (k + 1) (by omega)
      refine ⟨by omega, by omega, c, fun j h1 h2 => ?_⟩
      rcases Nat.lt_or_ge k j with e | e
      · exact d j e h2
      · rw [show j = k by omega]; exact q
    · rename_i q
      exact ⟨by omega, by omega, q, fun j h1 h2 => absurd h2 (by omega)⟩
theorem dgt_m : dgt (-1) = false := by decide
abbrev dg (J : Nat → Nat) (N k : Nat) : Nat := run dgt J N k
theorem dg_sp (J : Nat → Nat) (N k : Nat) : k ≤ dg J N k ∧ dg J N k ≤ max k N ∧ ¬ (48 ≤ lk J N (dg J N k) ∧ lk J N (dg J N k) ≤ 57) ∧ ∀ j, k ≤ j → j < dg J N k → 48 ≤ lk J N j ∧ lk J N j ≤ 57 := by
  obtain ⟨a, b, c, d⟩ := run_sp (P := dgt) (J := J) (N := N) dgt_m _ k (Nat.le_refl _)
  exact ⟨a, b, fun q => c ((dgt_iff _).mpr q), fun j h1 h2 => (dgt_iff _).mp (d j h1 h2)⟩
theorem dg_eq (J : Nat → Nat) (N k : Nat) : dg J N k = if (lk J N k < 48) ∨ (57 < lk J N k) then k else dg J N (k + 1) := by
  rw [show dg J N k = run dgt J N k from rfl, run_eq dgt_m]
  by_cases c : dgt (lk J N k) = true
  · rw [if_pos c, if_neg (by have := (dgt_iff _).mp c; omega)]
  · rw [if_neg c, if_pos (by
      by_cases q : (lk J N k < 48) ∨ (57 < lk J N k)
      · exact q
      · exact absurd ((dgt_iff _).mpr (by omega)) c)]
end Run
/-- the reference's signs: of the text, or of what was said -/
def Sy (τ : TT) (J : Nat → Nat) (N : Nat) : Prop := N ≤ 1000 ∧ (∀ k, J k < 256) ∧ ∀ k : Nat, k < 100000 → m_symbol (k : Int) τ = some (lk J N k)
section Gr
variable {τ τ' : TT} {J : Nat → Nat} {N : Nat}
theorem Sy.tr {l : List Nat} (h : Sy τ J N) (f : TF l τ τ') (h1 : 2 ∉ l) (h2 : 5 ∉ l) (h3 : 56 ∉ l) (h4 : 57 ∉ l) (h5 : 58 ∉ l) : Sy τ' J N := ⟨h.1, h.2.1, fun k hk => by
  have e : m_symbol (k : Int) τ' = m_symbol (k : Int) τ := by
    unfold m_symbol m_look
    rw [(f 58 h5).1, (f 5 h2).1, (f 57 h4).1, (f 2 h1).2.2, (f 56 h3).2.2]
  rw [e]; exact h.2.2 k hk⟩
theorem Sy.at (h : Sy τ J N) {x : Int} {k : Nat} (hx : x = (k : Int)) (hk : k < 100000) : m_symbol x τ = some (lk J N k) := by rw [hx]; exact h.2.2 k hk
theorem Sy.rgs (h : Sy τ J N) (k : Nat) : -1 ≤ lk J N k ∧ lk J N k < 256 := lk_rg h.2.1 k
theorem Sy.ofIn {I : Nat → Nat} {n : Nat} (h : TIn τ I n) (h58 : tI τ 58 = 0) : Sy τ I n := ⟨h.2.1, h.2.2.2, fun k hk => by
  unfold m_symbol
  rw [h58, gd_pos (by omega), if_pos rfl, m_look_eq h rfl hk]
  rfl⟩
theorem Sy.ofSaid {w : List UInt8} (h : Said τ w) (h58 : tI τ 58 = 1) (hw : w.length ≤ 1000) : Sy τ (wI w) w.length := ⟨hw, wI_lt w, fun k hk => by
  unfold m_symbol
  rw [h58, gd_pos (by omega), if_neg (by omega), gd_pos (by omega), h.1, gd_pos (by omega)]
  by_cases c : k < w.length
  · rw [if_neg (by omega), gd_pos (by omega), lk_lt c, Int.toNat_natCast, h.2 k c]; rfl
  · rw [if_pos (by omega), lk_ge (by omega)]⟩
theorem m_digits_L (h : Sy τ J N) : ∀ (m f k : Nat), N - k ≤ m → m < f → k ≤ 5000 → m_digits_L2 τ f (k : Int) = some ((dg J N k : Nat) : Int) := by
  intro m
  have hN := h.1
  induction m with
  | zero =>
    intro f k h1 h2 hk
    obtain ⟨f, rfl⟩ : ∃ g, f = g + 1 := ⟨f - 1, by omega⟩
    rw [dg_eq, m_digits_L2, h.at rfl (by omega), lk_ge (by omega), bind_some', m_isDigit_eq (by omega), bind_some', if_pos (by omega), gd_pos (by omega), if_pos rfl, if_pos (by omega)]
  | succ m ih =>
    intro f k h1 h2 hk
    obtain ⟨f, rfl⟩ : ∃ g, f = g + 1 := ⟨f - 1, by omega⟩
    have hr := h.rgs k
    rw [dg_eq, m_digits_L2, h.at rfl (by omega), bind_some', m_isDigit_eq (by omega), bind_some']
    by_cases c : (lk J N k < 48) ∨ (57 < lk J N k)
    · rw [if_pos c, gd_pos (by omega), if_pos rfl, if_pos c]
    · have hk2 : k < N := lk_in (I := J) (by omega)
      rw [if_neg c, gd_pos (by omega), if_neg (by omega), if_neg c, show (k : Int) + 1 = ((k + 1 : Nat) : Int) by omega]
      exact ih f (k + 1) (by omega) (by omega) (by omega)
theorem m_digits_eq (h : Sy τ J N) {x : Int} {k : Nat} (hx : x = (k : Int)) (hk : k ≤ 5000) : m_digits x τ = some ((dg J N k : Nat) : Int) := by
  subst hx
  have hN := h.1
  exact m_digits_L h _ FU k (Nat.le_refl _) (FU_gt (by omega)) hk
end Gr
/-- the places of a number's parts -/
def g0 (J : Nat → Nat) (N b : Nat) : Nat := if lk J N b = 45 then b + 1 else b
def g1 (J : Nat → Nat) (N b : Nat) : Nat := dg J N (g0 J N b)
def g2 (J : Nat → Nat) (N b : Nat) : Nat := if lk J N (g1 J N b) = 46 then dg J N (g1 J N b + 1) else g1 J N b
abbrev isE (c : Int) : Prop := c = 101 ∨ c = 69
def g3 (J : Nat → Nat) (N b : Nat) : Nat := if isE (lk J N (g2 J N b)) then (if lk J N (g2 J N b + 1) = 43 ∨ lk J N (g2 J N b + 1) = 45 then g2 J N b + 2 else g2 J N b + 1) else g2 J N b
def g4 (J : Nat → Nat) (N b : Nat) : Nat := if isE (lk J N (g2 J N b)) then dg J N (g3 J N b) else g2 J N b
abbrev gok (J : Nat → Nat) (N b : Nat) : Prop := g0 J N b < g1 J N b ∧ ¬ (lk J N (g0 J N b) = 48 ∧ g0 J N b + 1 < g1 J N b) ∧ (lk J N (g1 J N b) = 46 → g1 J N b + 1 < g2 J N b) ∧ (isE (lk J N (g2 J N b)) → g3 J N b < g4 J N b)
section Gm
variable {τ : TT} {J : Nat → Nat} {N b : Nat}
theorem g_sp (J : Nat → Nat) (N b : Nat) : b ≤ g0 J N b ∧ g0 J N b ≤ g1 J N b ∧ g1 J N b ≤ g2 J N b ∧ g2 J N b ≤ g3 J N b ∧ g3 J N b ≤ g4 J N b ∧ g0 J N b ≤ b + 1 ∧ g3 J N b ≤ g2 J N b + 2 ∧ g1 J N b ≤ max (b + 1) N ∧ g2 J N b ≤ max (b + 2) N ∧ g4 J N b ≤ max (b + 4) N := by
  obtain ⟨h1, h1', -, -⟩ := dg_sp J N (g0 J N b)
  obtain ⟨h2, h2', -, -⟩ := dg_sp J N (g1 J N b + 1)
  obtain ⟨h4, h4', -, -⟩ := dg_sp J N (g3 J N b)
  have e0 : g0 J N b = if lk J N b = 45 then b + 1 else b := rfl
  have e1 : g1 J N b = dg J N (g0 J N b) := rfl
  have e2 : g2 J N b = if lk J N (g1 J N b) = 46 then dg J N (g1 J N b + 1) else g1 J N b := rfl
  have e3 : g3 J N b = if isE (lk J N (g2 J N b)) then (if lk J N (g2 J N b + 1) = 43 ∨ lk J N (g2 J N b + 1) = 45 then g2 J N b + 2 else g2 J N b + 1) else g2 J N b := rfl
  have e4 : g4 J N b = if isE (lk J N (g2 J N b)) then dg J N (g3 J N b) else g2 J N b := rfl
  have i1 : lk J N (g1 J N b) = 46 → g1 J N b < N := fun q => lk_in (I := J) (by omega)
  have i2 : isE (lk J N (g2 J N b)) → g2 J N b < N := fun q => lk_in (I := J) (by omega)
  have i3 : lk J N (g2 J N b + 1) = 43 ∨ lk J N (g2 J N b + 1) = 45 → g2 J N b + 1 < N := fun q => lk_in (I := J) (by omega)
  have b0 : b ≤ g0 J N b ∧ g0 J N b ≤ b + 1 := by split at e0 <;> omega
  rw [← e1] at h1 h1'
  have b2 : g1 J N b ≤ g2 J N b ∧ g2 J N b ≤ max (g1 J N b) N := by split at e2 <;> omega
  have b3 : g2 J N b ≤ g3 J N b ∧ g3 J N b ≤ g2 J N b + 2 ∧ g3 J N b ≤ max (g2 J N b) N := by
    split at e3
    · split at e3 <;> omega
    · omega
  have b4 : g3 J N b ≤ g4 J N b ∧ g4 J N b ≤ max (g3 J N b) N := by
    split at e4
    · omega
    · rename_i q
      rw [if_neg q] at e3
      omega
  clear e0 e1 e2 e3 e4 i1 i2 i3 h2 h2' h4 h4'
  omega
theorem m_numberText_eq (h : Sy τ J N) {x : Int} (hx : x = (b : Int)) (hb : b ≤ 4000) : m_numberText x τ = some (if gok J N b then (g4 J N b : Int) else -1) := by
  subst hx
  have hN := h.1
  have hs := g_sp J N b
  have r0 := h.rgs b
  have r1 := h.rgs (g0 J N b)
  have r2 := h.rgs (g1 J N b)
  have r3 := h.rgs (g2 J N b)
  have r4 := h.rgs (g2 J N b + 1)
  unfold m_numberText
  rw [h.at (k := b) rfl (by omega), bind_some', gd_pos (by omega)]
  have e0 : (if lk J N b = 45 then (some (((b : Int) + 1))) else (some (b : Int)) : Option Int) = some ((g0 J N b : Nat) : Int) := by
    unfold g0
    split <;> simp
  rw [e0, bind_some', m_digits_eq h (k := g0 J N b) rfl (by omega), bind_some', show dg J N (g0 J N b) = g1 J N b from rfl, gd_pos (by omega), gd_pos (by omega)]
  by_cases c1 : g0 J N b < g1 J N b
  · rw [if_neg (by omega), h.at (k := g0 J N b) rfl (by omega), bind_some', gd_pos (by omega), gd_pos (by omega)]
    by_cases c2 : lk J N (g0 J N b) = 48 ∧ g0 J N b + 1 < g1 J N b
    · rw [if_pos (by omega), if_neg (fun q => q.2.1 c2)]
    · rw [if_neg (by omega), h.at (k := g1 J N b) rfl (by omega), bind_some', gd_pos (by omega)]
      by_cases c3 : lk J N (g1 J N b) = 46 → g1 J N b + 1 < g2 J N b
      · have e2 : (if lk J N (g1 J N b) = 46 then (nm ((g1 J N b : Int) + 1) fun x64 => Option.bind (m_digits x64 τ) fun y65 => gd (rg y65) (gd (rg x64) (if y65 = x64 then (some (Sum.inl (((-1))))) else (some (Sum.inr y65))))) else (some (Sum.inr (g1 J N b : Int))) : Option (Int ⊕ Int)) = some (Sum.inr ((g2 J N b : Nat) : Int)) := by
          by_cases q : lk J N (g1 J N b) = 46
          · have e : g2 J N b = dg J N (g1 J N b + 1) := if_pos q
            have hd := c3 q
            rw [if_pos q, nm_eq, m_digits_eq h (k := g1 J N b + 1) (by omega) (by omega), bind_some', ← e, gd_pos (by omega), gd_pos (by omega), if_neg (by omega)]
          · have e : g2 J N b = g1 J N b := if_neg q
            rw [if_neg q, e]
        rw [e2, bind_some', elim_r, h.at (k := g2 J N b) rfl (by omega), bind_some', gd_pos (by omega), gd_pos (by exact fun _ => rfl), gd_pos (by exact fun _ => by rw [vv_s]; omega), vv_s]
        by_cases c4 : isE (lk J N (g2 J N b))
        · have e4 : g4 J N b = dg J N (g3 J N b) := if_pos c4
          have e3 : g3 J N b = if lk J N (g2 J N b + 1) = 43 ∨ lk J N (g2 J N b + 1) = 45 then g2 J N b + 2 else g2 J N b + 1 := if_pos c4
          rw [if_pos c4, nm_eq, h.at (k := g2 J N b + 1) (by omega) (by omega), bind_some', gd_pos (by omega), gd_pos (by exact fun _ => rfl), gd_pos (by exact fun _ => by rw [vv_s]; omega), vv_s]
          have e5 : (if (lk J N (g2 J N b + 1) = 43) ∨ (lk J N (g2 J N b + 1) = 45) then (some (((g2 J N b : Int) + 1 + 1))) else (some ((g2 J N b : Int) + 1)) : Option Int) = some ((g3 J N b : Nat) : Int) := by
            split at e3
            · rename_i q; rw [if_pos q]; congr 1; omega
            · rename_i q; rw [if_neg q]; congr 1; omega
          rw [e5, bind_some', m_digits_eq h (k := g3 J N b) rfl (by omega), bind_some', ← e4, gd_pos (by omega), gd_pos (by omega)]
          by_cases c5 : g3 J N b < g4 J N b
          · rw [if_neg (by omega), if_pos ⟨c1, c2, c3, fun _ => c5⟩]
          · rw [if_pos (by omega), if_neg (fun q => c5 (q.2.2.2 c4))]
        · have e4 : g4 J N b = g2 J N b := if_neg c4
          rw [if_neg c4, if_pos ⟨c1, c2, c3, fun q => absurd q c4⟩, e4]
      · have q : lk J N (g1 J N b) = 46 := by
          by_cases q : lk J N (g1 J N b) = 46
          · exact q
          · exact absurd (fun e => absurd e q) c3
        have e : g2 J N b = dg J N (g1 J N b + 1) := if_pos q
        rw [if_pos q, nm_eq, m_digits_eq h (k := g1 J N b + 1) (by omega) (by omega), bind_some', ← e, gd_pos (by omega), gd_pos (by omega), if_pos (by
          by_cases r : g1 J N b + 1 < g2 J N b
          · exact absurd (fun _ => r) c3
          · have := dg_sp J N (g1 J N b + 1); omega), bind_some', elim_l, if_neg (fun r => c3 r.2.2.1)]
  · rw [if_pos (by omega), if_neg (fun q => c1 q.1)]
end Gm
