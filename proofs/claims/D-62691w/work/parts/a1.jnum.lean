set_option maxRecDepth 100000
/-! NUMBERS, as texts: both sides -/
/-- what the reference has put out, if there was room -/
def OX (τ : TT) (w : List UInt8) : Prop := (w.length ≤ 4000 ∧ OW τ w ∧ tI τ 7 = 0) ∨ (4000 < w.length ∧ tI τ 6 = 4000 ∧ tI τ 7 = 1)
abbrev KX : List Nat := [3, 6, 7]
def MX (τ : TT) (w v : List UInt8) (τ' : TT) : Prop := TF KX τ τ' ∧ OX τ' (w ++ v)
theorem OX.tr {τ τ' : TT} {l : List Nat} {w : List UInt8} (h : OX τ w) (f : TF l τ τ') (h1 : 3 ∉ l) (h2 : 6 ∉ l) (h3 : 7 ∉ l) : OX τ' w := by
  rcases h with ⟨a1, a2, a3⟩ | ⟨a1, a2, a3⟩
  · exact Or.inl ⟨a1, a2.tr f h1 h2, by rw [(f 7 h3).1]; exact a3⟩
  · exact Or.inr ⟨a1, by rw [(f 6 h2).1]; exact a2, by rw [(f 7 h3).1]; exact a3⟩
theorem MX.tr {τ τ1 τ2 : TT} {w v u : List UInt8} (h : MX τ w v τ1) (g : MX τ1 (w ++ v) u τ2) : MX τ w (v ++ u) τ2 := ⟨h.1.tr g.1 (fun _ q => q), by rw [← List.append_assoc]; exact g.2⟩
theorem MX.nil {τ : TT} {w : List UInt8} (h : OX τ w) : MX τ w [] τ := ⟨TF.refl _ _, by rw [List.append_nil]; exact h⟩
section Nx
variable {τ : TT} {w : List UInt8}
theorem m_put_X (h : OX τ w) (x : Int) : ∃ τ', m_put x τ = some τ' ∧ MX τ w [u8 x] τ' := by
  rcases h with ⟨a1, a2, a3⟩ | ⟨a1, a2, a3⟩
  · by_cases c : w.length < 4000
    · obtain ⟨τ', e, f, g, -⟩ := m_put_eq a2 c x
      exact ⟨τ', e, f.mono (by decide), Or.inl ⟨by rw [List.length_append]; simp only [List.length_cons, List.length_nil]; omega, g, by rw [(f 7 (by decide)).1]; exact a3⟩⟩
    · have e6 := a2.2.1
      refine ⟨uI τ 7 1, ?_, (TF.refl _ τ).uI (by decide) _, Or.inr ⟨by rw [List.length_append]; simp only [List.length_cons, List.length_nil]; omega, ?_, ?_⟩⟩
      · unfold m_put
        rw [e6, gd_pos (by omega), if_pos (by omega), nm_eq]
      · rw [tI_uI, if_neg (by decide), e6]; omega
      · rw [tI_uI, if_pos rfl]
  · refine ⟨uI τ 7 1, ?_, (TF.refl _ τ).uI (by decide) _, Or.inr ⟨by rw [List.length_append]; simp only [List.length_cons, List.length_nil]; omega, ?_, ?_⟩⟩
    · unfold m_put
      rw [a2, gd_pos (by omega), if_pos rfl, nm_eq]
    · rw [tI_uI, if_neg (by decide)]; exact a2
    · rw [tI_uI, if_pos rfl]
theorem dg_b {r : Nat} (h : r ≤ 9) : u8 (48 + lI (lN r)) = UInt8.ofNat (48 + r) ∧ u8 (lI (48 + lN r)) = UInt8.ofNat (48 + r) := by
  have q : ∀ r : Fin 10, u8 (48 + lI (lN r.val)) = UInt8.ofNat (48 + r.val) ∧ u8 (lI (48 + lN r.val)) = UInt8.ofNat (48 + r.val) := by decide +kernel
  exact q ⟨r, by omega⟩
theorem m_pu : ∀ (c N r : Nat) (τ : TT) (w : List UInt8), r < 10 ^ c → r < 18446744073709551616 → c < N → OX τ w → ∃ τ', m_putUnsigned N (lN r) τ = some τ' ∧ MX τ w (decR (c + 1) r) τ'
  | c, 0, r, τ, w, _, _, h, _ => by omega
  | c, N + 1, r, τ, w, hr, h64, hN, hO => by
    have hc : ((lN r < 0) ∨ (¬ (lN r ≤ 9))) ↔ ¬ r ≤ 9 := by
      rw [lN_neg h64, show (9 : Int64) = lN 9 from rfl, lN_le2 h64 (by decide)]; omega
    have e1 : ∀ {A : Type} (X Y : Option A), (if (lN r < 0) ∨ (¬ (lN r ≤ 9)) then X else Y) = if r ≤ 9 then Y else X := fun X Y => by
      by_cases d : r ≤ 9
      · rw [if_neg (fun q => hc.mp q d), if_pos d]
      · rw [if_pos (hc.mpr d), if_neg d]
    rw [decR]
    show ∃ τ', m_putUnsignedb (m_putUnsigned N) (lN r) τ = some τ' ∧ _
    unfold m_putUnsignedb
    rw [e1]
    by_cases d : r ≤ 9
    · rw [if_pos d, if_pos d, bind_some', remU10 h64, bind_some', Nat.mod_eq_of_lt (show r < 10 by omega)]
      obtain ⟨τ1, e2, g2⟩ := m_put_X hO (48 + lI (lN r))
      rw [(dg_b d).1] at g2
      exact ⟨τ1, by rw [e2, bind_some'], g2⟩
    · rw [if_neg d, if_neg d]
      cases c with
      | zero => rw [Nat.pow_zero] at hr; omega
      | succ c =>
        have h10 : (10 : Int64) = lN 10 := rfl
        obtain ⟨τ1, e2, g2⟩ := m_pu c N (r / 10) τ w (by rw [Nat.pow_succ] at hr; omega) (by omega) (by omega) hO
        obtain ⟨τ2, e3, g3⟩ := m_put_X g2.2 (48 + lI (lN (r % 10)))
        rw [(dg_b (by omega)).1] at g3
        refine ⟨τ2, ?_, g2.tr g3⟩
        rw [show jl_divideUnsigned (lN r) 10 = some (lN (r / 10)) from divU h64 (by decide) (by decide), bind_some', e2, bind_some', bind_some', remU10 h64, bind_some', e3, bind_some']
theorem m_putUnsigned_eq (h : OX τ w) (x : Int64) : ∃ τ', m_putUnsigned 24 x τ = some τ' ∧ MX τ w (dec (un x)) τ' := by
  have hx := un_lt x
  have q := m_pu 20 24 (un x) τ w (Nat.lt_of_lt_of_le hx (by decide)) hx (by decide) h
  rw [lN_un] at q
  exact q
/-- a number as a text -/
def numT (x : Int64) (u : Bool) : List UInt8 := if 0 ≤ x ∨ u = true then dec (un x) else 45 :: dec (un (-x))
theorem m_putSigned_eq (h : OX τ w) (x : Int64) : ∃ τ', m_putSigned x τ = some τ' ∧ MX τ w (numT x false) τ' := by
  unfold m_putSigned numT
  by_cases c : 0 ≤ x
  · rw [if_pos c, bind_some', if_pos c, bind_some', if_pos (Or.inl c)]
    obtain ⟨τ1, e1, g1⟩ := m_putUnsigned_eq h x
    exact ⟨τ1, by rw [e1, bind_some'], g1⟩
  · rw [if_neg c, if_neg c, if_neg (by
      rintro (q | q)
      · exact c q
      · cases q)]
    obtain ⟨τ1, e1, g1⟩ := m_put_X h 45
    obtain ⟨τ2, e2, g2⟩ := m_putUnsigned_eq g1.2 (-x)
    refine ⟨τ2, ?_, ?_⟩
    · rw [e1, bind_some', bind_some', bind_some', e2, bind_some']
    · have := g1.tr g2
      exact this
end Nx
section Ns
variable {σ : ST} {a : Nat}
theorem L26_eq (bb : Nat × Nat) (u : Option Nat) (σ : ST) (R : Nat) (hR : R < 18446744073709551616) : ∀ (c N j : Nat), j + c = 19 → c < N → (j = 0 ∨ 10 ^ j ≤ R) → ∃ k, k ≤ 19 ∧ jw_number_L26 bb u (lN R) σ N (lN (10 ^ j)) = some (lN (10 ^ k)) ∧ R < 10 ^ (k + 1) ∧ (k = 0 ∨ 10 ^ k ≤ R)
  | c, 0, j, _, h, _ => by omega
  | c, N + 1, j, hj, hN, hb => by
    have h19 : 10 ^ j ≤ 10 ^ 19 := Nat.pow_le_pow_right (by decide) (by omega)
    have h1 : 1 ≤ 10 ^ j := Nat.one_le_pow _ _ (by decide)
    have h20 : (10 : Nat) ^ 19 < 18446744073709551616 := by decide
    have hq := Nat.div_le_self R (10 ^ j)
    have n9 : un (9 : Int64) = 9 := rfl
    rw [jw_number_L26, divU hR h1 (by omega), bind_some', cmpU, bind_some', un_lN (by omega), n9, gd_pos (by split <;> (try split) <;> omega)]
    by_cases d : R / 10 ^ j ≤ 9
    · rw [if_pos (by split <;> (try split) <;> omega)]
      refine ⟨j, by omega, rfl, ?_, hb⟩
      rw [Nat.pow_succ]
      have := Nat.lt_mul_div_succ R (show 0 < 10 ^ j by omega)
      have h3 : 10 ^ j * (R / 10 ^ j + 1) ≤ 10 ^ j * 10 := Nat.mul_le_mul_left _ (by omega)
      omega
    · rw [if_neg (by rw [if_neg (by omega), if_neg (by omega)]; omega), nm_eq]
      have h10 : 10 ^ (j + 1) ≤ R := by
        rw [Nat.pow_succ]
        have h3 : 10 ^ j * 10 ≤ 10 ^ j * (R / 10 ^ j) := Nat.mul_le_mul_left _ (by omega)
        have := Nat.mul_div_le R (10 ^ j)
        omega
      cases c with
      | zero =>
        exfalso
        have e : j = 19 := by omega
        rw [e] at h10
        have : (10 : Nat) ^ (19 + 1) > 18446744073709551616 := by decide
        omega
      | succ c =>
        have e : lN (10 ^ j) * 10 = lN (10 ^ (j + 1)) := by rw [show (10 : Int64) = lN 10 from rfl, lN_mul, Nat.pow_succ]
        rw [e]
        exact L26_eq bb u σ R hR c N (j + 1) (by omega) (by omega) (Or.inr h10)
theorem L53_eq (a : Nat) : ∀ (j N r : Nat) (σ : ST), j ≤ 19 → j + 1 < N → r < 10 ^ (j + 1) → r < 18446744073709551616 → RW σ a → (sW σ a).length + j ≤ 7999990 → Rn id σ (fun bb => jw_number_L53 bb (some a) N (lN r) (lN (10 ^ j)) σ) (RA σ a (decD j r))
  | j, 0, r, σ, _, h, _, _, _, _ => by omega
  | j, N + 1, r, σ, hj, hN, hr, h64, hR, hl2 => by
    have h19 : 10 ^ j ≤ 10 ^ 19 := Nat.pow_le_pow_right (by decide) hj
    have h1 : 1 ≤ 10 ^ j := Nat.one_le_pow _ _ (by decide)
    have h20 : (10 : Nat) ^ 19 < 18446744073709551616 := by decide
    have hne : ¬ lN (10 ^ j) = 0 := fun q => by
      have := congrArg un q
      rw [un_lN (by omega)] at this
      have z : un (0 : Int64) = 0 := rfl
      omega
    have hd : r / 10 ^ j ≤ 9 := by
      rw [Nat.pow_succ, Nat.mul_comm] at hr
      have := Nat.div_lt_of_lt_mul (m := r) (n := 10 ^ j) (k := 10) (by rw [Nat.mul_comm]; exact hr)
      omega
    have e2 : lN r - lN (r / 10 ^ j) * lN (10 ^ j) = lN (r % 10 ^ j) := by
      have h3 := Nat.div_add_mod r (10 ^ j)
      rw [lN_mul, lN_sub2 (by rw [Nat.mul_comm]; omega)]
      congr 1
      rw [Nat.mul_comm]; omega
    have e3 : jl_divideUnsigned (lN (10 ^ j)) 10 = some (lN (10 ^ j / 10)) := divU (by omega) (by decide) (by decide)
    refine Rn_eq (fun bb => by rw [jw_number_L53, if_neg hne, divU h64 h1 (by omega), bind_some', bind_some', gd_pos hR.1]) ?_
    refine Rn_bind (rn_add hR (by omega) _) (fun σ1 _ g => ?_)
    rw [(dg_b hd).2] at g
    have hl1 := g.len
    simp only [List.length_cons, List.length_nil] at hl1
    refine Rn_eq (fun bb => by rw [nm_eq, e2, e3, bind_some']) ?_
    cases j with
    | zero =>
      have e4 : lN (10 ^ 0 / 10) = 0 := rfl
      obtain ⟨N, rfl⟩ : ∃ m, N = m + 1 := ⟨N - 1, by omega⟩
      refine Rn_eq (fun bb => by rw [e4, jw_number_L53, if_pos rfl]) ?_
      refine Rn_some (Le.refl _) ?_
      rw [Nat.pow_zero, Nat.div_one] at g
      exact g
    | succ j =>
      have e4 : 10 ^ (j + 1) / 10 = 10 ^ j := by rw [Nat.pow_succ]; omega
      rw [e4]
      have hm := Nat.mod_lt r (show 0 < 10 ^ (j + 1) by omega)
      refine (L53_eq a j N (r % 10 ^ (j + 1)) σ1 (by omega) (by omega) hm (by omega) g.rw (by show (sW σ1 a).length + j ≤ _; omega)).mono (fun σ2 _ g2 => ?_)
      exact g.tr g2
theorem rn_jnum (hR : RW σ a) (hl : (sW σ a).length ≤ 7000000) (x : Int64) {u : Int} {b : Bool} (hu : u = if b = true then 1 else 0) : Rn id σ (fun bb => jw_number bb (some a) x u σ) (RA σ a (numT x b)) := by
  have core : ∀ (y : Int64) (σ1 : ST), RW σ1 a → (sW σ1 a).length ≤ 7000001 → Rn id σ1 (fun bb => Option.bind (jw_number_L26 bb (some a) y σ1 FU 1) fun (v8 : Int64) => jw_number_L53 bb (some a) FU y v8 σ1) (RA σ1 a (dec (un y))) := fun y σ1 hR1 hl1 => by
    have hy := un_lt y
    have hk : ∃ k, k ≤ 19 ∧ (∀ bb : Nat × Nat, jw_number_L26 bb (some a) (lN (un y)) σ1 FU (lN (10 ^ 0)) = some (lN (10 ^ k))) ∧ un y < 10 ^ (k + 1) ∧ (k = 0 ∨ 10 ^ k ≤ un y) := by
      obtain ⟨k, k1, k2, k3, k4⟩ := L26_eq (0, 0) (some a) σ1 (un y) hy 19 FU 0 (by omega) (FU_gt (by omega)) (Or.inl rfl)
      refine ⟨k, k1, fun bb => ?_, k3, k4⟩
      have ib : ∀ (N : Nat) (w : Int64), jw_number_L26 bb (some a) (lN (un y)) σ1 N w = jw_number_L26 (0, 0) (some a) (lN (un y)) σ1 N w := by
        intro N
        induction N with
        | zero => intro w; rfl
        | succ N ih => intro w; rw [jw_number_L26, jw_number_L26]; simp only [ih]
      rw [ib]; exact k2
    obtain ⟨k, k1, k2, k3, k4⟩ := hk
    rw [lN_un] at k2
    refine Rn_eq (fun bb => by rw [show jw_number_L26 bb (some a) y σ1 FU 1 = some (lN (10 ^ k)) from k2 bb, bind_some']) ?_
    have q := L53_eq a k FU (un y) σ1 k1 (FU_gt (by omega)) k3 hy hR1 (by omega)
    rw [lN_un, decD_R k 21 (un y) (by omega) k3 k4] at q
    exact q
  unfold jw_number numT
  by_cases c : 0 ≤ x ∨ b = true
  · rw [if_pos c]
    refine Rn_eq (fun bb => by rw [gd_pos (by exact fun _ => by rw [hu]; split <;> omega), if_pos (by
      rcases c with c | c
      · exact Or.inl c
      · right; rw [hu, if_pos c]; omega), bind_some']) ?_
    exact core x σ hR (by omega)
  · rw [if_neg c]
    refine Rn_eq (fun bb => by rw [gd_pos (by exact fun _ => by rw [hu]; split <;> omega), if_neg (by
      rintro (q | q)
      · exact c (Or.inl q)
      · rw [hu, if_neg (fun w => c (Or.inr w))] at q; exact q rfl), bind_some', gd_pos hR.1, Option.bind_assoc]) ?_
    refine Rn_bind (rn_add hR (by omega) 45) (fun σ1 _ g => ?_)
    have hl1 := g.len
    simp only [List.length_cons, List.length_nil] at hl1
    refine Rn_eq (fun bb => by rw [nm_eq, bind_some']) ?_
    refine (core (-x) σ1 g.rw (by omega)).mono (fun σ2 _ g2 => ?_)
    have := g.tr g2
    exact this
end Ns
