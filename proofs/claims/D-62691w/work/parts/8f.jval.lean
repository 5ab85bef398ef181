set_option maxRecDepth 100000
/-! JSON: a text and a number, as the system reads them -/
/-- whether a row is UTF-8 -/
def tw (w : List UInt8) : Bool := txt (lk (wI w) w.length) w.length 0
/-- a text behind blanks, which is UTF-8 -/
def strT (I : Nat → Nat) (n p : Nat) : Option (Nat × List UInt8) := (str I n (bl I n p)).bind fun r => if tw r.2 = true then some r else none
def YO (σ : ST) (a b ra wa : Nat) (I : Nat → Nat) (n : Nat) (o : Option (Nat × List UInt8)) (r : Option (Option Nat) × ST) : Prop := match o with
  | some e => ∃ σ', r = (some (some ra), σ') ∧ JRd σ' a b ra wa I n e.1 ∧ sW σ' ra = e.2 ∧ JF σ σ' a ra 0 ∧ sN σ' ra ≤ max (sN σ ra) (max 8 (2 * e.2.length))
  | none => ∃ σ', r = (none, σ') ∧ JF σ σ' a ra 1
section JV
variable {I : Nat → Nat} {n k p : Nat} {σ : ST} {a b ra wa : Nat}
theorem JF.t0 {σ σ1 σ2 : ST} {e : Nat} (h : JF σ σ1 a ra 0) (k : JF σ1 σ2 a ra e) : JF σ σ2 a ra e := by
  have := h.tr k
  rw [Nat.zero_add] at this
  exact this
theorem JF.clr (σ : ST) (a ra : Nat) : JF σ (sWu σ ra []) a ra 0 := ⟨⟨⟨Nat.le_refl _, Nat.le_refl _, Nat.le_refl _⟩, fun b hb => ⟨rfl, fun hn => ((FR.sWu (W := fun b => b = ra) σ (a := ra) [] rfl).2 b hb).2 (fun e => hn (Or.inr e))⟩⟩, Nat.le_refl _, Nat.le_refl _, Nat.le_refl _, Nat.le_max_left _ _⟩
theorem JRd.clr (h : JRd σ a b ra wa I n p) : JRd (sWu σ ra []) a b ra wa I n p := by
  have hr := h.rw
  exact h.kept (((FR.sWu (W := fun b => b = ra) σ (a := ra) [] rfl).2 a h.lt.1).2 h.ne.1) (((FR.sWu (W := fun b => b = ra) σ (a := ra) [] rfl).2 b h.lt.2.1).2 h.ne.2.1) (fun x hx => rfl) ⟨hr.1, by rw [sW_sWu_, if_pos rfl]; exact Nat.zero_le _, hr.2.2⟩ (Nat.le_refl _)
theorem strS_len : ∀ (m k : Nat) (w : List UInt8) (r : Nat × List UInt8), n + 1 - k ≤ m → w.length ≤ k → strS I n k w = some r → r.2.length ≤ r.1 ∧ r.1 < n ∧ k ≤ r.1 ∧ lk I n r.1 = 34 := by
  intro m
  induction m with
  | zero =>
    intro k w r h1 h2 h
    rw [strS, dif_pos (by rw [lk_ge (by omega)]; decide)] at h
    cases h
  | succ m ih =>
    intro k w r h1 h2 h
    by_cases c0 : lk I n k < 32
    · rw [strS, dif_pos c0] at h; cases h
    · have hk : k < n := lk_in (I := I) (by omega)
      by_cases c1 : lk I n k = 34
      · rw [strS, dif_neg c0, if_pos c1] at h
        cases h
        exact ⟨h2, hk, Nat.le_refl _, c1⟩
      · rw [strS_stp c0 c1] at h
        cases e : stp I n k with
        | none => rw [e] at h; cases h
        | some v =>
          rw [e] at h
          have hv := stp_rg hk e
          obtain ⟨q1, q2, q3, q4⟩ := ih v.2 (w ++ v.1) r (by omega) (by rw [List.length_append]; omega) h
          exact ⟨q1, q2, by omega, q4⟩
theorem str_len {r : Nat × List UInt8} (h : str I n p = some r) : r.2.length ≤ r.1 ∧ r.1 ≤ n ∧ p + 2 ≤ r.1 ∧ lk I n p = 34 := by
  unfold str at h
  split at h
  · rename_i c
    cases e : strS I n (p + 1) [] with
    | none => rw [e] at h; cases h
    | some q =>
      rw [e] at h
      cases h
      obtain ⟨q1, q2, q3, q4⟩ := strS_len _ _ _ _ (Nat.le_refl _) (Nat.zero_le _) e
      exact ⟨by simp only; omega, by simp only; omega, by simp only; omega, c⟩
  · cases h
theorem JRd.string (h : JRd σ a b ra wa I n p) : Rn (·.2) σ (fun bb => jr_string bb a σ) (YO σ a b ra wa I n (strT I n p)) := by
  have hn := h.2.2.2.2.2.1
  unfold jr_string
  refine Rn_gd h.1 ?_
  refine Rn_tB (h.sign (c := 34) (by omega) (by omega)) (fun σ' _ hJ => ⟨rfl, ?_⟩) (fun y σ' _ hJ => ?_)
  · by_cases c : lk I n (bl I n p) = 34
    · rw [if_pos c] at hJ; cases hJ
    · rw [if_neg c] at hJ
      cases hJ
      unfold strT str
      rw [if_neg c]
      exact ⟨_, rfl, (JF.at σ a ra _).t0 (JF.nX _ a ra)⟩
  · by_cases c : lk I n (bl I n p) = 34
    · rw [if_pos c] at hJ
      have e2 : σ' = pI σ 210 a ((bl I n p + 1 : Nat) : Int) := congrArg Prod.snd hJ
      subst e2
      have hlt : bl I n p < n := lk_in (I := I) (by rw [c]; decide)
      have hJ1 := h.to (q := bl I n p + 1) (by omega) rfl
      refine Rn_gd hJ1.1 ?_
      refine Rn_pure (y := ra) hJ1.2.2.2.2.2.2.2.2.2.1 ?_
      refine Rn_gd hJ1.rw.1 ?_
      refine Rn_eq (fun bb => by unfold r_clear; rw [gd_pos hJ1.rw.1, bind_some']) ?_
      have hJ2 := hJ1.clr
      refine Rn_le (σ1 := sWu (pI σ 210 a ((bl I n p + 1 : Nat) : Int)) ra []) ⟨Nat.le_refl _, Nat.le_refl _, Nat.le_refl _⟩ ?_
      have f0 : JF σ (sWu (pI σ 210 a ((bl I n p + 1 : Nat) : Int)) ra []) a ra 0 := (JF.at σ a ra _).t0 (JF.clr _ a ra)
      refine Rn_bind (su := stS) (jr_string_L _ FU (bl I n p + 1) [] _ hJ2 (by rw [sW_sWu_, if_pos rfl]) (Nat.le_refl _) (FU_gt (by omega)) (Nat.zero_le _) (by omega)) (fun y _ hy => ?_)
      have est : strT I n p = (strS I n (bl I n p + 1) []).bind (fun r => if tw r.2 = true then some (r.1 + 1, r.2) else none) := by
        unfold strT str
        rw [if_pos c]
        cases strS I n (bl I n p + 1) [] <;> rfl
      rw [est]
      cases e : strS I n (bl I n p + 1) [] with
      | none =>
        rw [e] at hy
        obtain ⟨σ1, q1, q2⟩ := hy
        subst q1
        exact Rn_eq (fun bb => by rw [elim_l]) (Rn_some (Le.refl _) ⟨σ1, rfl, f0.t0 q2⟩)
      | some r =>
        rw [e] at hy
        obtain ⟨σ1, q1, q2, q3, q4, q5⟩ := hy
        subst q1
        obtain ⟨l1, l2, l3, l4⟩ := strS_len _ _ _ _ (Nat.le_refl _) (Nat.zero_le _) e
        refine Rn_eq (fun bb => by rw [elim_r]) ?_
        refine Rn_le (σ1 := σ1) (Le.refl _) ?_
        have hJ3 := q2.to (q := r.1 + 1) (by omega) rfl
        refine Rn_gd q2.1 ?_
        refine Rn_eq (fun bb => by rw [nm_eq, q2.2.2.2.2.2.2.2.1, show (r.1 : Int) + 1 = ((r.1 + 1 : Nat) : Int) by omega]) ?_
        refine Rn_gd hJ3.1 ?_
        refine Rn_pure (y := ra) hJ3.2.2.2.2.2.2.2.2.2.1 ?_
        refine Rn_gd hJ3.rw.1 ?_
        have hw3 : sW (pI σ1 210 a ((r.1 + 1 : Nat) : Int)) ra = r.2 := q3
        refine Rn_pure (row_isText_eq hJ3.rw.1 (by rw [hw3]; omega)) ?_
        rw [hw3]
        have f3 : JF σ (pI σ1 210 a ((r.1 + 1 : Nat) : Int)) a ra 0 := (f0.t0 q4).t0 (JF.at _ a ra _)
        refine Rn_le (σ1 := pI σ1 210 a ((r.1 + 1 : Nat) : Int)) ⟨Nat.le_refl _, Nat.le_refl _, Nat.le_refl _⟩ ?_
        show Rn _ _ _ (YO σ a b ra wa I n (if tw r.2 = true then some (r.1 + 1, r.2) else none))
        by_cases t : tw r.2 = true
        · rw [if_pos t, if_pos (show txt (lk (wI r.2) r.2.length) r.2.length 0 = true from t)]
          refine Rn_must (Or.inr rfl) (fun q => by omega) (fun _ => ?_)
          refine Rn_gd hJ3.1 ?_
          refine Rn_eq (fun bb => by rw [hJ3.2.2.2.2.2.2.2.2.2.1]) ?_
          exact Rn_some (Le.refl _) ⟨_, rfl, hJ3, q3, f3, by
            have q6 := q5.1
            rw [q3] at q6
            exact q6⟩
        · rw [if_neg t, if_neg (show ¬ txt (lk (wI r.2) r.2.length) r.2.length 0 = true from t)]
          refine Rn_must (Or.inl rfl) (fun _ => ⟨rfl, ?_⟩) (fun q => by omega)
          exact ⟨_, rfl, f3.t0 (JF.nX _ a ra)⟩
    · rw [if_neg c] at hJ; cases hJ
theorem jr_ns_eq {x : Int} (hx : rg x) : jr_isNumberSign x = some (if nsg x = true then 1 else 0) := by
  unfold jr_isNumberSign
  rw [gd_pos hx]
  by_cases c : nsg x = true
  · have := (nsg_iff x).mp c
    rw [if_pos c, if_neg (by omega), bind_some', elim_l]
  · have : ¬ _ := fun q => c ((nsg_iff x).mpr q)
    rw [if_neg c, if_pos (by omega), bind_some', elim_l]
theorem jr_number_L : ∀ (m f k : Nat) (σ : ST), JRd σ a b ra wa I n k → p ≤ k → k ≤ n → sW σ ra = cut I p k → n - k ≤ m → m < f → Rn id σ (fun bb => jr_number_L11 bb a f σ) (fun σ' => JRd σ' a b ra wa I n (rns I n k) ∧ sW σ' ra = cut I p (rns I n k) ∧ JF σ σ' a ra 0 ∧ CP σ σ' ra) := by
  intro m
  induction m with
  | zero =>
    intro f k σ hJ h1 h2 h3 h4 h5
    obtain ⟨f, rfl⟩ : ∃ g, f = g + 1 := ⟨f - 1, by omega⟩
    have e : rns I n k = k := by
      show run nsg I n k = k
      rw [run_eq nsg_m, lk_ge (by omega), if_neg (by decide)]
    refine Rn_eq (fun bb => by rw [jr_number_L11, gd_pos hJ.1, hJ.look, bind_some', jr_ns_eq (rg_byte hJ.rgI), bind_some', lk_ge (by omega), if_neg (by decide), gd_pos (by omega), if_pos rfl]) ?_
    rw [e]
    exact Rn_some (Le.refl _) ⟨hJ, h3, JF.refl _ _ _, CP.refl _ _⟩
  | succ m ih =>
    intro f k σ hJ h1 h2 h3 h4 h5
    obtain ⟨f, rfl⟩ : ∃ g, f = g + 1 := ⟨f - 1, by omega⟩
    have hn := hJ.2.2.2.2.2.1
    have hx := hJ.rgI
    refine Rn_eq (fun bb => by rw [jr_number_L11, gd_pos hJ.1, hJ.look, bind_some', jr_ns_eq (rg_byte hJ.rgI), bind_some']) ?_
    by_cases c : nsg (lk I n k) = true
    · have e : rns I n k = rns I n (k + 1) := by
        show run nsg I n k = _
        rw [run_eq nsg_m, if_pos c]
      have hk : k < n := lk_in (fun q => by rw [q] at c; revert c; decide)
      refine Rn_eq (fun bb => by rw [if_pos c, gd_pos (by omega), if_neg (by omega), bind_some', hJ.2.2.2.2.2.2.2.2.2.1, bind_some', gd_pos hJ.rw.1]) ?_
      have hl : (sW σ ra).length ≤ 1000 := by rw [h3, cut_len]; omega
      refine Rn_bind (rn_add hJ.rw (by omega) (lk I n k)) (fun σ1 _ g1 => ?_)
      have hJ1 := hJ.ofRA g1
      have hJ2 := hJ1.to (q := k + 1) (by omega) rfl
      refine Rn_gd hJ1.1 ?_
      refine Rn_eq (fun bb => by rw [nm_eq, hJ1.2.2.2.2.2.2.2.1, show (k : Int) + 1 = ((k + 1 : Nat) : Int) by omega]) ?_
      refine Rn_le (σ1 := pI σ1 210 a ((k + 1 : Nat) : Int)) ⟨Nat.le_refl _, Nat.le_refl _, Nat.le_refl _⟩ ?_
      have hw1 : sW (pI σ1 210 a ((k + 1 : Nat) : Int)) ra = cut I p (k + 1) := by
        show sW σ1 ra = _
        rw [g1.1, h3, cut_push h1, lk_lt hk]
        have hb : I k < 256 := by rw [lk_lt hk] at hx; omega
        rw [u8_n rfl hb]
      have f1 : JF σ (pI σ1 210 a ((k + 1 : Nat) : Int)) a ra 0 := (JF.ofRA (a := a) g1 (by rw [h3, cut_len]; simp; omega)).t0 (JF.at _ a ra _)
      rw [e]
      exact (ih f (k + 1) _ hJ2 (by omega) (by omega) hw1 (by omega) (by omega)).mono (fun σ' _ q => ⟨q.1, q.2.1, f1.t0 q.2.2.1, (CP.ofRA g1).tr (by exact q.2.2.2)⟩)
    · have e : rns I n k = k := by
        show run nsg I n k = k
        rw [run_eq nsg_m, if_neg c]
      refine Rn_eq (fun bb => by rw [if_neg c, gd_pos (by omega), if_pos rfl]) ?_
      rw [e]
      exact Rn_some (Le.refl _) ⟨hJ, h3, JF.refl _ _ _, CP.refl _ _⟩
theorem JRd.number (h : JRd σ a b ra wa I n p) (hp : p ≤ n) : Rn (·.2) σ (fun bb => jr_number bb a σ) (fun r => ∃ σ', r = (some ra, σ') ∧ JRd σ' a b ra wa I n (rns I n (bl I n p)) ∧ sW σ' ra = cut I (bl I n p) (rns I n (bl I n p)) ∧ JF σ σ' a ra 0 ∧ sN σ' ra ≤ max (sN σ ra) (max 8 (2 * (rns I n (bl I n p) - bl I n p)))) := by
  have hn := h.2.2.2.2.2.1
  have hb := h.atbl
  have hbl := bl_le' I n p
  unfold jr_number
  refine Rn_gd h.1 ?_
  refine Rn_eq (fun bb => by rw [h.blanks bb, bind_some']) ?_
  refine Rn_gd hb.1 ?_
  refine Rn_pure (y := ra) hb.2.2.2.2.2.2.2.2.2.1 ?_
  refine Rn_gd hb.rw.1 ?_
  refine Rn_eq (fun bb => by unfold r_clear; rw [gd_pos hb.rw.1, bind_some']) ?_
  have hJ2 := hb.clr
  refine Rn_le (σ1 := sWu (pI σ 210 a ((bl I n p : Nat) : Int)) ra []) ⟨Nat.le_refl _, Nat.le_refl _, Nat.le_refl _⟩ ?_
  have f0 : JF σ (sWu (pI σ 210 a ((bl I n p : Nat) : Int)) ra []) a ra 0 := (JF.at σ a ra _).t0 (JF.clr _ a ra)
  refine Rn_bind (jr_number_L (p := bl I n p) _ FU _ _ hJ2 (Nat.le_refl _) (by omega) (by rw [sW_sWu_, if_pos rfl]; unfold cut; rw [Nat.sub_self]; rfl) (Nat.le_refl _) (FU_gt (by omega))) (fun σ1 _ q => ?_)
  refine Rn_gd q.1.1 ?_
  refine Rn_eq (fun bb => by rw [show sR σ1 211 a = some ra from q.1.2.2.2.2.2.2.2.2.2.1]) ?_
  exact Rn_some (Le.refl _) ⟨σ1, rfl, q.1, q.2.1, f0.t0 q.2.2.1, by
    have q6 := q.2.2.2.1
    rw [q.2.1, cut_len] at q6
    exact q6⟩
end JV
