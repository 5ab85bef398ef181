set_option maxRecDepth 100000
/-! JSON: signs and words -/
/-- a word that lies at a place -/
abbrev lit (I : Nat → Nat) (n p s : Nat) : Prop := ∀ j, j < slen s → lk I n (p + j) = (sch s j : Int)
theorem rg_byte {x : Int} (h : -1 ≤ x ∧ x < 256) : rg x := ⟨by omega, by omega⟩
section MustR
variable {X : Type} {st : X → ST} {σ : ST} {K : X → Prop}
theorem Rn_must {v : Int} {thr : ST → X} {G : Nat × Nat → Unit → ST → Option X} (hv : v = 0 ∨ v = 1) (kT : v = 0 → st (thr (nX σ)) = nX σ ∧ K (thr (nX σ))) (kS : v = 1 → Rn st σ (fun bb => G bb () σ) K) : Rn st σ (fun bb => Option.bind (s_must bb v σ) (tB thr (G bb))) K := by
  rcases hv with e | e
  · obtain ⟨t1, t2⟩ := kT e
    subst e
    refine ⟨thr (nX σ), by rw [t1]; exact (FR.nX (fun _ => True) σ).1, t2, fun bb hf => ?_⟩
    rw [t1] at hf
    show Option.bind (s_must bb 0 σ) (tB thr (G bb)) = _
    unfold s_must
    rw [gd_pos (by omega), if_pos rfl, gd_pos (by exact ⟨hf.1, hf.2⟩)]
    rfl
  · refine Rn_eq (fun bb => ?_) (kS e)
    subst e
    unfold s_must
    rw [gd_pos (by omega), if_neg (by omega)]
    rfl
theorem Rn_01 {c : Prop} [Decidable c] {G : Nat × Nat → Int → Option X} (k1 : c → Rn st σ (fun bb => G bb 1) K) (k0 : ¬ c → Rn st σ (fun bb => G bb 0) K) : Rn st σ (fun bb => Option.bind (if c then (some 1) else (some 0)) (G bb)) K := by
  by_cases h : c
  · exact Rn_eq (fun bb => by rw [if_pos h]; rfl) (k1 h)
  · exact Rn_eq (fun bb => by rw [if_neg h]; rfl) (k0 h)
theorem Rn_10 {c : Prop} [Decidable c] {G : Nat × Nat → Int → Option X} (k0 : c → Rn st σ (fun bb => G bb 0) K) (k1 : ¬ c → Rn st σ (fun bb => G bb 1) K) : Rn st σ (fun bb => Option.bind (if c then (some 0) else (some 1)) (G bb)) K := by
  by_cases h : c
  · exact Rn_eq (fun bb => by rw [if_pos h]; rfl) (k0 h)
  · exact Rn_eq (fun bb => by rw [if_neg h]; rfl) (k1 h)
end MustR
section JS
variable {I : Nat → Nat} {n k p : Nat} {τ : TT} {σ : ST} {a b ra wa : Nat}
theorem m_literal_L (h : TIn τ I n) (s : Nat) (hp : p < 90000) : ∀ (m f j : Nat), slen s - j ≤ m → m < f → j ≤ slen s → slen s < 1000 → m_literal_L2 (p : Int) s τ f (j : Int) = some (if (∀ i, i < slen s → j ≤ i → lk I n (p + i) = (sch s i : Int)) then Sum.inr () else Sum.inl (-1)) := by
  intro m
  induction m with
  | zero =>
    intro f j h1 h2 h3 h4
    obtain ⟨f, rfl⟩ : ∃ g, f = g + 1 := ⟨f - 1, by omega⟩
    rw [m_literal_L2, gd_pos (by omega), if_pos (by omega), if_pos (fun i q1 q2 => absurd q1 (by omega))]
  | succ m ih =>
    intro f j h1 h2 h3 h4
    obtain ⟨f, rfl⟩ : ∃ g, f = g + 1 := ⟨f - 1, by omega⟩
    by_cases c : j < slen s
    · have hx := lk_rg (n := n) h.2.2.2 (p + j)
      rw [m_literal_L2, gd_pos (by omega), if_neg (by omega), m_look_eq (p := p + j) h (by omega) (by omega), bind_some', gd_pos (by omega), gd_pos (by omega), Int.toNat_natCast]
      by_cases q : lk I n (p + j) = (sch s j : Int)
      · rw [if_pos q, show (j : Int) + 1 = ((j + 1 : Nat) : Int) by omega, ih f (j + 1) (by omega) (by omega) (by omega) h4]
        congr 1
        by_cases r : ∀ i, i < slen s → j + 1 ≤ i → lk I n (p + i) = (sch s i : Int)
        · rw [if_pos r, if_pos (fun i q1 q2 => by
            rcases Nat.lt_or_ge j i with e | e
            · exact r i q1 e
            · rw [show i = j by omega]; exact q)]
        · rw [if_neg r, if_neg (fun q => r (fun i q1 q2 => q i q1 (by omega)))]
      · rw [if_neg q, if_neg (fun r => q (r j c (Nat.le_refl _)))]
    · rw [m_literal_L2, gd_pos (by omega), if_pos (by omega), if_pos (fun i q1 q2 => absurd q1 (by omega))]
theorem lit_iff {s : Nat} : (∀ i, i < slen s → 0 ≤ i → lk I n (p + i) = (sch s i : Int)) ↔ lit I n p s := ⟨fun h i hi => h i hi (Nat.zero_le _), fun h i hi _ => h i hi⟩
theorem m_literal_eq (h : TIn τ I n) {w : Int} (hw : w = (p : Int)) (hp : p < 90000) {s : Nat} (hs : slen s < 1000) : m_literal w s τ = some (if lit I n p s then ((p + slen s : Nat) : Int) else -1) := by
  subst hw
  unfold m_literal
  have q := m_literal_L h s hp (slen s) FU 0 (by omega) (FU_gt (by omega)) (by omega) hs
  rw [show ((0 : Nat) : Int) = 0 from rfl] at q
  rw [q, bind_some']
  by_cases c : lit I n p s
  · rw [if_pos c, if_pos (lit_iff.mpr c)]
    show some _ = some _
    congr 1
  · rw [if_neg c, if_neg (fun e => c (lit_iff.mp e))]
    rfl
theorem JRd.sign (h : JRd σ a b ra wa I n p) {c : Int} (hc : rg c) (hc2 : c ≠ -1) : Rn (·.2) σ (fun bb => jr_sign bb a c σ) (fun r => if lk I n (bl I n p) = c then r = (some (), pI σ 210 a ((bl I n p + 1 : Nat) : Int)) else r = (none, nX (pI σ 210 a ((bl I n p : Nat) : Int)))) := by
  have hJ := h.atbl
  have hx := hJ.rgI
  unfold jr_sign
  refine Rn_gd h.1 ?_
  refine Rn_eq (fun bb => by rw [h.blanks bb, bind_some']) ?_
  refine Rn_gd hJ.1 ?_
  refine Rn_pure hJ.look ?_
  refine Rn_eq (fun bb => by rw [gd_pos (rg_byte hx), gd_pos hc]) ?_
  refine Rn_le (σ1 := pI σ 210 a ((bl I n p : Nat) : Int)) ⟨Nat.le_refl _, Nat.le_refl _, Nat.le_refl _⟩ ?_
  refine Rn_01 (fun q => ?_) (fun q => ?_)
  · refine Rn_must (Or.inr rfl) (fun e => by omega) (fun _ => ?_)
    refine Rn_gd hJ.1 (Rn_some ⟨Nat.le_refl _, Nat.le_refl _, Nat.le_refl _⟩ ?_)
    rw [if_pos q, pI_pI, hJ.2.2.2.2.2.2.2.1]
    rfl
  · refine Rn_must (Or.inl rfl) (fun _ => ⟨rfl, ?_⟩) (fun e => by omega)
    rw [if_neg q]
theorem JRd.passes (bb : Nat × Nat) (h : JRd σ a b ra wa I n p) {c : Int} (hc : rg c) : jr_passes bb a c σ = some (if lk I n (bl I n p) = c then (1, pI σ 210 a ((bl I n p + 1 : Nat) : Int)) else (0, pI σ 210 a ((bl I n p : Nat) : Int))) := by
  have hJ := h.atbl
  have hx := hJ.rgI
  unfold jr_passes
  rw [gd_pos h.1, h.blanks bb, bind_some', gd_pos hJ.1, hJ.look, bind_some', gd_pos (rg_byte hx), gd_pos hc]
  by_cases q : lk I n (bl I n p) = c
  · rw [if_pos q, if_pos q, bind_some', gd_pos (by omega), if_neg (by omega), bind_some', nm_eq, gd_pos (by omega), pI_pI, hJ.2.2.2.2.2.2.2.1]
    rfl
  · rw [if_neg q, if_neg q, bind_some', gd_pos (by omega), if_pos rfl, bind_some', nm_eq, gd_pos (by omega), pI_pI, hJ.2.2.2.2.2.2.2.1]
    simp
theorem jr_passesWord_L (bb : Nat × Nat) (h : JRd σ a b ra wa I n p) (s : Nat) : ∀ (m f j : Nat), slen s - j ≤ m → m < f → j ≤ slen s → slen s < 1000 → jr_passesWord_L6 bb a s σ f (j : Int) = some (if (∀ i, i < slen s → j ≤ i → lk I n (p + i) = (sch s i : Int)) then Sum.inr () else Sum.inl (0, σ)) := by
  obtain ⟨g1, g2, g3, g4, g5, g6, g7, g8, g9, -⟩ := h
  intro m
  induction m with
  | zero =>
    intro f j h1 h2 h3 h4
    obtain ⟨f, rfl⟩ : ∃ g, f = g + 1 := ⟨f - 1, by omega⟩
    rw [jr_passesWord_L6, gd_pos (by omega), if_pos (by omega), if_pos (fun i q1 q2 => absurd q1 (by omega))]
  | succ m ih =>
    intro f j h1 h2 h3 h4
    obtain ⟨f, rfl⟩ : ∃ g, f = g + 1 := ⟨f - 1, by omega⟩
    by_cases c : j < slen s
    · have hs := sch_lt s j
      rw [jr_passesWord_L6, gd_pos (by omega), if_neg (by omega), gd_pos g1, g8, g7, g2]
      rw [show ad (some b) = b from rfl, gd_pos (by omega), gd_pos (by omega), gd_pos (by exact fun _ => by simp), gd_pos (by exact fun _ => g3), gd_pos (by exact fun q => by rw [g4]; omega), gd_pos (by exact fun q => by omega), show ((p : Int) + (j : Int)).toNat = p + j by omega, Int.toNat_natCast]
      by_cases q : lk I n (p + j) = (sch s j : Int)
      · have hlt : p + j < n := lk_in (by rw [q]; omega)
        have e : sbI (sB σ b (p + j)) = (sch s j : Int) := by
          rw [lk_lt hlt, ← g5 _ hlt] at q
          rw [sb_eq, if_pos (by omega)]; exact q
        rw [if_neg (by rw [e]; omega), show (j : Int) + 1 = ((j + 1 : Nat) : Int) by omega, ih f (j + 1) (by omega) (by omega) (by omega) h4]
        congr 1
        by_cases r : ∀ i, i < slen s → j + 1 ≤ i → lk I n (p + i) = (sch s i : Int)
        · rw [if_pos r, if_pos (fun i q1 q2 => by
            rcases Nat.lt_or_ge j i with e | e
            · exact r i q1 e
            · rw [show i = j by omega]; exact q)]
        · rw [if_neg r, if_neg (fun q => r (fun i q1 q2 => q i q1 (by omega)))]
      · have hc : ((n : Int) ≤ (p : Int) + (j : Int)) ∨ ¬ (sbI (sB σ b (p + j)) = (sch s j : Int)) := by
          by_cases hlt : p + j < n
          · right
            intro e
            have hb := (sB σ b (p + j)).toNat_lt
            rw [g5 _ hlt] at hb
            rw [sb_eq, g5 _ hlt] at e
            rw [lk_lt hlt] at q
            split at e <;> omega
          · left; omega
        rw [if_pos hc, if_neg (fun r => q (r j c (Nat.le_refl _)))]
    · rw [jr_passesWord_L6, gd_pos (by omega), if_pos (by omega), if_pos (fun i q1 q2 => absurd q1 (by omega))]
theorem JRd.word (bb : Nat × Nat) (h : JRd σ a b ra wa I n p) {s : Nat} (hs : slen s < 1000) : jr_passesWord bb a s σ = some (if lit I n (bl I n p) s then (1, pI σ 210 a ((bl I n p + slen s : Nat) : Int)) else (0, pI σ 210 a ((bl I n p : Nat) : Int))) := by
  have hJ := h.atbl
  unfold jr_passesWord
  have q := jr_passesWord_L bb hJ s (slen s) FU 0 (by omega) (FU_gt (by omega)) (by omega) hs
  rw [show ((0 : Nat) : Int) = 0 from rfl] at q
  rw [gd_pos h.1, h.blanks bb, bind_some', q, bind_some']
  by_cases c : lit I n (bl I n p) s
  · rw [if_pos c, if_pos (lit_iff.mpr c), elim_r, gd_pos hJ.1, nm_eq, pI_pI, hJ.2.2.2.2.2.2.2.1]
    rfl
  · rw [if_neg c, if_neg (fun e => c (lit_iff.mp e)), elim_l]
end JS
