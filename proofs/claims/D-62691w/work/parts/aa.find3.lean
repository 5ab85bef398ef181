set_option maxRecDepth 100000
/-! JSON OF THE WIRE: a field's value among parts, as the reference finds it -/
section Ph
variable {S : SC} {I : Nat → Nat} {n d f m base : Nat}
theorem PA.tail {τ : TT} {k : Nat} {x : Nat × Nat} {ps : List (Nat × Nat)} (h : PA τ k (x :: ps)) : PA τ (k + 1) ps := fun i hi => by
  have := h (i + 1) (by simp only [List.length_cons]; omega)
  rw [show k + 1 + i = k + (i + 1) by omega]
  exact this
theorem m_fd_P (hS : SW S) (hf : f < nF_ S) (hr0 : qr S f = 0) (hm : m < S.1) (hb : base + 501 ≤ 9000) : ∀ (ps : List (Nat × Nat)) (i N : Nat) (T T' : TV (d + 1)) (τ : TT) (dn : Nat), prS S I (d + 1) m ps T = some T' → PA τ i ps → PB n ps → i + ps.length = base → ps.length < N → TSc τ S → TIn τ I n → dn + PL ps ≤ 1000 → FI S I n d f base dn τ T → ∃ τ', m_find_L14 (f : Int) (m : Int) (base : Int) (base : Int) N (i : Int) τ = some τ' ∧ FI S I n d f base (dn + PL ps) τ' T' ∧ TF KF τ τ' ∧ Lo base τ τ'
  | ps, i, 0, T, T', τ, dn, _, _, _, _, h, _, _, _, _ => by omega
  | [], i, N + 1, T, T', τ, dn, h, hA, hB, hi, hN, hT, hI, hdn, hFI => by
    simp only [List.length_nil] at hi
    cases h
    refine ⟨τ, by rw [m_find_L14, gd_pos (by omega), gd_pos (by omega), if_pos (by omega)], ?_, TF.refl _ _, Lo.refl _ _⟩
    show FI S I n d f base (dn + 0) τ T
    exact hFI
  | x :: ps, i, N + 1, T, T', τ, dn, h, hA, hB, hi, hN, hT, hI, hdn, hFI => by
    simp only [List.length_cons] at hi hN
    have hx := hB x List.mem_cons_self
    have hn := hI.2.1
    have ePL : PL (x :: ps) = (x.2 - x.1) + PL ps := by unfold PL; rw [List.map_cons, List.sum_cons]
    rw [ePL] at hdn ⊢
    change ((msgS S I (d + 1) m x.1 x.2 T).bind _) = _ at h
    cases em : msgS S I (d + 1) m x.1 x.2 T with
    | none => rw [em] at h; cases h
    | some T1 =>
      rw [em] at h
      change prS S I (d + 1) m ps T1 = some T' at h
      have em' : msgL S I (msgS S I d) m x.2 (x.2 - x.1 + 1) x.1 T = some T1 := em
      obtain ⟨a1, a2⟩ := hA 0 (by simp)
      rw [Nat.add_zero] at a1 a2
      change tA τ 43 i = (x.1 : Int) at a1
      change tA τ 44 i = (x.2 : Int) at a2
      have f0 : TF [46] τ (uI τ 46 (x.1 : Int)) := (TF.refl _ τ).uI (by decide) _
      obtain ⟨τ1, p1, p2, p3, p4⟩ := m_fd_L hS hf hr0 hm (base : Int) (u6 := i) (e := x.2) (by omega) hb hx.2 (x.2 - x.1 + 1) FU x.1 T T1 (uI τ 46 (x.1 : Int)) dn em' (FU_gt (by omega)) (hT.tr f0 (by decide)) (hI.tr f0 (by decide) (by decide)) (by rw [tI_uI, if_pos rfl]) a2 hx.1 (by omega) (hFI.tf f0 (by decide) (by decide) (by decide) (by decide) (by decide) (by decide) (by decide) (Nat.le_refl _))
      have f1 : TF KF τ τ1 := (f0.mono (by decide)).tr p3 (fun _ w => w)
      have l1 : Lo base τ τ1 := (Lo.tf f0 (by decide) (by decide)).tr p4
      obtain ⟨τ2, q1, q2, q3, q4⟩ := m_fd_P hS hf hr0 hm hb ps (i + 1) N T1 T' τ1 (dn + (x.2 - x.1)) h (hA.tail.lo l1 (by omega)) (fun y hy => hB y (List.mem_cons_of_mem _ hy)) (by omega) (by omega) (hT.tr f1 (by decide)) (hI.tr f1 (by decide) (by decide)) (by omega) p2
      refine ⟨τ2, ?_, by rw [Nat.add_assoc] at q2; exact q2, f1.tr q3 (fun _ w => w), l1.tr q4⟩
      rw [m_find_L14, gd_pos (by omega), gd_pos (by omega), if_neg (by omega), gd_pos (by omega), nm_eq, Int.toNat_natCast, a1, p1, bind_some', show (i : Int) + 1 = ((i + 1 : Nat) : Int) by omega, q1]
/-- what was found; parts that were put behind stay for a message only -/
theorem m_find_eq (hS : SW S) (hf : f < nF_ S) (hr0 : qr S f = 0) (hm : m < S.1) (hb : base + 501 ≤ 9000) {ps : List (Nat × Nat)} {k : Nat} {T : TV (d + 1)} {τ : TT} (h : prS S I (d + 1) m ps (emp (d + 1)) = some T) (hA : PA τ k ps) (hB : PB n ps) (hk : k + ps.length = base) (hT : TSc τ S) (hI : TIn τ I n) (hL : PL ps ≤ 1000) (h45 : tI τ 45 = (base : Int)) : ∃ τ', m_find (f : Int) (m : Int) (k : Int) (base : Int) τ = some τ' ∧ FI S I n d f base 1000 τ' T ∧ (¬ isM S f → tI τ' 45 = (base : Int)) ∧ TF KF τ τ' ∧ Lo base τ τ' := by
  have hsk := (hS.2.2.2.2.1 f hf).2.2.2.1
  have hM := hS.2.2.1
  have hE := hS.2.2.2.1
  have h50 := hS.1
  have f0 : TF KF τ (uI τ 52 0) := (TF.refl _ τ).uI (by decide) _
  have hps : ps.length ≤ 9000 := by omega
  obtain ⟨τ1, p1, p2, p3, p4⟩ := m_fd_P hS hf hr0 hm hb ps k FU (emp (d + 1)) T (uI τ 52 0) 0 h hA hB hk (FU_gt (by omega)) (hT.tr f0 (by decide)) (hI.tr f0 (by decide) (by decide)) (by omega) ⟨0, h45, Nat.le_refl _, Or.inl ⟨by rw [tI_uI, if_pos rfl], rfl, rfl⟩⟩
  rw [Nat.zero_add] at p2
  have f1 : TF KF τ τ1 := f0.tr p3 (fun _ w => w)
  have l1 : Lo base τ τ1 := (fun i hi => p4 i hi)
  have hT1 := hT.tr f1 (by decide)
  have t28 : tA τ1 28 f = (qk S f : Int) := (hT1.2.2.2.2.1 f hf).2.2.1
  have hpm := plain_m hS hf
  have p2' : FI S I n d f base 1000 τ1 T := p2.tf (TF.refl [] τ1) (by decide) (by decide) (by decide) (by decide) (by decide) (by decide) (by decide) hL
  have k01 : tI τ1 52 = 0 ∨ tI τ1 52 = 1 := by
    obtain ⟨q, -, -, q3⟩ := p2
    rcases q3 with w | w
    · exact Or.inl w.1
    · exact Or.inr w.1
  unfold m_find
  rw [h45, nm_eq, nm_eq, p1, bind_some', gd_pos (by omega), m_isPlain_eq hS hT1 hf, vv_s, gd_pos (by exact fun _ => rfl), gd_pos (by exact fun _ => by split <;> omega), gd_pos (by omega), Int.toNat_natCast, t28, gd_pos (by omega)]
  have reset : ∀ (hz : tI τ1 52 = 0 ∨ ¬ isM S f), FI S I n d f base 1000 (uI τ1 45 (base : Int)) T := fun hz => by
    obtain ⟨q, q1, q2, q3⟩ := p2'
    refine ⟨0, by rw [tI_uI, if_pos rfl]; rfl, by omega, ?_⟩
    rcases q3 with ⟨r1, r2, r3⟩ | ⟨r1, s, r2, r3, r4⟩
    · exact Or.inl ⟨by rw [tI_uI, if_neg (by decide)]; exact r1, r2, rfl⟩
    · refine Or.inr ⟨by rw [tI_uI, if_neg (by decide)]; exact r1, s, r2, r3, ?_⟩
      by_cases c : plain S f
      · rw [if_pos c] at r4 ⊢
        exact ⟨r4.1, r4.2.1, rfl⟩
      · rw [if_neg c] at r4 ⊢
        have cm : ¬ isM S f := by
          rcases hz with w | w
          · omega
          · exact w
        rw [if_neg cm] at r4 ⊢
        exact r4
  by_cases cc : (tI τ1 52 = 0 ∨ ¬ ((if plain S f then (1 : Int) else 0) = 0)) ∨ ¬ (16 ≤ ((qk S f : Nat) : Int))
  · rw [if_pos cc, nm_eq]
    refine ⟨_, rfl, reset ?_, fun _ => by rw [tI_uI, if_pos rfl], f1.uI (by decide) _, fun i hi => l1 i hi⟩
    rcases cc with (w | w) | w
    · exact Or.inl w
    · right
      intro u
      exact w (by rw [if_neg (fun q => (hpm.mp q).2 u)])
    · right; omega
  · rw [if_neg cc]
    refine ⟨τ1, rfl, p2', fun u => ?_, f1, l1⟩
    exfalso
    apply cc
    by_cases w : plain S f
    · left; right; rw [if_pos w]; omega
    · right
      have := fun v => w (hpm.mpr ⟨v, u⟩)
      omega
theorem m_isDefault_eq (hS : SW S) (hf : f < nF_ S) {τ : TT} (hT : TSc τ S) {T : TV (d + 1)} {dn : Nat} (h : FI S I n d f base dn τ T) (hn : n ≤ 1000) : (tI τ 52 = 0 ∧ hdS f (t1 T) = none) ∨ (tI τ 52 = 1 ∧ ∃ s : SV d, s.1 = f ∧ hdS f (t1 T) = (if dps S s then none else some s) ∧ m_isDefault (f : Int) τ = some (if dps S s then 1 else 0) ∧ (if plain S f then tJ τ 55 = s.2.1 ∧ s.2.2.1 = [] else if isM S f then s.2.1 = 0 ∧ s.2.2.1 = [] ∧ ∃ ps : List (Nat × Nat), ps ≠ [] ∧ tI τ 45 = ((base + ps.length : Nat) : Int) ∧ PA τ base ps ∧ PB n ps ∧ 2 * ps.length + PL ps ≤ dn ∧ prS S I d (qk S f - 16) ps (emp d) = some s.2.2.2 else s.2.1 = 0 ∧ ∃ p e : Nat, p ≤ e ∧ e ≤ n ∧ tI τ 53 = (p : Int) ∧ tI τ 54 = (e : Int) ∧ s.2.2.1 = cut I p e)) := by
  obtain ⟨q, q1, q2, q3⟩ := h
  rcases q3 with ⟨r1, r2, r3⟩ | ⟨r1, s, r2, r3, r4⟩
  · exact Or.inl ⟨r1, r2⟩
  · have hsk := (hS.2.2.2.2.1 f hf).2.2.2.1
    have hM := hS.2.2.1
    have hE := hS.2.2.2.1
    have h50 := hS.1
    obtain ⟨-, -, -, -, o1, o2, -, p01, -, -⟩ := hS.2.2.2.2.1 f hf
    obtain ⟨-, -, t28, t27, -, t30, -⟩ := hT.2.2.2.2.1 f hf
    have hpm := plain_m hS hf
    refine Or.inr ⟨r1, s, r2, r3, ?_, ?_⟩
    · unfold m_isDefault
      rw [gd_pos (by omega), Int.toNat_natCast, t30, t27, t28, gd_pos (by omega), gd_pos (by omega)]
      by_cases ck : keeps S f
      · have nd : ¬ dps S s := fun w => w.2 (by rw [r2]; exact ck)
        rw [if_neg nd]
        by_cases c1 : qp S f = 0 ∧ qo S f = -1
        · have cM : isM S f := by
            rcases ck with w | w | w
            · omega
            · omega
            · exact w
          rw [if_pos c1, gd_pos (by omega), if_neg (by omega)]
        · rw [if_neg c1]
      · have c1 : qp S f = 0 ∧ qo S f = -1 := by
          refine ⟨?_, ?_⟩
          · by_cases w : qp S f = 0
            · exact w
            · exact absurd (Or.inl (by omega)) ck
          · by_cases w : 0 ≤ qo S f
            · exact absurd (Or.inr (Or.inl w)) ck
            · omega
        have nM : ¬ isM S f := fun w => ck (Or.inr (Or.inr w))
        have dd : dps S s ↔ s.2.1 = 0 ∧ s.2.2.1 = [] := ⟨fun u => u.1.2, fun u => ⟨⟨by rw [r2]; exact nM, u⟩, by rw [r2]; exact ck⟩⟩
        rw [if_pos c1, gd_pos (by omega), if_pos (by omega), m_isPlain_eq hS hT hf, bind_some', gd_pos (by split <;> omega)]
        by_cases hpl : plain S f
        · rw [if_pos hpl] at r4
          rw [if_pos hpl, if_neg (by omega)]
          by_cases c0 : tJ τ 55 = 0
          · rw [if_pos c0, if_pos (dd.mpr ⟨by rw [← r4.1]; exact c0, r4.2.1⟩)]
          · rw [if_neg c0, if_neg (fun w => c0 (by rw [r4.1]; exact (dd.mp w).1))]
        · rw [if_neg hpl, if_neg nM] at r4
          obtain ⟨u1, p, e, u2, u3, u4, u5, u6⟩ := r4
          have ec : cut I p e = [] ↔ p = e := by
            constructor
            · intro w
              have := congrArg List.length w
              rw [cut_len] at this
              simp only [List.length_nil] at this
              omega
            · intro w
              unfold cut; rw [w, Nat.sub_self]; rfl
          rw [if_neg hpl, if_pos rfl, u4, u5, gd_pos (by omega), gd_pos (by omega)]
          by_cases c0 : p = e
          · rw [if_pos (by omega), if_pos (dd.mpr ⟨u1, by rw [u6]; exact ec.mpr c0⟩)]
          · rw [if_neg (by omega), if_neg (fun w => c0 (ec.mp (by rw [← u6]; exact (dd.mp w).2)))]
    · by_cases hpl : plain S f
      · rw [if_pos hpl] at r4 ⊢
        exact ⟨r4.1, r4.2.1⟩
      · rw [if_neg hpl] at r4 ⊢
        by_cases cM : isM S f
        · rw [if_pos cM] at r4 ⊢
          obtain ⟨u1, u2, ps, u3, u4, u5, u6, u7, u8⟩ := r4
          exact ⟨u1, u2, ps, u4, by rw [u3]; exact q1, u5, u6, by rw [u3]; exact u7, u8⟩
        · rw [if_neg cM] at r4 ⊢
          exact r4
end Ph
