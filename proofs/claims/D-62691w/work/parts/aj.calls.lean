set_option maxRecDepth 100000
/-! BOTH SIDES TOGETHER: end, turn -/
section Ca
variable {S : SC} {fa ma ea : Nat → Nat} {od : Nat → List Nat} {y z a0 tp b sch ro rs n k : Nat} {w : List UInt8} {σ σ' : ST} {τ τ' : TT}
/-- the schema stays when the system writes its own objects only -/
theorem INV.keep (h : INV S fa ma ea od y z a0 tp b sch ro rs n k w σ τ) {W : Nat → Prop} (F : FR W σ σ') (hW : ∀ x, x < sZ σ → W x → x ∈ [a0, tp, b, ro, rs]) : HSc z σ' S fa ma ea od ∧ HSy y σ' S fa ma ea ∧ HSd y z σ' S fa ma ea sch := by
  obtain ⟨-, ⟨h1, h2, h3⟩, -, h4, -⟩ := h
  have F' : FR (fun b => b < y ∨ z ≤ b) σ σ' := ⟨F.1, fun x hx => ⟨(F.2 x hx).1, fun q => (F.2 x hx).2 (fun u => q (h4 x (hW x hx u)))⟩⟩
  obtain ⟨q1, q2⟩ := HS2.kept h1 h2 F'
  exact ⟨q1, q2, h3.kept h1.1 F'⟩
theorem m_end_L : ∀ (c N i : Nat) (τ : TT), i + c = n → c < N → n ≤ 1000 → ∃ τ', m_end_L21 (n : Int) N (i : Int) τ = some τ' ∧ TF [2] τ τ' ∧ ∀ j, j < n → tA τ' 2 j = if j < i then tA τ 2 j else tA τ 1 j
  | c, 0, i, τ, _, h, _ => by omega
  | 0, N + 1, i, τ, h, _, hn => ⟨τ, by rw [m_end_L21, gd_pos (by omega), gd_pos (by omega), if_pos (by omega)], TF.refl _ _, fun j hj => by rw [if_pos (by omega)]⟩
  | c + 1, N + 1, i, τ, h, hN, hn => by
    obtain ⟨τ', e, f, q⟩ := m_end_L c N (i + 1) (uA τ 2 i (tA τ 1 i)) (by omega) (by omega) hn
    refine ⟨τ', ?_, ((TF.refl _ τ).uA (by decide) _ _).tr f (fun _ w => w), fun j hj => ?_⟩
    · rw [m_end_L21, gd_pos (by omega), gd_pos (by omega), if_neg (by omega), gd_pos (by omega), nm_eq, Int.toNat_natCast, show (i : Int) + 1 = ((i + 1 : Nat) : Int) by omega, e]
    · rw [q j hj, tA_uA, tA_uA, if_neg (show ¬ ((1 : Nat) = 2 ∧ j = i) by omega)]
      by_cases c1 : j < i
      · rw [if_pos (by omega), if_pos c1, if_neg (by omega)]
      · by_cases c2 : j = i
        · rw [if_pos (by omega), if_neg c1, if_pos ⟨rfl, c2⟩, c2]
        · rw [if_neg (by omega), if_neg c1]
theorem end_eq (h : INV S fa ma ea od y z a0 tp b sch ro rs n k w σ τ) {x : Int} (hx : rg x) (bb : Nat × Nat) : ∃ r σ' τ' n' k', ws_end bb a0 x σ = some (r, σ') ∧ m_end x τ = some (r, τ') ∧ rg r ∧ INV S fa ma ea od y z a0 tp b sch ro rs n' k' w σ' τ' ∧ sC σ' = sC σ ∧ sS σ' = sS σ ∧ sN σ' = sN σ ∧ ((n' = n ∧ k' = k ∧ inp σ' b = inp σ b) ∨ (n' ≤ k ∧ k' = 0)) := by
  obtain ⟨h1, h2, ⟨o1, o2, o3, o4, o5, o6, o7, ⟨p1, p2, p3⟩, ⟨b1, b2, b3⟩, o10, o11, o13, o14⟩, h4, ⟨h5, h6⟩, ⟨k1, k2, k3, k4⟩, ⟨e1, h8⟩, h9, h10⟩ := id h
  have hI := h.tf (z_f τ) (by decide)
  have t4 : tI (uI τ 0 0) 4 = (k : Int) := k3
  unfold ws_end m_end
  rw [gd_pos hx, gd_pos (show ¬ x < 0 → sc σ a0 = 1 from fun _ => o1), k2, gd_pos (show ¬ x < 0 → rg (k : Int) by omega), nm_eq, gd_pos hx, t4, gd_pos (show ¬ x < 0 → rg (k : Int) by omega)]
  by_cases c : x < 0 ∨ ¬ x ≤ (k : Int)
  · rw [if_pos c, if_pos c]
    exact ⟨0, σ, _, n, k, rfl, rfl, by omega, hI, rfl, rfl, rfl, Or.inl ⟨rfl, rfl, rfl⟩⟩
  · rw [if_neg c, if_neg c]
    obtain ⟨m, rfl⟩ : ∃ m : Nat, x = (m : Int) := ⟨x.toNat, by omega⟩
    obtain ⟨τ1, q1, q2, q3⟩ := m_end_L (n := m) m FU 0 (uI τ 0 0) (by omega) (FU_gt (by omega)) (by omega)
    have q1' : m_end_L21 (m : Int) FU 0 (uI τ 0 0) = some τ1 := q1
    rw [gd_pos o1, o4, bind_some', gd_pos b1, o3, bind_some', gd_pos p1, gd_pos (by rw [b2, p2]; omega), nm_eq, Int.toNat_natCast, gd_pos (show sc (pC σ b (sB σ tp) m) a0 = 1 from o1), nm_eq, gd_pos (show sc (pI (pC σ b (sB σ tp) m) 3 a0 (m : Int)) a0 = 1 from o1), nm_eq, q1', bind_some', nm_eq, nm_eq]
    obtain ⟨X, hX⟩ : ∃ X, X = pI (pI (pC σ b (sB σ tp) m) 3 a0 (m : Int)) 2 a0 0 := ⟨_, rfl⟩
    obtain ⟨τ2, ht⟩ : ∃ τ2, τ2 = uI (uI τ1 5 (m : Int)) 4 0 := ⟨_, rfl⟩
    rw [← hX, ← ht]
    have F : FR (fun c => c = a0 ∨ c = b) σ X := by
      rw [hX]
      exact ((FR.at1 (W := fun c => c = a0 ∨ c = b) (at_pC σ b (sB σ tp) m) (Or.inr rfl)).tr (FR.at1 (W := fun c => c = a0 ∨ c = b) (at_pI _ 3 a0 (m : Int)) (Or.inl rfl)) (fun _ _ q => q)).tr (FR.at1 (W := fun c => c = a0 ∨ c = b) (at_pI _ 2 a0 0) (Or.inl rfl)) (fun _ _ q => q)
    have f2 : TF [0, 2, 4, 5] τ τ2 := by
      rw [ht]
      exact ((((z_f τ).mono (by decide)).tr q2 (by decide)).uI (by decide) _).uI (by decide) _
    have hB : ∀ c j, sB X c j = if c = b then (if j < m then sB σ tp j else sB σ b j) else sB σ c j := fun c j => by
      rw [hX]
      show sB (pC σ b (sB σ tp) m) c j = _
      rw [sB_pC_]
      by_cases u : c = b
      · rw [if_pos u, if_pos u]
      · rw [if_neg u, if_neg u]
    have t2 : tA τ2 2 = tA τ1 2 := by rw [ht]; rfl
    refine ⟨1, X, τ2, m, 0, rfl, rfl, by omega, ⟨h1, h.keep F (fun c _ q => ?_), ?_, h4, ⟨?_, ?_, by omega, fun j hj => ?_, inp_lt X b⟩, ⟨by omega, ?_, ?_, fun j hj => by omega⟩, ⟨?_, h8.tr f2 (by decide) (by decide)⟩, ?_, h10.tr f2 (by decide)⟩, ?_, ?_, ?_, Or.inr ⟨by omega, rfl⟩⟩
    · rcases q with q | q <;> rw [q] <;> simp
    · rw [hX]; exact ⟨o1, o2, o3, o4, o5, o6, o7, ⟨p1, p2, p3⟩, ⟨b1, b2, b3⟩, o10, o11, o13, o14⟩
    · rw [hX, sI_pI, if_neg (by omega), sI_pI, if_pos ⟨rfl, rfl⟩]
    · rw [ht]; rfl
    · rw [t2, q3 j hj, if_neg (by omega)]
      show tA (uI τ 0 0) 1 j = ((sB X b j).toNat : Int)
      rw [hB, if_pos rfl, if_pos hj]
      exact k4 j (by omega)
    · rw [hX, sI_pI, if_pos ⟨rfl, rfl⟩]; rfl
    · rw [ht]; rfl
    · rw [hX]; exact e1
    · rw [(f2 58 (by decide)).1]; exact h9
    · rw [hX]; rfl
    · rw [hX]; rfl
    · rw [hX]; rfl
theorem m_turn_L : ∀ (c N i : Nat) (τ : TT), tI τ 6 = (n : Int) → i + c = n → c < N → n ≤ 1000 → ∃ τ', m_turn_L19 N (i : Int) τ = some τ' ∧ TF [2] τ τ' ∧ ∀ j, j < n → tA τ' 2 j = if j < i then tA τ 2 j else tA τ 3 j
  | c, 0, i, τ, _, _, h, _ => by omega
  | 0, N + 1, i, τ, h6, h, _, hn => ⟨τ, by rw [m_turn_L19, h6, gd_pos (by omega), gd_pos (by omega), if_pos (by omega)], TF.refl _ _, fun j hj => by rw [if_pos (by omega)]⟩
  | c + 1, N + 1, i, τ, h6, h, hN, hn => by
    obtain ⟨τ', e, f, q⟩ := m_turn_L c N (i + 1) (uA τ 2 i (tA τ 3 i)) h6 (by omega) (by omega) hn
    refine ⟨τ', ?_, ((TF.refl _ τ).uA (by decide) _ _).tr f (fun _ w => w), fun j hj => ?_⟩
    · rw [m_turn_L19, h6, gd_pos (by omega), gd_pos (by omega), if_neg (by omega), gd_pos (by omega), gd_pos (by omega), nm_eq, Int.toNat_natCast, show (i : Int) + 1 = ((i + 1 : Nat) : Int) by omega, e]
    · rw [q j hj, tA_uA, tA_uA, if_neg (show ¬ ((3 : Nat) = 2 ∧ j = i) by omega)]
      by_cases c1 : j < i
      · rw [if_pos (by omega), if_pos c1, if_neg (by omega)]
      · by_cases c2 : j = i
        · rw [if_pos (by omega), if_neg c1, if_pos ⟨rfl, c2⟩, c2]
        · rw [if_neg (by omega), if_neg c1]
theorem turn_eq (h : INV S fa ma ea od y z a0 tp b sch ro rs n k w σ τ) (bb : Nat × Nat) : ∃ r σ' τ' n', ws_turn bb a0 σ = some (r, σ') ∧ m_turn τ = some (r, τ') ∧ rg r ∧ INV S fa ma ea od y z a0 tp b sch ro rs n' k w σ' τ' ∧ sC σ' = sC σ ∧ sS σ' = sS σ ∧ sN σ' = sN σ ∧ ((n' = n ∧ inp σ' b = inp σ b) ∨ (n' = w.length ∧ n' ≤ 1000 ∧ ∀ j, j < n' → inp σ' b j = (w.getD j 0).toNat)) := by
  obtain ⟨h1, h2, ⟨o1, o2, o3, o4, o5, o6, o7, ⟨p1, p2, p3⟩, ⟨b1, b2, b3⟩, o10, o11, o13, o14⟩, h4, ⟨h5, h6⟩, ⟨k1, k2, k3, k4⟩, ⟨e1, w1, w2, w3⟩, h9, h10⟩ := id h
  have hI := h.tf (z_f τ) (by decide)
  have t6 : tI (uI τ 0 0) 6 = (w.length : Int) := w2
  unfold ws_turn m_turn
  rw [gd_pos o1, o6, bind_some', gd_pos o11.1.1, e1, nm_eq, t6, gd_pos (by omega)]
  by_cases c : (w.length : Int) ≤ 1000
  · rw [if_pos c, if_pos c]
    obtain ⟨τ1, q1, q2, q3⟩ := m_turn_L (n := w.length) w.length FU 0 (uI τ 0 0) t6 (by omega) (FU_gt (by omega)) (by omega)
    have q1' : m_turn_L19 FU 0 (uI τ 0 0) = some τ1 := q1
    have s6 : tI τ1 6 = (w.length : Int) := by rw [(q2 6 (by decide)).1]; exact t6
    rw [o4, bind_some', gd_pos b1, gd_pos (by rw [b2]; omega), nm_eq, Int.toNat_natCast, gd_pos (show sc (pC σ b (fun j => w.getD j 0) w.length) a0 = 1 from o1), show sR (pC σ b (fun j => w.getD j 0) w.length) 5 a0 = some ro from o6, bind_some', gd_pos (show sc (pC σ b (fun j => w.getD j 0) w.length) ro = 4 from o11.1.1), show sW (pC σ b (fun j => w.getD j 0) w.length) ro = w from e1, nm_eq, q1', bind_some', nm_eq, s6]
    obtain ⟨X, hX⟩ : ∃ X, X = pI (pC σ b (fun j => w.getD j 0) w.length) 3 a0 (w.length : Int) := ⟨_, rfl⟩
    obtain ⟨τ2, ht⟩ : ∃ τ2, τ2 = uI τ1 5 (w.length : Int) := ⟨_, rfl⟩
    rw [← hX, ← ht]
    have F : FR (fun c => c = a0 ∨ c = b) σ X := by
      rw [hX]
      exact (FR.at1 (W := fun c => c = a0 ∨ c = b) (at_pC σ b _ w.length) (Or.inr rfl)).tr (FR.at1 (W := fun c => c = a0 ∨ c = b) (at_pI _ 3 a0 (w.length : Int)) (Or.inl rfl)) (fun _ _ q => q)
    have f2 : TF [0, 2, 5] τ τ2 := by
      rw [ht]
      exact (((z_f τ).mono (by decide)).tr q2 (by decide)).uI (by decide) _
    have hB : ∀ c j, sB X c j = if c = b then (if j < w.length then w.getD j 0 else sB σ b j) else sB σ c j := fun c j => by
      rw [hX]
      show sB (pC σ b (fun j => w.getD j 0) w.length) c j = _
      rw [sB_pC_]
      by_cases u : c = b
      · rw [if_pos u, if_pos u]
      · rw [if_neg u, if_neg u]
    have t2 : tA τ2 2 = tA τ1 2 := by rw [ht]; rfl
    refine ⟨1, X, τ2, w.length, rfl, rfl, by omega, ⟨h1, h.keep F (fun c _ q => ?_), ?_, h4, ⟨?_, ?_, by omega, fun j hj => ?_, inp_lt X b⟩, ⟨k1, ?_, ?_, fun j hj => ?_⟩, ⟨?_, OW.tr ⟨w1, w2, w3⟩ f2 (by decide) (by decide)⟩, ?_, h10.tr f2 (by decide)⟩, ?_, ?_, ?_, Or.inr ⟨rfl, by omega, fun j hj => by show (sB X b j).toNat = _; rw [hB, if_pos rfl, if_pos hj]⟩⟩
    · rcases q with q | q <;> rw [q] <;> simp
    · rw [hX]; exact ⟨o1, o2, o3, o4, o5, o6, o7, ⟨p1, p2, p3⟩, ⟨b1, b2, b3⟩, o10, o11, o13, o14⟩
    · rw [hX, sI_pI, if_pos ⟨rfl, rfl⟩]
    · rw [ht]; rfl
    · rw [t2, q3 j hj, if_neg (by omega)]
      show tA (uI τ 0 0) 3 j = ((sB X b j).toNat : Int)
      rw [hB, if_pos rfl, if_pos hj]
      exact w3 j hj
    · rw [hX, sI_pI, if_neg (by omega)]; exact k2
    · rw [(f2 4 (by decide)).1]; exact k3
    · rw [(f2 1 (by decide)).2.2, hB, if_neg o10]; exact k4 j hj
    · rw [hX]; exact e1
    · rw [(f2 58 (by decide)).1]; exact h9
    · rw [hX]; rfl
    · rw [hX]; rfl
    · rw [hX]; rfl
  · rw [if_neg c, if_neg c]
    exact ⟨0, σ, _, n, rfl, rfl, by omega, hI, rfl, rfl, rfl, Or.inl ⟨rfl, rfl⟩⟩
end Ca
