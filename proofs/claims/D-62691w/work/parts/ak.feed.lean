set_option maxRecDepth 100000
/-! BOTH SIDES TOGETHER: feed -/
def four (u : Int) : List UInt8 := [u8 (iShr u 24), u8 (iShr u 16), u8 (iShr u 8), u8 (iShr u 0)]
def selU (u1 u2 u3 u4 u5 : Int) (j : Nat) : Int := if 4 ≤ j then (if 8 ≤ j then (if 12 ≤ j then (if 16 ≤ j then u5 else u4) else u3) else u2) else u1
def fbs (u1 u2 u3 u4 u5 : Int) (j : Nat) : UInt8 := u8 (iShr (selU u1 u2 u3 u4 u5 j) (24 - 8 * ((j % 4 : Nat) : Int)))
/-- bytes were put behind on the tape -/
def TPE (a0 tp : Nat) (σ : ST) (k : Nat) (l : List UInt8) (σ' : ST) : Prop := (sc σ' = sc σ ∧ sR σ' = sR σ ∧ sN σ' = sN σ ∧ sW σ' = sW σ ∧ sZ σ' = sZ σ ∧ sC σ' = sC σ ∧ sS σ' = sS σ) ∧ FR (fun c => c = a0 ∨ c = tp) σ σ' ∧ sI σ' 3 a0 = sI σ 3 a0 ∧ sI σ' 2 a0 = ((k + l.length : Nat) : Int) ∧ (∀ c, c ≠ tp → sB σ' c = sB σ c) ∧ ∀ j, sB σ' tp j = if k ≤ j ∧ j < k + l.length then l.getD (j - k) 0 else sB σ tp j
section Fe
variable {S : SC} {fa ma ea : Nat → Nat} {od : Nat → List Nat} {y z a0 tp b sch ro rs n k : Nat} {w : List UInt8} {σ σ' σ1 σ2 : ST} {τ τ' : TT}
theorem TPE.tr {l l' : List UInt8} (h : TPE a0 tp σ k l σ1) (g : TPE a0 tp σ1 (k + l.length) l' σ2) : TPE a0 tp σ k (l ++ l') σ2 := by
  obtain ⟨⟨a1, a2, a3, a4, a5, a6, a7⟩, a8, a9, a10, a11, a12⟩ := h
  obtain ⟨⟨b1, b2, b3, b4, b5, b6, b7⟩, b8, b9, b10, b11, b12⟩ := g
  refine ⟨⟨b1.trans a1, b2.trans a2, b3.trans a3, b4.trans a4, b5.trans a5, b6.trans a6, b7.trans a7⟩, a8.tr b8 (fun _ _ q => q), b9.trans a9, by rw [b10, List.length_append, Nat.add_assoc], fun c hc => (b11 c hc).trans (a11 c hc), fun j => ?_⟩
  rw [b12, a12, List.length_append]
  by_cases c2 : k + l.length ≤ j ∧ j < k + l.length + l'.length
  · rw [if_pos c2, if_pos (by omega), List.getD_eq_getElem?_getD, List.getD_eq_getElem?_getD, List.getElem?_append_right (by omega), show j - k - l.length = j - (k + l.length) by omega]
  · rw [if_neg c2]
    by_cases c1 : k ≤ j ∧ j < k + l.length
    · rw [if_pos c1, if_pos (by omega), List.getD_eq_getElem?_getD, List.getD_eq_getElem?_getD, List.getElem?_append_left (by omega)]
    · rw [if_neg c1, if_neg (by omega)]
theorem pf_1 (u : Int) {x : Int} (hx : 0 ≤ x ∧ x ≤ 24) (h1 : sc σ a0 = 1) (h2 : sR σ 0 a0 = some tp) (h3 : sc σ tp = 101) (h4 : sN σ tp = 1000) (hk : k < 1000) (h5 : sI σ 2 a0 = (k : Int)) : ∃ σ1, (∀ (bb : Nat × Nat) (N : Nat), ws_putFour_L3 bb a0 u (N + 1) x σ = ws_putFour_L3 bb a0 u N (x + -8) σ1) ∧ TPE a0 tp σ k [u8 (iShr u x)] σ1 := by
  refine ⟨pI (pB σ tp k (u8 (iShr u x))) 2 a0 ((k : Int) + 1), fun bb N => ?_, ⟨rfl, rfl, rfl, rfl, rfl, rfl, rfl⟩, ?_, ?_, ?_, fun c hc => ?_, fun j => ?_⟩
  · rw [ws_putFour_L3, gd_pos (by omega), if_neg (by omega), gd_pos h1, h2, bind_some', gd_pos h3, h5, gd_pos (by rw [h4]; omega), nm_eq, Int.toNat_natCast, u8_iB, gd_pos (show sc (pB σ tp k (u8 (iShr u x))) a0 = 1 from h1), show sI (pB σ tp k (u8 (iShr u x))) 2 a0 = (k : Int) from h5, nm_eq]
  · exact (FR.at1 (W := fun c => c = a0 ∨ c = tp) (at_pB σ tp k _) (Or.inr rfl)).tr (FR.at1 (W := fun c => c = a0 ∨ c = tp) (at_pI _ 2 a0 _) (Or.inl rfl)) (fun _ _ q => q)
  · rw [sI_pI, if_neg (by omega), sI_pB]
  · rw [sI_pI, if_pos ⟨rfl, rfl⟩]; simp only [List.length_cons, List.length_nil]; omega
  · show sB (pB σ tp k _) c = _
    funext j
    rw [sB_pB, if_neg (fun q => hc q.1)]
  · show sB (pB σ tp k _) tp j = _
    rw [sB_pB, show [u8 (iShr u x)].length = 1 from rfl]
    by_cases e : j = k
    · rw [if_pos ⟨rfl, e⟩, if_pos (by omega), e, Nat.sub_self]; rfl
    · rw [if_neg (fun q => e q.2), if_neg (by omega)]
theorem pf_eq (u : Int) (h1 : sc σ a0 = 1) (h2 : sR σ 0 a0 = some tp) (h3 : sc σ tp = 101) (h4 : sN σ tp = 1000) (hk : k + 4 ≤ 1000) (h5 : sI σ 2 a0 = (k : Int)) : ∃ σ1, (∀ bb : Nat × Nat, ws_putFour bb a0 u σ = some σ1) ∧ TPE a0 tp σ k (four u) σ1 := by
  obtain ⟨N, hN⟩ : ∃ N, FU = N + 1 + 1 + 1 + 1 + 1 := ⟨FU - 5, by have := FU_gt (m := 10) (by omega); omega⟩
  obtain ⟨X1, e1, f1⟩ := pf_1 u (x := 24) (by omega) h1 h2 h3 h4 (k := k) (by omega) h5
  obtain ⟨X2, e2, f2⟩ := pf_1 (σ := X1) u (x := 16) (by omega) (by rw [f1.1.1]; exact h1) (by rw [f1.1.2.1]; exact h2) (by rw [f1.1.1]; exact h3) (by rw [f1.1.2.2.1]; exact h4) (k := k + 1) (by omega) f1.2.2.2.1
  have g2 := f1.tr f2
  obtain ⟨X3, e3, f3⟩ := pf_1 (σ := X2) u (x := 8) (by omega) (by rw [g2.1.1]; exact h1) (by rw [g2.1.2.1]; exact h2) (by rw [g2.1.1]; exact h3) (by rw [g2.1.2.2.1]; exact h4) (k := k + 2) (by omega) g2.2.2.2.1
  have g3 := g2.tr f3
  obtain ⟨X4, e4, f4⟩ := pf_1 (σ := X3) u (x := 0) (by omega) (by rw [g3.1.1]; exact h1) (by rw [g3.1.2.1]; exact h2) (by rw [g3.1.1]; exact h3) (by rw [g3.1.2.2.1]; exact h4) (k := k + 3) (by omega) g3.2.2.2.1
  have g4 := g3.tr f4
  refine ⟨X4, fun bb => ?_, g4⟩
  unfold ws_putFour
  rw [hN, e1]
  rw [show (24 : Int) + -8 = 16 by decide, e2, show (16 : Int) + -8 = 8 by decide, e3, show (8 : Int) + -8 = 0 by decide, e4, ws_putFour_L3, gd_pos (by omega), if_pos (by omega)]
theorem m_feed_L (u1 u2 u3 u4 u5 : Int) : ∀ (c N i : Nat) (τ : TT), tI τ 4 = (k : Int) → k + 20 ≤ 1000 → i + c = 20 → c < N → ∃ τ', m_feed_L23 u1 u2 u3 u4 u5 N (i : Int) τ = some τ' ∧ TF [1] τ τ' ∧ ∀ j, tA τ' 1 j = if k + i ≤ j ∧ j < k + 20 then ((fbs u1 u2 u3 u4 u5 (j - k)).toNat : Int) else tA τ 1 j
  | c, 0, i, τ, _, _, _, h => by omega
  | 0, N + 1, i, τ, h4, hk, h, _ => ⟨τ, by rw [m_feed_L23, gd_pos (by omega), if_pos (by omega)], TF.refl _ _, fun j => by rw [if_neg (by omega)]⟩
  | c + 1, N + 1, i, τ, h4, hk, h, hN => by
    obtain ⟨τ', e, f, q⟩ := m_feed_L u1 u2 u3 u4 u5 c N (i + 1) (uA τ 1 (k + i) ((fbs u1 u2 u3 u4 u5 i).toNat : Int)) h4 hk (by omega) (by omega)
    refine ⟨τ', ?_, ((TF.refl _ τ).uA (by decide) _ _).tr f (fun _ w => w), fun j => ?_⟩
    · have es : (if 4 ≤ (i : Int) then (if 8 ≤ (i : Int) then (if 12 ≤ (i : Int) then (if 16 ≤ (i : Int) then (some u5) else (some u4)) else (some u3)) else (some u2)) else (some u1)) = some (selU u1 u2 u3 u4 u5 i) := by
        unfold selU
        by_cases c4 : 4 ≤ i
        · rw [if_pos (by omega), if_pos c4]
          by_cases c8 : 8 ≤ i
          · rw [if_pos (by omega), if_pos c8]
            by_cases c12 : 12 ≤ i
            · rw [if_pos (by omega), if_pos c12]
              by_cases c16 : 16 ≤ i
              · rw [if_pos (by omega), if_pos c16]
              · rw [if_neg (by omega), if_neg c16]
            · rw [if_neg (by omega), if_neg c12]
          · rw [if_neg (by omega), if_neg c8]
        · rw [if_neg (by omega), if_neg c4]
      rw [m_feed_L23, gd_pos (by omega), if_neg (by omega), es, bind_some', h4, gd_pos (by omega), nm_eq, show ((k : Int) + (i : Int)).toNat = k + i by omega, iRem_n (x := (i : Int)) (y := 4) (a := i) (b := 4) rfl rfl (by omega) (by omega) (by omega), iAnd255, show (i : Int) + 1 = ((i + 1 : Nat) : Int) by omega]
      exact e
    · rw [q j, tA_uA]
      by_cases c1 : j = k + i
      · rw [if_neg (by omega), if_pos ⟨rfl, c1⟩, if_pos (by omega), show j - k = i by omega]
      · rw [if_neg (show ¬ ((1 : Nat) = 1 ∧ j = k + i) from fun u => c1 u.2)]
        by_cases c2 : k + (i + 1) ≤ j ∧ j < k + 20
        · rw [if_pos c2, if_pos (by omega)]
        · rw [if_neg c2, if_neg (by omega)]
theorem fbs_l (u1 u2 u3 u4 u5 : Int) (j : Nat) (hj : j < 20) : (four u1 ++ four u2 ++ four u3 ++ four u4 ++ four u5).getD j 0 = fbs u1 u2 u3 u4 u5 j := by
  have : j = 0 ∨ j = 1 ∨ j = 2 ∨ j = 3 ∨ j = 4 ∨ j = 5 ∨ j = 6 ∨ j = 7 ∨ j = 8 ∨ j = 9 ∨ j = 10 ∨ j = 11 ∨ j = 12 ∨ j = 13 ∨ j = 14 ∨ j = 15 ∨ j = 16 ∨ j = 17 ∨ j = 18 ∨ j = 19 := by omega
  rcases this with q | q | q | q | q | q | q | q | q | q | q | q | q | q | q | q | q | q | q | q <;> subst q <;> rfl
theorem feed_eq (h : INV S fa ma ea od y z a0 tp b sch ro rs n k w σ τ) (u1 u2 u3 u4 u5 : Int) : ∃ r σ' τ' k', (∀ bb : Nat × Nat, ws_feed bb a0 u1 u2 u3 u4 u5 σ = some (r, σ')) ∧ m_feed u1 u2 u3 u4 u5 τ = some (r, τ') ∧ rg r ∧ INV S fa ma ea od y z a0 tp b sch ro rs n k' w σ' τ' ∧ sC σ' = sC σ ∧ sS σ' = sS σ ∧ sN σ' = sN σ ∧ k' ≤ k + 20 ∧ inp σ' b = inp σ b := by
  obtain ⟨h1, h2, ⟨o1, o2, o3, o4, o5, o6, o7, ⟨p1, p2, p3⟩, ⟨b1, b2, b3⟩, o10, o11, o13, o14⟩, h4, ⟨h5, h6⟩, ⟨k1, k2, k3, k4⟩, ⟨e1, h8⟩, h9, h10⟩ := id h
  have hI := h.tf (z_f τ) (by decide)
  have t4 : tI (uI τ 0 0) 4 = (k : Int) := k3
  unfold ws_feed m_feed
  rw [nm_eq, t4, gd_pos (by omega)]
  by_cases c : (k : Int) + 20 ≤ 1000
  · rw [if_pos c]
    obtain ⟨X1, e1', f1⟩ := pf_eq (σ := σ) (k := k) u1 o1 o3 p1 p2 (by omega) k2
    obtain ⟨X2, e2', f2⟩ := pf_eq (σ := X1) (k := k + 4) u2 (by rw [f1.1.1]; exact o1) (by rw [f1.1.2.1]; exact o3) (by rw [f1.1.1]; exact p1) (by rw [f1.1.2.2.1]; exact p2) (by omega) f1.2.2.2.1
    have g2 := f1.tr f2
    obtain ⟨X3, e3', f3⟩ := pf_eq (σ := X2) (k := k + 8) u3 (by rw [g2.1.1]; exact o1) (by rw [g2.1.2.1]; exact o3) (by rw [g2.1.1]; exact p1) (by rw [g2.1.2.2.1]; exact p2) (by omega) g2.2.2.2.1
    have g3 := g2.tr f3
    obtain ⟨X4, e4', f4⟩ := pf_eq (σ := X3) (k := k + 12) u4 (by rw [g3.1.1]; exact o1) (by rw [g3.1.2.1]; exact o3) (by rw [g3.1.1]; exact p1) (by rw [g3.1.2.2.1]; exact p2) (by omega) g3.2.2.2.1
    have g4 := g3.tr f4
    obtain ⟨X5, e5', f5⟩ := pf_eq (σ := X4) (k := k + 16) u5 (by rw [g4.1.1]; exact o1) (by rw [g4.1.2.1]; exact o3) (by rw [g4.1.1]; exact p1) (by rw [g4.1.2.2.1]; exact p2) (by omega) g4.2.2.2.1
    have g5 := g4.tr f5
    obtain ⟨τ1, q1, q2, q3⟩ := m_feed_L (k := k) u1 u2 u3 u4 u5 20 FU 0 (uI τ 0 0) t4 (by omega) (by omega) (FU_gt (by omega))
    have q1' : m_feed_L23 u1 u2 u3 u4 u5 FU 0 (uI τ 0 0) = some τ1 := q1
    have s4 : tI τ1 4 = (k : Int) := by rw [(q2 4 (by decide)).1]; exact t4
    have eF : ∀ bb : Nat × Nat, (gd (sc σ a0 = 1) (gd (rg ((sI σ 2 a0) + 20)) (if ((sI σ 2 a0) + 20) ≤ 1000 then (Option.bind (ws_putFour bb a0 u1 σ) fun y5 => gd (sc y5 a0 = 1) (Option.bind (ws_putFour bb a0 u2 y5) fun y7 => gd (sc y7 a0 = 1) (Option.bind (ws_putFour bb a0 u3 y7) fun y9 => gd (sc y9 a0 = 1) (Option.bind (ws_putFour bb a0 u4 y9) fun y11 => gd (sc y11 a0 = 1) (Option.bind (ws_putFour bb a0 u5 y11) fun y13 => some ((1, y13))))))) else (some ((0, σ))))) : Option (Int × ST)) = some (1, X5) := fun bb => by
      rw [gd_pos o1, k2, gd_pos (by omega), if_pos c, e1', bind_some', gd_pos (show sc X1 a0 = 1 by rw [f1.1.1]; exact o1), e2', bind_some', gd_pos (show sc X2 a0 = 1 by rw [g2.1.1]; exact o1), e3', bind_some', gd_pos (show sc X3 a0 = 1 by rw [g3.1.1]; exact o1), e4', bind_some', gd_pos (show sc X4 a0 = 1 by rw [g4.1.1]; exact o1), e5', bind_some']
    rw [q1', bind_some', nm_eq, s4]
    obtain ⟨τ2, ht⟩ : ∃ τ2, τ2 = uI τ1 4 ((k : Int) + 20) := ⟨_, rfl⟩
    rw [← ht]
    have f2' : TF [0, 1, 4] τ τ2 := by
      rw [ht]
      exact (((z_f τ).mono (by decide)).tr q2 (by decide)).uI (by decide) _
    obtain ⟨⟨r1, r2, r3, r4, r5, r6, r7⟩, r8, r9, r10, r11, r12⟩ := g5
    have len20 : (four u1 ++ four u2 ++ four u3 ++ four u4 ++ four u5).length = 20 := rfl
    rw [len20] at r10 r12
    have eb : inp X5 b = inp σ b := by funext j; unfold inp; rw [r11 b (fun q => o10 q.symm)]
    refine ⟨1, X5, τ2, k + 20, eF, rfl, by omega, ⟨h1, h.keep r8 (fun c _ q => ?_), ?_, h4, ⟨by rw [r9]; exact h5, by rw [eb]; exact h6.tr f2' (by decide) (by decide)⟩, ⟨by omega, r10, ?_, fun j hj => ?_⟩, ⟨by rw [r4]; exact e1, h8.tr f2' (by decide) (by decide)⟩, ?_, h10.tr f2' (by decide)⟩, r6, r7, r3, Nat.le_refl _, eb⟩
    · rcases q with q | q <;> rw [q] <;> simp
    · unfold OWN RW
      rw [r1, r2, r3, r4, r5]
      exact ⟨o1, o2, o3, o4, o5, o6, o7, ⟨p1, p2, p3⟩, ⟨b1, b2, b3⟩, o10, o11, o13, o14⟩
    · rw [ht, tI_uI, if_pos rfl]; omega
    · have t1 : tA τ2 1 j = tA τ1 1 j := by rw [ht]; rfl
      rw [t1, q3 j, r12 j]
      by_cases cj : k ≤ j
      · rw [if_pos (by omega), if_pos (by omega), fbs_l _ _ _ _ _ _ (by omega)]
      · rw [if_neg (by omega), if_neg (by omega)]
        exact k4 j (by omega)
    · rw [(f2' 58 (by decide)).1]; exact h9
  · rw [if_neg c]
    exact ⟨0, σ, _, k, fun bb => by rw [gd_pos o1, k2, gd_pos (by omega), if_neg c], rfl, by omega, hI, rfl, rfl, rfl, Nat.le_add_right _ _, rfl⟩
end Fe
