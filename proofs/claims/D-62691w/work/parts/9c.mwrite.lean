set_option maxRecDepth 100000
/-! WIRE: how the reference writes tags, numbers, texts and lengths -/
section MW
variable {τ : TT} {S : SC} {f : Nat} {w : List UInt8}
theorem wrK_rg (S : SC) (f : Nat) : 0 ≤ wrK S f ∧ wrK S f ≤ 5 := by
  unfold wrK
  split
  · omega
  · split
    · omega
    · split <;> omega
theorem wrK_plain (hS : SW S) (hf : f < nF_ S) : wrK S f = 2 ↔ ¬ plain S f := by
  have h1 := (hS.2.2.2.2.1 f hf).2.2.2.1
  have := hS.2.2.1
  unfold wrK plain isM
  split
  · omega
  · split
    · omega
    · split <;> omega
theorem m_ownKind_eq (hS : SW S) (hT : TSc τ S) (hf : f < nF_ S) : m_ownKind (f : Int) τ = some (wrK S f) := by
  have h1 := (hS.2.2.2.2.1 f hf).2.2.2.1
  have := hS.2.2.1
  have := hS.2.2.2.1
  have h50 := hS.1
  have t := (hT.2.2.2.2.1 f hf).2.2.1
  unfold m_ownKind wrK
  rw [gd_pos (by omega), nm_eq, Int.toNat_natCast, t, gd_pos (by omega)]
  by_cases c6 : qk S f = 6
  · rw [if_pos (by omega), if_pos c6]
  · rw [if_neg (by omega), if_neg c6]
    by_cases c7 : qk S f = 7
    · rw [if_pos (by omega), if_pos c7]
    · rw [if_neg (by omega), if_neg c7]
      by_cases c9 : qk S f = 9 ∨ qk S f = 10
      · rw [if_pos (by omega), if_pos (by omega)]
      · rw [if_neg (by omega)]
        by_cases cm : isM S f
        · rw [if_neg (by omega), if_pos (Or.inr (Or.inr cm))]
        · rw [if_pos (by omega), if_neg (fun q => q.elim (fun r => c9 (Or.inl r)) (fun r => r.elim (fun r => c9 (Or.inr r)) cm))]
theorem m_isPlain_eq (hS : SW S) (hT : TSc τ S) (hf : f < nF_ S) : m_isPlain (f : Int) τ = some (if plain S f then 1 else 0) := by
  have hp := wrK_plain hS hf
  have hr := wrK_rg S f
  unfold m_isPlain
  rw [m_ownKind_eq hS hT hf, bind_some', gd_pos (by omega)]
  by_cases c : plain S f
  · rw [if_neg (fun q => hp.mp q c), if_pos c]
  · rw [if_pos (hp.mpr c), if_neg c]
theorem m_putTag_eq (hS : SW S) (hT : TSc τ S) (hf : f < nF_ S) (h : OW τ w) (k : Int) (hl : w.length + (tagE S f k).length ≤ 4000) : ∃ τ', m_putTag (f : Int) k τ = some τ' ∧ MP τ w (tagE S f k) τ' := by
  have h50 := hS.1
  have t := (hT.2.2.2.2.1 f hf).2.1
  obtain ⟨τ', e, g⟩ := m_putVarint_eq h _ hl
  refine ⟨τ', ?_, g⟩
  unfold m_putTag
  rw [gd_pos (by omega), Int.toNat_natCast, t, e]
  rfl
theorem m_pw_L (x : Int64) (k u : Int) (m : Nat) (hu : u = (m : Int)) (hm : m ≤ 8) : ∀ (c N i : Nat) (τ : TT) (w : List UInt8), i + c = m → c < N → OW τ w → w.length + c ≤ 4000 → ∃ τ', m_putWhole_L61 x k u N (i : Int) τ = some τ' ∧ MP τ w (fxF x i c) τ'
  | c, 0, i, τ, w, _, h, _, _ => by omega
  | 0, N + 1, i, τ, w, h, _, hO, hl => ⟨τ, by rw [m_putWhole_L61, gd_pos (by omega), gd_pos (by omega), if_pos (by omega)], MP.nil hO⟩
  | c + 1, N + 1, i, τ, w, h, hN, hO, hl => by
    obtain ⟨τ1, e1, g1⟩ := m_put_eq hO (by omega) (iAnd (lI (lShr x (8 * (i : Int)))) 255)
    rw [u8_and] at g1
    obtain ⟨τ2, e2, g2⟩ := m_pw_L x k u m hu hm c N (i + 1) τ1 _ (by omega) (by omega) g1.2.1 (by rw [List.length_append]; simp only [List.length_cons, List.length_nil]; omega)
    refine ⟨τ2, ?_, g1.tr g2⟩
    rw [m_putWhole_L61, gd_pos (by omega), gd_pos (by omega), if_neg (by omega), e1, bind_some', show (i : Int) + 1 = ((i + 1 : Nat) : Int) by omega, e2]
theorem m_putWhole_eq (hS : SW S) (hT : TSc τ S) (hf : f < nF_ S) {x : Int64} (hV : NumV τ x) (h : OW τ w) (hl : w.length + (numE S f x).length ≤ 4000) : ∃ τ', m_putWhole (f : Int) τ = some τ' ∧ MP τ w (numE S f x) τ' := by
  have h1 := (hS.2.2.2.2.1 f hf).2.2.2.1
  have := hS.2.2.1
  have := hS.2.2.2.1
  have h50 := hS.1
  have t := (hT.2.2.2.2.1 f hf).2.2.1
  obtain ⟨v1, v2⟩ := hV
  have e0 : (gd (rg (tI τ 60)) (if (tI τ 60) = 0 then (some ((tJ τ 59))) else (some ((-(tJ τ 59))))) : Option Int64) = some x := by
    rw [gd_pos (by omega), ← v2]
    split <;> rfl
  have hr := wrK_rg S f
  unfold m_putWhole
  rw [e0, bind_some', gd_pos (by omega), nm_eq, Int.toNat_natCast, t, m_ownKind_eq hS hT hf, bind_some', bind_some', gd_pos (by omega)]
  unfold numE at hl ⊢
  by_cases c6 : qk S f = 6
  · have ew : wrK S f = 5 := by unfold wrK; rw [if_pos c6]
    rw [if_pos c6, fxF_len] at hl
    rw [if_pos c6, ew, if_neg (by omega), gd_pos (by omega), if_pos rfl, bind_some']
    obtain ⟨τ1, e1, g1⟩ := m_pw_L x (qk S f : Int) 4 4 rfl (by omega) 4 FU 0 τ w rfl (FU_gt (by omega)) h hl
    have e1' : m_putWhole_L61 x (qk S f : Int) 4 FU 0 τ = some τ1 := e1
    exact ⟨τ1, by rw [e1', bind_some', gd_pos (by omega), if_neg (by omega)], g1⟩
  · rw [if_neg c6] at hl ⊢
    by_cases c7 : qk S f = 7
    · have ew : wrK S f = 1 := by unfold wrK; rw [if_neg c6, if_pos c7]
      rw [if_pos c7, fxF_len] at hl
      rw [if_pos c7, ew, if_pos rfl, bind_some']
      obtain ⟨τ1, e1, g1⟩ := m_pw_L x (qk S f : Int) 8 8 rfl (by omega) 8 FU 0 τ w rfl (FU_gt (by omega)) h hl
      have e1' : m_putWhole_L61 x (qk S f : Int) 8 FU 0 τ = some τ1 := e1
      exact ⟨τ1, by rw [e1', bind_some', gd_pos (by omega), if_neg (by omega)], g1⟩
    · have ew : wrK S f ≠ 5 ∧ wrK S f ≠ 1 := by
        unfold wrK
        rw [if_neg c6, if_neg c7]
        split <;> omega
      rw [if_neg c7] at hl ⊢
      rw [if_neg ew.2, gd_pos (by omega), if_neg ew.1, bind_some']
      obtain ⟨τ1, e1, g1⟩ := m_pw_L x (qk S f : Int) 0 0 rfl (by omega) 0 FU 0 τ w rfl (FU_gt (by omega)) h (by have := h.1; omega)
      have e1' : m_putWhole_L61 x (qk S f : Int) 0 FU 0 τ = some τ1 := e1
      have g1' : OW τ1 w := by have := g1.2.1; rw [show fxF x 0 0 = [] from rfl, List.append_nil] at this; exact this
      obtain ⟨τ2, e2, g2⟩ := m_putVarint_eq g1' _ hl
      have ez : (gd (rg (qk S f : Int)) (if ((qk S f : Nat) : Int) = 4 then (some ((((lShl x 1) ^^^ (lShr x 63)) &&& 4294967295))) else (if ((qk S f : Nat) : Int) = 5 then (some (((lShl x 1) ^^^ (lShr x 63)))) else (some x))) : Option Int64) = some (zz (qk S f) x) := by
        rw [gd_pos (by omega)]
        unfold zz
        by_cases c4 : qk S f = 4
        · rw [if_pos (by omega), if_pos c4]
        · rw [if_neg (by omega), if_neg c4]
          by_cases c5 : qk S f = 5
          · rw [if_pos (by omega), if_pos c5]
          · rw [if_neg (by omega), if_neg c5]
      refine ⟨τ2, by rw [e1', bind_some', gd_pos (by omega), if_pos rfl, ez, bind_some', e2]; rfl, ?_⟩
      have g3 : MP τ1 (w ++ fxF x 0 0) (vrE 9 (zz (qk S f) x)) τ2 := by rw [show fxF x 0 0 = [] from rfl, List.append_nil]; exact g2
      exact g1.tr g3
theorem m_ps_L {b : List UInt8} (hb : b.length ≤ 1000) : ∀ (c N i : Nat) (τ : TT) (w : List UInt8), i + c = b.length → c < N → Said τ b → OW τ w → w.length + c ≤ 4000 → ∃ τ', m_putSaid_L2 N (i : Int) τ = some τ' ∧ MP τ w (b.drop i) τ'
  | c, 0, i, τ, w, _, h, _, _, _ => by omega
  | 0, N + 1, i, τ, w, h, _, hs, hO, hl => by
    rw [List.drop_eq_nil_of_le (by omega)]
    have e := hs.1
    exact ⟨τ, by rw [m_putSaid_L2, e, gd_pos (by omega), gd_pos (by omega), if_pos (by omega)], MP.nil hO⟩
  | c + 1, N + 1, i, τ, w, h, hN, hs, hO, hl => by
    have e := hs.1
    obtain ⟨τ1, e1, g1⟩ := m_put_eq hO (by omega) (tA τ 56 i)
    have e2 := hs.2 i (by omega)
    rw [e2, u8_b] at g1
    obtain ⟨τ2, e3, g2⟩ := m_ps_L hb c N (i + 1) τ1 _ (by omega) (by omega) (hs.tr g1.1 (by decide) (by decide)) g1.2.1 (by rw [List.length_append]; simp only [List.length_cons, List.length_nil]; omega)
    refine ⟨τ2, ?_, ?_⟩
    · rw [m_putSaid_L2, e, gd_pos (by omega), gd_pos (by omega), if_neg (by omega), gd_pos (by omega), Int.toNat_natCast, e1, bind_some', show (i : Int) + 1 = ((i + 1 : Nat) : Int) by omega, e3]
    · rw [drop_cons (by omega)]
      exact g1.tr g2
theorem m_putSaid_eq {b : List UInt8} (hb : b.length ≤ 1000) (hs : Said τ b) (h : OW τ w) (hl : w.length + b.length ≤ 4000) : ∃ τ', m_putSaid τ = some τ' ∧ MP τ w b τ' :=
  m_ps_L hb b.length FU 0 τ w (by omega) (FU_gt (by omega)) hs h hl
theorem lenE_w {b : List UInt8} (h : b.length < 16384) : (lenE b).length = if b.length < 128 then 1 else 2 := by
  unfold lenE
  rw [iL_n rfl (by omega), vrE, un_lN (by omega)]
  by_cases c : b.length < 128
  · rw [if_pos c, if_pos c]; rfl
  · rw [if_neg c, if_neg c, List.length_cons, vrE, un_ush, un_lN (by omega), if_pos (by omega)]; rfl
theorem m_pl0 (a x : Int) (u : Int) (m : Nat) (hu : u = (m : Int)) (hm : m ≤ 8) : ∀ (c N i : Nat) (τ : TT) (w : List UInt8), i + c = m → c < N → OW τ w → w.length + c ≤ 4000 → ∃ τ', m_putLength_L34 a x u N (i : Int) τ = some τ' ∧ MP τ w (List.replicate c 0) τ'
  | c, 0, i, τ, w, _, h, _, _ => by omega
  | 0, N + 1, i, τ, w, h, _, hO, hl => ⟨τ, by rw [m_putLength_L34, gd_pos (by omega), gd_pos (by omega), if_pos (by omega)], MP.nil hO⟩
  | c + 1, N + 1, i, τ, w, h, hN, hO, hl => by
    obtain ⟨τ1, e1, g1⟩ := m_put_eq hO (by omega) 0
    obtain ⟨τ2, e2, g2⟩ := m_pl0 a x u m hu hm c N (i + 1) τ1 _ (by omega) (by omega) g1.2.1 (by rw [List.length_append]; simp only [List.length_cons, List.length_nil]; omega)
    refine ⟨τ2, ?_, g1.tr g2⟩
    rw [m_putLength_L34, gd_pos (by omega), gd_pos (by omega), if_neg (by omega), e1, bind_some', show (i : Int) + 1 = ((i + 1 : Nat) : Int) by omega, e2]
/-- bytes move up by u -/
theorem m_pl1 (a u : Nat) (x : Int) (hu : 1 ≤ u ∧ u ≤ 8) : ∀ (c N : Nat) (τ : TT), a + u + c ≤ 4000 → c < N → ∃ τ', m_putLength_L59 (a : Int) x (u : Int) N (((a + u + c : Nat) : Int) - 1) τ = some τ' ∧ TF [3] τ τ' ∧ ∀ k, tA τ' 3 k = if a + u ≤ k ∧ k < a + u + c then tA τ 3 (k - u) else tA τ 3 k
  | c, 0, τ, _, h => by omega
  | 0, N + 1, τ, h, _ => ⟨τ, by rw [m_putLength_L59, gd_pos (by omega), gd_pos (by omega), if_pos (by omega)], TF.refl _ _, fun k => by rw [if_neg (by omega)]⟩
  | c + 1, N + 1, τ, h, hN => by
    obtain ⟨τ', e1, f1, g1⟩ := m_pl1 a u x hu c N (uA τ 3 (a + u + c) (tA τ 3 (a + c))) (by omega) (by omega)
    refine ⟨τ', ?_, (((TF.refl _ _).uA (by decide) _ _).tr f1 (fun _ q => q)), fun k => ?_⟩
    · rw [m_putLength_L59, gd_pos (by omega), gd_pos (by omega), if_neg (by omega), gd_pos (by omega), gd_pos (by omega), nm_eq, show (((a + u + (c + 1) : Nat) : Int) - 1).toNat = a + u + c by omega, show (((a + u + (c + 1) : Nat) : Int) - 1 - (u : Int)).toNat = a + c by omega, show ((a + u + (c + 1) : Nat) : Int) - 1 + (-1) = ((a + u + c : Nat) : Int) - 1 by omega, e1]
    · rw [g1 k]
      by_cases c1 : a + u ≤ k ∧ k < a + u + c
      · rw [if_pos c1, if_pos (by omega), tA_uA, if_neg (by omega)]
      · rw [if_neg c1, tA_uA]
        by_cases c2 : k = a + u + c
        · rw [if_pos ⟨rfl, c2⟩, if_pos (by omega), show k - u = a + c by omega]
        · rw [if_neg (fun q => c2 q.2), if_neg (by omega)]
theorem getD_app {a b : List UInt8} {k : Nat} : (a ++ b).getD k 0 = if k < a.length then a.getD k 0 else b.getD (k - a.length) 0 := by
  rw [List.getD_eq_getElem?_getD, List.getD_eq_getElem?_getD, List.getD_eq_getElem?_getD]
  by_cases c : k < a.length
  · rw [if_pos c, List.getElem?_append_left c]
  · rw [if_neg c, List.getElem?_append_right (by omega)]
theorem m_putLength_eq {b : List UInt8} (h1 : OW τ (w ++ b)) (hl : w.length + (lenE b).length + b.length ≤ 4000) {a : Int} (ha : a = (w.length : Int)) : ∃ τ', m_putLength a τ = some τ' ∧ TF KO τ τ' ∧ OW τ' (w ++ (lenE b ++ b)) := by
  subst ha
  have ew := lenE_w (b := b) (by omega)
  obtain ⟨u, hu⟩ : ∃ u, u = (lenE b).length := ⟨_, rfl⟩
  rw [← hu] at ew hl
  have e6 := h1.2.1
  rw [List.length_append] at e6
  have e5 : (gd (rg ((b.length : Nat) : Int)) (if 128 ≤ ((b.length : Nat) : Int) then (if 16384 ≤ ((b.length : Nat) : Int) then (some 3) else (some 2)) else (some 1)) : Option Int) = some (u : Int) := by
    rw [gd_pos (by omega)]
    by_cases c : b.length < 128
    · rw [if_pos c] at ew; rw [if_neg (by omega), ew]; rfl
    · rw [if_neg c] at ew; rw [if_pos (by omega), if_neg (by omega), ew]; rfl
  have hu2 : 1 ≤ u ∧ u ≤ 2 := by rw [ew]; split <;> omega
  have hlen := h1.1
  rw [List.length_append] at hlen
  obtain ⟨τ1, e1, g1⟩ := m_pl0 (w.length : Int) (b.length : Int) (u : Int) u rfl (by omega) u FU 0 τ _ (by omega) (FU_gt (by omega)) h1 (by rw [List.length_append]; omega)
  have e1' : m_putLength_L34 (w.length : Int) (b.length : Int) (u : Int) FU 0 τ = some τ1 := e1
  have e61 := g1.2.1.2.1
  rw [List.length_append, List.length_append, List.length_replicate] at e61
  obtain ⟨τ2, e2, f2, g2⟩ := m_pl1 w.length u (b.length : Int) (by omega) b.length FU τ1 (by omega) (FU_gt (by omega))
  have e62 : tI τ2 6 = ((w.length + u + b.length : Nat) : Int) := by rw [(f2 6 (by decide)).1, e61]; omega
  have O3 : OW (uI τ2 6 (w.length : Int)) w := by
    refine ⟨by omega, by rw [tI_uI, if_pos rfl], fun k hk => ?_⟩
    have q := g1.2.1.2.2 k (by rw [List.length_append, List.length_append]; omega)
    rw [tA_uI, g2 k, if_neg (by omega), q, List.append_assoc, getD_app, if_pos hk]
  obtain ⟨τ4, e4, g4, g5, g6⟩ := m_putVarint_eq O3 (iL (b.length : Int)) (by rw [show (vrE 9 (iL (b.length : Int))).length = u from hu.symm]; omega)
  have hv : (vrE 9 (iL (b.length : Int))) = lenE b := rfl
  rw [hv] at g5 g6
  rw [← hu] at g6
  have cell : ∀ k, w.length ≤ k → k < w.length + b.length → tA τ1 3 k = ((b.getD (k - w.length) 0).toNat : Int) := fun k hk1 hk2 => by
    have q := g1.2.1.2.2 k (by rw [List.length_append, List.length_append]; omega)
    rw [q, List.append_assoc, getD_app, if_neg (by omega), getD_app, if_pos (by omega)]
  refine ⟨uI τ4 6 ((w.length + u + b.length : Nat) : Int), ?_, ?_, ⟨?_, ?_, ?_⟩⟩
  · unfold m_putLength
    rw [e6, nm_eq, show ((w.length + b.length : Nat) : Int) - (w.length : Int) = (b.length : Int) by omega, e5, bind_some', e1', bind_some', nm_eq, e61, show ((w.length + b.length + u : Nat) : Int) - 1 = ((w.length + u + b.length : Nat) : Int) - 1 by omega, e2, bind_some', nm_eq, nm_eq, e62, e4, bind_some', nm_eq]
  · have q2 := g1.1.tr (f2.mono (l := KO) (by decide)) (fun _ q => q)
    have q3 := q2.uI (k := 6) (by decide) (w.length : Int)
    exact ((q3.tr g4 (fun _ q => q)).uI (by decide) _)
  · rw [List.length_append, List.length_append]; omega
  · rw [tI_uI, if_pos rfl, List.length_append, List.length_append]; omega
  · intro k hk
    rw [List.length_append, List.length_append] at hk
    rw [tA_uI, ← List.append_assoc, getD_app, List.length_append]
    by_cases c : k < w.length + (lenE b).length
    · rw [if_pos c]
      exact g5.2.2 k (by rw [List.length_append]; exact c)
    · rw [if_neg c, g6 k (by omega), tA_uI, g2 k, if_pos (by omega), cell (k - u) (by omega) (by omega), show k - u - w.length = k - (w.length + (lenE b).length) by omega]
end MW
