set_option maxRecDepth 100000
/-! NUMBERS: how the reference reckons them -/
def rpw (J : Nat → Nat) (N : Nat) : Nat → Nat → Nat → Nat
  | 0, _, v => v
  | c + 1, k, v => rpw J N c (k + 1) (if v ≤ 100000 then 10 * v + dv J N k else v)
def spw (J : Nat → Nat) (N : Nat) : Nat → Nat → Nat → Nat
  | 0, _, v => v
  | c + 1, k, v => spw J N c (k + 1) (min 100000 (10 * v + dv J N k))
section Mw
variable {τ : TT} {J : Nat → Nat} {N b : Nat}
theorem pw_rel : ∀ (c k u v : Nat), (∀ j, k ≤ j → j < k + c → dv J N j ≤ 9) → ((u = v ∧ u ≤ 100000) ∨ (v = 100000 ∧ 100000 < u ∧ u ≤ 1000009)) → (rpw J N c k u = spw J N c k v ∧ rpw J N c k u ≤ 100000) ∨ (spw J N c k v = 100000 ∧ 100000 < rpw J N c k u ∧ rpw J N c k u ≤ 1000009)
  | 0, k, u, v, hd, h => h
  | c + 1, k, u, v, hd, h => by
    rw [rpw, spw]
    have h9 := hd k (Nat.le_refl _) (by omega)
    refine pw_rel c (k + 1) _ _ (fun j h1 h2 => hd j (by omega) (by omega)) ?_
    rcases h with ⟨h1, h2⟩ | ⟨h1, h2, h3⟩
    · rw [if_pos h2, ← h1]
      omega
    · rw [if_neg (by omega)]
      omega
theorem g_shape (J : Nat → Nat) (N b j : Nat) (h1 : g0 J N b ≤ j) (h2 : j < g2 J N b) : (j = g1 J N b ∧ lk J N j = 46) ∨ (j ≠ g1 J N b ∧ 48 ≤ lk J N j ∧ lk J N j ≤ 57) := by
  have a1 := dg_sp J N (g0 J N b)
  have a2 := dg_sp J N (g1 J N b + 1)
  by_cases c : lk J N (g1 J N b) = 46
  · have e : g2 J N b = dg J N (g1 J N b + 1) := if_pos c
    rcases Nat.lt_trichotomy j (g1 J N b) with q | q | q
    · exact Or.inr ⟨by omega, a1.2.2.2 j h1 q⟩
    · left; rw [q]; exact ⟨rfl, c⟩
    · exact Or.inr ⟨by omega, a2.2.2.2 j (by omega) (by omega)⟩
  · have e : g2 J N b = g1 J N b := if_neg c
    exact Or.inr ⟨by omega, a1.2.2.2 j h1 (by rw [e] at h2; exact h2)⟩
theorem dv_9 {k : Nat} (h : 48 ≤ lk J N k ∧ lk J N k ≤ 57) : dv J N k ≤ 9 ∧ lk J N k = (dv J N k : Int) + 48 := by
  unfold dv
  omega
theorem mw_L34 (hS : Sy τ J N) (u3 : Int) {e t : Nat} (ht : t < 5000) (he : (isE (lk J N e) ∧ e < t) ∨ e = t) : ∀ (m f k : Nat), e - k ≤ m → m < f → k ≤ e → (∀ j, k ≤ j → j < e → ¬ isE (lk J N j)) → m_isWhole_L34 (t : Int) u3 τ f (k : Int) = some (e : Int) := by
  intro m
  induction m with
  | zero =>
    intro f k h1 h2 h3 h4
    obtain ⟨f, rfl⟩ : ∃ g, f = g + 1 := ⟨f - 1, by omega⟩
    have hr := hS.rgs k
    rw [m_isWhole_L34, hS.at rfl (by omega), gd_pos (by omega), gd_pos (by omega), gd_pos (by exact fun _ => rfl), gd_pos (by exact fun _ => by rw [vv_s]; omega), gd_pos (by exact fun _ => rfl), gd_pos (by exact fun _ => by rw [vv_s]; omega), vv_s, show k = e by omega, if_pos (by omega)]
  | succ m ih =>
    intro f k h1 h2 h3 h4
    obtain ⟨f, rfl⟩ : ∃ g, f = g + 1 := ⟨f - 1, by omega⟩
    have hr := hS.rgs k
    rw [m_isWhole_L34, hS.at rfl (by omega), gd_pos (by omega), gd_pos (by omega), gd_pos (by exact fun _ => rfl), gd_pos (by exact fun _ => by rw [vv_s]; omega), gd_pos (by exact fun _ => rfl), gd_pos (by exact fun _ => by rw [vv_s]; omega), vv_s]
    by_cases c : k = e
    · subst c
      rw [if_pos (by omega)]
    · have hn := h4 k (Nat.le_refl _) (by omega)
      rw [if_neg (by omega), show (k : Int) + 1 = ((k + 1 : Nat) : Int) by omega]
      exact ih f (k + 1) (by omega) (by omega) (by omega) (fun j q1 q2 => h4 j (by omega) q2)
theorem mw_L105 (hS : Sy τ J N) (u3 u4 u6 : Int) {t : Nat} (ht : t < 5000) : ∀ (c f k v : Nat), k + c = t → c < f → v ≤ 1000009 → (∀ j, k ≤ j → j < t → 48 ≤ lk J N j ∧ lk J N j ≤ 57) → m_isWhole_L105 (t : Int) u3 u4 u6 τ f (v : Int) (k : Int) = some (rpw J N c k v : Int)
  | 0, f, k, v, h1, h2, h3, h4 => by
    obtain ⟨f, rfl⟩ : ∃ g, f = g + 1 := ⟨f - 1, by omega⟩
    rw [m_isWhole_L105, gd_pos (by omega), gd_pos (by omega), if_pos (by omega)]
    rfl
  | c + 1, f, k, v, h1, h2, h3, h4 => by
    obtain ⟨f, rfl⟩ : ∃ g, f = g + 1 := ⟨f - 1, by omega⟩
    have hd := h4 k (Nat.le_refl _) (by omega)
    have h9 := dv_9 hd
    rw [m_isWhole_L105, gd_pos (by omega), gd_pos (by omega), if_neg (by omega), hS.at rfl (by omega), bind_some', m_isDigit_eq (by omega), bind_some', if_neg (by omega), gd_pos (by omega), if_neg (by omega), gd_pos (by omega), rpw]
    by_cases q : v ≤ 100000
    · rw [if_pos (show (v : Int) ≤ 100000 by omega), bind_some', bind_some', bind_some', if_pos q, show (10 * (v : Int)) + lk J N k - 48 = ((10 * v + dv J N k : Nat) : Int) by omega, show (k : Int) + 1 = ((k + 1 : Nat) : Int) by omega]
      exact mw_L105 hS u3 u4 u6 ht c f (k + 1) _ (by omega) (by omega) (by omega) (fun j q1 q2 => h4 j (by omega) q2)
    · rw [if_neg (show ¬ (v : Int) ≤ 100000 by omega), bind_some', bind_some', if_neg q, show (k : Int) + 1 = ((k + 1 : Nat) : Int) by omega]
      exact mw_L105 hS u3 u4 u6 ht c f (k + 1) v (by omega) (by omega) h3 (fun j q1 q2 => h4 j (by omega) q2)
/-- what the reference knows of digits before a place -/
def I184 (J : Nat → Nat) (N k0 pt i : Nat) (w7 w8 w9 w10 : Int) : Prop := w9 = (if pt < i then 1 else 0) ∧ w7 = (if pt < i then (i : Int) - pt - 1 else 0) ∧ ((w10 = 0 ∧ ∀ j, k0 ≤ j → j < i → j ≠ pt → dv J N j = 0) ∨ (w10 = 1 ∧ ∃ l : Nat, w8 = (l : Int) ∧ k0 ≤ l ∧ l < i ∧ l ≠ pt ∧ dv J N l ≠ 0 ∧ ∀ j, l < j → j < i → j ≠ pt → dv J N j = 0))
theorem mw_L184 (hS : Sy τ J N) (u3 u5 : Int) {k0 pt e : Nat} (he : e < 5000) (hsh : ∀ j, k0 ≤ j → j < e → (j = pt ∧ lk J N j = 46) ∨ (j ≠ pt ∧ 48 ≤ lk J N j ∧ lk J N j ≤ 57)) : ∀ (m f i : Nat) (w7 w8 w9 w10 : Int), e - i ≤ m → m < f → k0 ≤ i → i ≤ e → I184 J N k0 pt i w7 w8 w9 w10 → ∃ x7 x8 x9 x10, m_isWhole_L184 u3 (e : Int) u5 τ f w7 w8 w9 w10 (i : Int) = some (x7, x8, x9, x10) ∧ I184 J N k0 pt e x7 x8 x9 x10 := by
  intro m
  induction m with
  | zero =>
    intro f i w7 w8 w9 w10 h1 h2 h3 h4 hI
    obtain ⟨f, rfl⟩ : ∃ g, f = g + 1 := ⟨f - 1, by omega⟩
    refine ⟨w7, w8, w9, w10, ?_, ?_⟩
    · rw [m_isWhole_L184, gd_pos (by omega), gd_pos (by omega), if_pos (by omega)]
    · rw [show e = i by omega]; exact hI
  | succ m ih =>
    intro f i w7 w8 w9 w10 h1 h2 h3 h4 hI
    obtain ⟨f, rfl⟩ : ∃ g, f = g + 1 := ⟨f - 1, by omega⟩
    by_cases c : i = e
    · refine ⟨w7, w8, w9, w10, ?_, ?_⟩
      · rw [m_isWhole_L184, gd_pos (by omega), gd_pos (by omega), if_pos (by omega)]
      · rw [← c]; exact hI
    · have hr := hS.rgs i
      have o1 : e - (i + 1) ≤ m := by omega
      have o2 : m < f := by omega
      have o3 : k0 ≤ i + 1 := by omega
      have o4 : i + 1 ≤ e := by omega
      obtain ⟨i1, i2, i3⟩ := hI
      rw [m_isWhole_L184, gd_pos (by omega), gd_pos (by omega), if_neg (by omega), hS.at rfl (by omega), bind_some', gd_pos (by omega)]
      rcases hsh i h3 (by omega) with ⟨q1, q2⟩ | ⟨q1, q2⟩
      · rw [if_pos q2, bind_some', show (i : Int) + 1 = ((i + 1 : Nat) : Int) by omega]
        refine ih f (i + 1) _ _ _ _ o1 o2 o3 o4 ⟨by rw [if_pos (by omega)], ?_, ?_⟩
        · show w7 = _
          rw [i2, if_neg (by omega), if_pos (by omega)]; omega
        · rcases i3 with ⟨a1, a2⟩ | ⟨a1, l, a2, a3, a4, a5, a6, a7⟩
          · exact Or.inl ⟨a1, fun j r1 r2 r3 => a2 j r1 (by omega) r3⟩
          · exact Or.inr ⟨a1, l, a2, a3, by omega, a5, a6, fun j r1 r2 r3 => a7 j r1 (by omega) r3⟩
      · have h9 := dv_9 q2
        have h19 : w9 = 0 ∨ w9 = 1 := by rw [i1]; split <;> omega
        have e1 : (gd (rg w9) (if w9 = 0 then (some 0) else (some 1)) : Option Int) = some w9 := by
          rw [gd_pos (by omega)]
          rcases h19 with e | e
          · rw [if_pos e, e]
          · rw [if_neg (by omega), e]
        rw [if_neg (by omega), e1, bind_some', nm_eq, bind_some', gd_pos (by omega)]
        have hw : ∀ x10 : Int, ((if pt < i + 1 then (1 : Int) else 0) = w9) ∧ (if pt < i + 1 then ((i + 1 : Nat) : Int) - pt - 1 else 0) = w7 + w9 := fun _ => by
          rw [i1, i2]
          constructor
          · split <;> split <;> omega
          · split <;> split <;> omega
        by_cases z : lk J N i = 48
        · rw [if_pos z, bind_some', show (i : Int) + 1 = ((i + 1 : Nat) : Int) by omega]
          refine ih f (i + 1) _ _ _ _ o1 o2 o3 o4 ⟨(hw 0).1.symm, (hw 0).2.symm, ?_⟩
          have hz : dv J N i = 0 := by unfold dv; omega
          rcases i3 with ⟨a1, a2⟩ | ⟨a1, l, a2, a3, a4, a5, a6, a7⟩
          · refine Or.inl ⟨a1, fun j r1 r2 r3 => ?_⟩
            rcases Nat.lt_or_ge j i with s | s
            · exact a2 j r1 s r3
            · rw [show j = i by omega]; exact hz
          · refine Or.inr ⟨a1, l, a2, a3, by omega, a5, a6, fun j r1 r2 r3 => ?_⟩
            rcases Nat.lt_or_ge j i with s | s
            · exact a7 j r1 s r3
            · rw [show j = i by omega]; exact hz
        · rw [if_neg z, bind_some', show (i : Int) + 1 = ((i + 1 : Nat) : Int) by omega]
          refine ih f (i + 1) _ _ _ _ o1 o2 o3 o4 ⟨(hw 0).1.symm, (hw 0).2.symm, Or.inr ⟨rfl, i, rfl, h3, by omega, q1, ?_, fun j r1 r2 r3 => absurd r2 (by omega)⟩⟩
          unfold dv; omega
theorem mw_L273 (hS : Sy τ J N) (u3 : Int) {k0 pt e l : Nat} (he : e < 5000) (hl : k0 ≤ l) (hsh : ∀ j, k0 ≤ j → j < e → (j = pt ∧ lk J N j = 46) ∨ (j ≠ pt ∧ 48 ≤ lk J N j ∧ lk J N j ≤ 57)) (P : Int) (hP : -2000000 ≤ P ∧ P ≤ 2000000) : ∀ (m f i : Nat) (w5 w7 w9 : Int), i - l ≤ m → m < f → l ≤ i → i < e → w9 = (if pt ≤ i then 1 else 0) → w7 = (if pt ≤ i then (i : Int) - pt else 0) → w5 = P + (if i < pt then (pt : Int) - 1 - i else 0) → pt ≤ e → m_isWhole_L273 u3 (l : Int) τ f w5 w7 w9 (i : Int) = some (P + (if l < pt then (pt : Int) - 1 - l else 0), if pt ≤ l then (l : Int) - pt else 0) := by
  intro m
  induction m with
  | zero =>
    intro f i w5 w7 w9 h1 h2 h3 h4 h5 h6 h7 h8
    obtain ⟨f, rfl⟩ : ∃ g, f = g + 1 := ⟨f - 1, by omega⟩
    rw [m_isWhole_L273, gd_pos (by omega), gd_pos (by omega), if_pos (by omega), h6, h7, show i = l by omega]
  | succ m ih =>
    intro f i w5 w7 w9 h1 h2 h3 h4 h5 h6 h7 h8
    obtain ⟨f, rfl⟩ : ∃ g, f = g + 1 := ⟨f - 1, by omega⟩
    by_cases c : i = l
    · rw [m_isWhole_L273, gd_pos (by omega), gd_pos (by omega), if_pos (by omega), h6, h7, c]
    · have hr := hS.rgs i
      rw [m_isWhole_L273, gd_pos (by omega), gd_pos (by omega), if_neg (by omega), hS.at rfl (by omega), bind_some', gd_pos (by omega)]
      rcases hsh i (by omega) h4 with ⟨q1, q2⟩ | ⟨q1, q2⟩
      · rw [if_pos q2, bind_some', show (i : Int) + -1 = ((i - 1 : Nat) : Int) by omega]
        refine ih f (i - 1) _ _ _ (by omega) (by omega) (by omega) (by omega) (by rw [if_neg (by omega)]) ?_ ?_ h8
        · show w7 = _
          rw [h6, if_pos (by omega), if_neg (by omega)]; omega
        · show w5 = _
          rw [h7, if_neg (by omega), if_pos (by omega)]; omega
      · rw [if_neg (by omega), gd_pos (by rw [h5]; split <;> omega)]
        by_cases c2 : pt ≤ i
        · rw [h5, if_pos c2, if_neg (by omega), bind_some', show (i : Int) + -1 = ((i - 1 : Nat) : Int) by omega]
          refine ih f (i - 1) _ _ _ (by omega) (by omega) (by omega) (by omega) (by rw [if_pos (by omega)]) ?_ ?_ h8
          · show w7 + -1 = _
            rw [h6, if_pos (by omega), if_pos (by omega)]; omega
          · show w5 = _
            rw [h7, if_neg (by omega), if_neg (by omega)]
        · rw [h5, if_neg c2, if_pos rfl, bind_some', show (i : Int) + -1 = ((i - 1 : Nat) : Int) by omega]
          refine ih f (i - 1) _ _ _ (by omega) (by omega) (by omega) (by omega) (by rw [if_neg (by omega)]) ?_ ?_ h8
          · show w7 = _
            rw [h6, if_neg (by omega), if_neg (by omega)]
          · show w5 + 1 = _
            rw [h7, if_pos (by omega), if_pos (by omega)]; omega
theorem uJ_uJ (τ : TT) (k : Nat) (v w : Int64) : uJ (uJ τ k v) k w = uJ τ k w := by
  show (tI τ, up (up (tJ τ) k v) k w, tA τ) = (tI τ, up (tJ τ) k w, tA τ)
  have e : up (up (tJ τ) k v) k w = up (tJ τ) k w := by
    funext j; unfold up; split <;> rfl
  rw [e]
theorem Sy.uJ (hS : Sy τ J N) (v : Int64) : Sy (uJ τ 59 v) J N := hS.tr (l := [59]) ((TF.refl _ τ).uJ (by decide) v) (by decide) (by decide) (by decide) (by decide) (by decide)
theorem mw_L334 (hS : Sy τ J N) (u11 : Int) {k0 pt e l : Nat} (he : e < 5000) (hle : l < e) (hsh : ∀ j, k0 ≤ j → j < e → (j = pt ∧ lk J N j = 46) ∨ (j ≠ pt ∧ 48 ≤ lk J N j ∧ lk J N j ≤ 57)) : ∀ (c f k s : Nat), k + c = l + 1 → c < f → k0 ≤ k → s < T64 → ∃ s', s' < T64 ∧ m_isWhole_L334 (l : Int) u11 f (k : Int) (uJ τ 59 (lN s)) = some (match pp J N pt c k s with | some v => Sum.inr (uJ τ 59 (lN v)) | none => Sum.inl (0, uJ τ 59 (lN s')))
  | 0, f, k, s, h1, h2, h3, h4 => by
    obtain ⟨f, rfl⟩ : ∃ g, f = g + 1 := ⟨f - 1, by omega⟩
    refine ⟨0, by decide, ?_⟩
    rw [m_isWhole_L334, gd_pos (by omega), gd_pos (by omega), if_pos (by omega)]
    rfl
  | c + 1, f, k, s, h1, h2, h3, h4 => by
    obtain ⟨f, rfl⟩ : ∃ g, f = g + 1 := ⟨f - 1, by omega⟩
    have hr := hS.rgs k
    have hS' := hS.uJ (lN s)
    rw [m_isWhole_L334, gd_pos (by omega), gd_pos (by omega), if_neg (by omega), hS'.at rfl (by omega), bind_some', m_isDigit_eq (by omega), bind_some', pp]
    rcases hsh k h3 (by omega) with ⟨q1, q2⟩ | ⟨q1, q2⟩
    · rw [if_pos (show (lk J N k < 48) ∨ (57 < lk J N k) by omega), gd_pos (by omega), if_pos (show (0 : Int) = 0 from rfl), bind_some', elim_r, if_pos q1, show (k : Int) + 1 = ((k + 1 : Nat) : Int) by omega]
      exact mw_L334 hS u11 he hle hsh c f (k + 1) s (by omega) (by omega) (by omega) h4
    · have h9 := dv_9 q2
      rw [if_neg (show ¬ ((lk J N k < 48) ∨ (57 < lk J N k)) by omega), gd_pos (by omega), if_neg (show ¬ (1 : Int) = 0 by omega), bind_some', m_grows_eq (s := s) (d := dv J N k) (by rw [tJ_uJ, if_pos rfl]) h4 (by omega) h9.1, bind_some', if_neg q1]
      by_cases z : 10 * s + dv J N k < T64
      · rw [if_pos z, if_pos z]
        show ∃ s', s' < T64 ∧ (Option.bind (gd (rg 1) (if (1 : Int) = 0 then some (Sum.inl (Sum.inl (0, uJ (uJ τ 59 (lN s)) 59 (lN (10 * s + dv J N k))))) else some (Sum.inr (uJ (uJ τ 59 (lN s)) 59 (lN (10 * s + dv J N k)))))) (Sum.elim some fun v93 => m_isWhole_L334 (l : Int) u11 f ((k : Int) + 1) v93)) = _
        rw [gd_pos (by omega), if_neg (show ¬ (1 : Int) = 0 by omega), bind_some', elim_r, uJ_uJ, show (k : Int) + 1 = ((k + 1 : Nat) : Int) by omega]
        exact mw_L334 hS u11 he hle hsh c f (k + 1) _ (by omega) (by omega) (by omega) z
      · rw [if_neg z, if_neg z]
        exact ⟨s, h4, rfl⟩
theorem mw_L380 (u11 : Int) (h2 : u11 < 2147483648) : ∀ (q r f i s : Nat), u11 = ((i + r : Nat) : Int) → s < T64 → T64 ≤ s * 10 ^ q → q < f → ∃ s', s' < T64 ∧ m_isWhole_L380 u11 f (i : Int) (uJ τ 59 (lN s)) = some (match pz r s with | some v => (1, uJ τ 59 (lN v)) | none => (0, uJ τ 59 (lN s')))
  | 0, r, f, i, s, h1, h3, h4, h5 => by
    rw [Nat.pow_zero, Nat.mul_one] at h4; omega
  | q + 1, 0, f, i, s, h1, h3, h4, h5 => by
    obtain ⟨f, rfl⟩ : ∃ g, f = g + 1 := ⟨f - 1, by omega⟩
    refine ⟨0, by decide, ?_⟩
    rw [m_isWhole_L380, gd_pos (by omega), gd_pos (by omega), if_pos (by omega)]
    rfl
  | q + 1, r + 1, f, i, s, h1, h3, h4, h5 => by
    obtain ⟨f, rfl⟩ : ∃ g, f = g + 1 := ⟨f - 1, by omega⟩
    rw [m_isWhole_L380, gd_pos (by omega), gd_pos (by omega), if_neg (by omega), m_grows_eq (s := s) (d := 0) (by rw [tJ_uJ, if_pos rfl]) h3 (by omega) (by omega), bind_some', pz, show 10 * s + 0 = 10 * s from rfl]
    by_cases z : 10 * s < T64
    · rw [if_pos z, if_pos z]
      show ∃ s', s' < T64 ∧ gd (rg 1) (if (1 : Int) = 0 then some (0, uJ (uJ τ 59 (lN s)) 59 (lN (10 * s))) else m_isWhole_L380 u11 f ((i : Int) + 1) (uJ (uJ τ 59 (lN s)) 59 (lN (10 * s)))) = _
      rw [gd_pos (by omega), if_neg (show ¬ (1 : Int) = 0 by omega), uJ_uJ, show (i : Int) + 1 = ((i + 1 : Nat) : Int) by omega]
      exact mw_L380 u11 h2 q r f (i + 1) _ (by omega) z (by rw [Nat.pow_succ, Nat.mul_comm (10 ^ q) 10, ← Nat.mul_assoc, Nat.mul_comm s 10] at h4; exact h4) (by omega)
    · rw [if_neg z, if_neg z]
      exact ⟨s, h3, rfl⟩
/-- a number's power of ten -/
def ept (J : Nat → Nat) (N b : Nat) (pw : Nat) : Int := if isE (lk J N (g2 J N b)) then (if lk J N (g2 J N b + 1) = 45 then -(pw : Int) else (pw : Int)) else 0
/-- a number's value, if it is whole and has room in 64 bits -/
def wv (J : Nat → Nat) (N b : Nat) : Option Nat := nv J N (g0 J N b) (g1 J N b) (g2 J N b) ((g1 J N b : Int) - (g0 J N b : Int) + ept J N b (spw J N (g4 J N b - g3 J N b) (g3 J N b) 0))
theorem nv_far {k0 pt k2 l : Nat} {W W' : Int} (hk : k0 ≤ pt) (h0 : k0 ≤ l) (h2 : l < k2) (hp : l ≠ pt) (hd : dv J N l ≠ 0) (h : ∀ j, l < j → j < k2 → j ≠ pt → dv J N j = 0) (hk2 : k2 < 5000) (hW : (90000 ≤ W ∧ 90000 ≤ W') ∨ (W < 0 ∧ W' < 0)) : nv J N k0 pt k2 W = nv J N k0 pt k2 W' := by
  rw [nv_last hk h0 h2 hp hd h, nv_last hk h0 h2 hp hd h]
  have hix : ix k0 pt l < 5000 := by unfold ix; omega
  rcases hW with hW | hW
  · rw [if_pos (by omega), if_pos (by omega)]
    cases e : pp J N pt (l + 1 - k0) k0 0 with
    | none => rfl
    | some s =>
      have hs := pp_pos _ _ _ _ e (Or.inr ⟨l, h0, by omega, hp, hd⟩)
      have hs2 := pp_lt _ _ _ _ (by decide) e
      show pz _ s = pz _ s
      rw [pz_big hs hs2 (by omega), pz_big hs hs2 (by omega)]
  · rw [if_neg (by omega), if_neg (by omega)]
end Mw
