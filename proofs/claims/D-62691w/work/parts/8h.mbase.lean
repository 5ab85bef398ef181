set_option maxRecDepth 100000
/-! BASE64, as the reference reads it -/
section MB
variable {w : List UInt8} {τ : TT}
theorem m_L5 (h : Said τ w) (hl : w.length ≤ 1000) : ∀ (k f : Nat), k < f → k ≤ w.length → m_unbase_L5 τ f (k : Int) = some ((nse w k : Nat) : Int)
  | 0, f, h1, h2 => by
    obtain ⟨f, rfl⟩ : ∃ g, f = g + 1 := ⟨f - 1, by omega⟩
    rw [m_unbase_L5, gd_pos (by omega), gd_pos (by exact fun q => absurd (by omega) q), gd_pos (by exact fun q => absurd (by omega) q), if_pos (Or.inl (by omega))]
    rfl
  | k + 1, f, h1, h2 => by
    obtain ⟨f, rfl⟩ : ∃ g, f = g + 1 := ⟨f - 1, by omega⟩
    have e : tA τ 56 k = (wI w k : Int) := h.2 k (by omega)
    have hb := wI_lt w k
    rw [m_unbase_L5, show (((k + 1 : Nat) : Int) - 1).toNat = k by omega, e, gd_pos (by omega), gd_pos (by omega), gd_pos (by omega), nse]
    by_cases c : wI w k = 61
    · rw [if_pos c, if_neg (by omega), show ((k + 1 : Nat) : Int) + -1 = (k : Int) by omega]
      exact m_L5 h hl k f (by omega) (by omega)
    · rw [if_neg c, if_pos (by omega)]
/-- what was said up to now came out, what is behind i is as it was -/
def SU (τ : TT) (w o : List UInt8) (i : Nat) : Prop := (∀ j, j < o.length → tA τ 56 j = ((o.getD j 0).toNat : Int)) ∧ (∀ j, i ≤ j → j < w.length → tA τ 56 j = (wI w j : Int)) ∧ o.length ≤ i
theorem m_L74 (hl : w.length ≤ 1000) {N : Nat} (hN : N ≤ w.length) : ∀ (c f k nb hv B : Nat) (o : List UInt8) (τ : TT), k + c = N → c < f → (nb = 0 ∨ nb = 2 ∨ nb = 4 ∨ nb = 6) → hv < 2 ^ nb → B < 16777216 → B % 2 ^ nb = hv → SU τ w o k → ∃ τ' y, TF [56] τ τ' ∧ m_unbase_L74 (N : Int) f (B : Int) (nb : Int) (o.length : Int) (k : Int) τ = some y ∧ (match ubf w c k nb hv o with | some r => ∃ B' nb' : Nat, y = Sum.inr ((B' : Int), (nb' : Int), (r.2.length : Int), τ') ∧ B' < 16777216 ∧ nb' ≤ 6 ∧ B' % 2 ^ nb' = r.1 ∧ SU τ' w r.2 N | none => y = Sum.inl (0, τ'))
  | 0, f, k, nb, hv, B, o, τ, h1, h2, h3, h4, h5, h6, hS => by
    obtain ⟨f, rfl⟩ : ∃ g, f = g + 1 := ⟨f - 1, by omega⟩
    refine ⟨τ, Sum.inr ((B : Int), (nb : Int), (o.length : Int), τ), TF.refl _ _, ?_, ?_⟩
    · rw [m_unbase_L74, gd_pos (by omega), gd_pos (by omega), if_pos (by omega)]
    · rw [ubf]
      exact ⟨B, nb, rfl, h5, by omega, h6, by rw [show N = k by omega]; exact hS⟩
  | c + 1, f, k, nb, hv, B, o, τ, h1, h2, h3, h4, h5, h6, hS => by
    obtain ⟨f, rfl⟩ : ∃ g, f = g + 1 := ⟨f - 1, by omega⟩
    have e : tA τ 56 k = (wI w k : Int) := hS.2.1 k (Nat.le_refl _) (by omega)
    have hb := wI_lt w k
    have hs := six_rg (wI w k : Int)
    have ho := hS.2.2
    rw [ubf]
    by_cases q : six (wI w k : Int) = -1
    · rw [if_pos q]
      refine ⟨τ, Sum.inl (0, τ), TF.refl _ _, ?_, rfl⟩
      rw [m_unbase_L74, gd_pos (by omega), gd_pos (by omega), if_neg (by omega), gd_pos (by omega), Int.toNat_natCast, e, m_sixOf_eq (by omega), bind_some', gd_pos (by omega), if_pos q]
    · rw [if_neg q]
      obtain ⟨v, hv'⟩ : ∃ v : Nat, v = (six (wI w k : Int)).toNat := ⟨_, rfl⟩
      have hv64 : v < 64 := by omega
      have ev : six (wI w k : Int) = (v : Int) := by omega
      rw [ev, Int.toNat_natCast]
      obtain ⟨B', hB'⟩ : ∃ x : Nat, x = (B * 64 + v) % 2 ^ 24 := ⟨_, rfl⟩
      obtain ⟨x, hx⟩ : ∃ x : Nat, x = hv * 64 + v := ⟨_, rfl⟩
      have hB1 : B' < 16777216 := by rw [hB']; exact Nat.mod_lt _ (by decide)
      have eB : iAnd (iOr (iShl (B : Int) 6) (v : Int)) 16777215 = (B' : Int) := by
        rw [or6 h5 hv64, show (16777215 : Int) = ((2 ^ 24 - 1 : Nat) : Int) from rfl, iAnd_n rfl rfl (by decide), Nat.and_two_pow_sub_one_eq_mod, hB']
      have eI : m_unbase_L74 (N : Int) (f + 1) (B : Int) (nb : Int) (o.length : Int) (k : Int) τ = Option.bind (if 8 ≤ ((nb : Int) + 6) then (gd (ib (o.length : Int) 1000) (nm (uA τ 56 (o.length : Int).toNat (iAnd (iShr (B' : Int) (((nb : Int) + 6) + (-8))) 255)) fun τ45 => some ((((nb : Int) + 6) + (-8), (o.length : Int) + 1, τ45)))) else (some (((nb : Int) + 6, (o.length : Int), τ)))) fun (v40 : Int × Int × TT) => m_unbase_L74 (N : Int) f (B' : Int) v40.1 v40.2.1 ((k : Int) + 1) v40.2.2 := by
        rw [m_unbase_L74, gd_pos (by omega), gd_pos (by omega), if_neg (by omega), gd_pos (by omega), Int.toNat_natCast, e, m_sixOf_eq (by omega), bind_some', gd_pos (by omega), if_neg q, nm_eq, ev, eB, gd_pos (by omega)]
      rw [eI, ← hx]
      by_cases d : nb < 2
      · have hnb : nb = 0 := by omega
        subst hnb
        simp only [Nat.pow_zero] at h4
        rw [if_pos d, if_neg (by omega), bind_some']
        have hx6 : B' % 2 ^ (0 + 6) = x := by
          rw [hB', hx]; omega
        exact m_L74 hl hN c f (k + 1) (0 + 6) x B' o τ (by omega) (by omega) (by omega) (by omega) hB1 hx6 ⟨hS.1, fun j r1 r2 => hS.2.1 j (by omega) r2, by omega⟩
      · have hxb : B' % 2 ^ (nb + 6) = x ∧ x < 2 ^ (nb + 6) := by
          rcases h3 with e | e | e | e
          · omega
          · subst e; simp only [Nat.reducePow, Nat.reduceAdd] at *; omega
          · subst e; simp only [Nat.reducePow, Nat.reduceAdd] at *; omega
          · subst e; simp only [Nat.reducePow, Nat.reduceAdd] at *; omega
        have hout : B' / 2 ^ (nb - 2) % 256 = x / 2 ^ (nb - 2) ∧ B' % 2 ^ (nb - 2) = x % 2 ^ (nb - 2) ∧ x / 2 ^ (nb - 2) < 256 := by
          rcases h3 with e | e | e | e
          · omega
          · subst e; simp only [Nat.reducePow, Nat.reduceAdd, Nat.reduceSub] at *; omega
          · subst e; simp only [Nat.reducePow, Nat.reduceAdd, Nat.reduceSub] at *; omega
          · subst e; simp only [Nat.reducePow, Nat.reduceAdd, Nat.reduceSub] at *; omega
        rw [if_neg d, if_pos (by omega), gd_pos (by omega), nm_eq, bind_some', Int.toNat_natCast]
        have eo : iAnd (iShr (B' : Int) ((nb : Int) + 6 + -8)) 255 = ((x / 2 ^ (nb - 2) : Nat) : Int) := by
          rw [iShr_n (a := B') (k := nb - 2) rfl (by omega) (by omega) (by omega), show (255 : Int) = ((2 ^ 8 - 1 : Nat) : Int) from rfl, iAnd_n rfl rfl (by decide), Nat.and_two_pow_sub_one_eq_mod]
          rw [show 2 ^ 8 = 256 from rfl, hout.1]
        rw [eo, show (nb : Int) + 6 + -8 = ((nb - 2 : Nat) : Int) by omega, show (k : Int) + 1 = ((k + 1 : Nat) : Int) by omega]
        have f0 : TF [56] τ (uA τ 56 o.length ((x / 2 ^ (nb - 2) : Nat) : Int)) := (TF.refl _ τ).uA (by decide) _ _
        have hlen : ((o.length : Int) + 1) = (((o ++ [UInt8.ofNat (x / 2 ^ (nb - 2))]).length : Nat) : Int) := by rw [List.length_append]; simp
        have hSU : SU (uA τ 56 o.length ((x / 2 ^ (nb - 2) : Nat) : Int)) w (o ++ [UInt8.ofNat (x / 2 ^ (nb - 2))]) (k + 1) := by
          refine ⟨fun j hj => ?_, fun j r1 r2 => ?_, by rw [List.length_append]; simp; omega⟩
          · rw [tA_uA]
            rw [List.length_append] at hj
            simp only [List.length_cons, List.length_nil] at hj
            by_cases ej : j = o.length
            · subst ej
              rw [if_pos ⟨rfl, rfl⟩, List.getD_eq_getElem?_getD, List.getElem?_append_right (Nat.le_refl _)]
              simp only [Nat.sub_self, List.getElem?_cons_zero, Option.getD_some]
              rw [tn_of hout.2.2]
            · rw [if_neg (fun r => ej r.2), hS.1 j (by omega), List.getD_eq_getElem?_getD, List.getD_eq_getElem?_getD, List.getElem?_append_left (by omega)]
          · rw [tA_uA, if_neg (fun r => by omega)]
            exact hS.2.1 j (by omega) r2
        obtain ⟨τ', y, f1, g1, g2⟩ := m_L74 hl hN c f (k + 1) (nb - 2) (x % 2 ^ (nb - 2)) B' _ _ (by omega) (by omega) (by omega) (Nat.mod_lt _ (Nat.pow_pos (by decide))) hB1 hout.2.1 hSU
        refine ⟨τ', y, f0.tr f1 (fun _ e => e), ?_, g2⟩
        rw [← hlen] at g1
        exact g1
theorem m_unbase_eq (h : Said τ w) (hl : w.length ≤ 1000) : ∃ τ', TF [56, 57] τ τ' ∧ (match unb w with | some o => m_unbase τ = some (1, τ') ∧ Said τ' o | none => m_unbase τ = some (0, τ')) := by
  have hn := nse_le w w.length
  unfold m_unbase
  rw [nm_eq, h.1, m_L5 h hl w.length FU (FU_gt (by omega)) (Nat.le_refl _), bind_some', gd_pos (by omega), gd_pos (by omega), iRem_n (y := 4) (a := nse w w.length) (b := 4) rfl rfl (by omega) (by omega) (by omega), iRem_n (y := 4) (a := w.length) (b := 4) rfl rfl (by omega) (by omega) (by omega)]
  unfold unb
  by_cases c2 : nse w w.length < w.length ∧ (w.length - nse w w.length > 2 ∨ w.length % 4 ≠ 0)
  · rw [if_pos (Or.inr c2), if_neg (by omega), gd_pos (by omega), if_neg (by omega), bind_some', elim_l]
    exact ⟨τ, TF.refl _ _, rfl⟩
  · have e : (if ((w.length : Nat) : Int) ≤ ((nse w w.length : Nat) : Int) then (some (Sum.inr (()))) else (gd ((((w.length % 4 : Nat) : Int) = 0) → rg (((w.length : Nat) : Int) - ((nse w w.length : Nat) : Int))) (if (((w.length % 4 : Nat) : Int) = 0) ∧ (¬ (2 < (((w.length : Nat) : Int) - ((nse w w.length : Nat) : Int)))) then (some (Sum.inr (()))) else (some (Sum.inl ((0, τ)))))) : Option ((Int × TT) ⊕ Unit)) = some (Sum.inr ()) := by
      by_cases d : ((w.length : Nat) : Int) ≤ ((nse w w.length : Nat) : Int)
      · rw [if_pos d]
      · rw [if_neg d, gd_pos (by omega), if_pos (by omega)]
    rw [e, bind_some', elim_r]
    by_cases c1 : nse w w.length % 4 = 1
    · rw [if_pos (Or.inl c1), if_pos (by omega)]
      exact ⟨τ, TF.refl _ _, rfl⟩
    · rw [if_neg (show ¬ (nse w w.length % 4 = 1 ∨ (nse w w.length < w.length ∧ (w.length - nse w w.length > 2 ∨ w.length % 4 ≠ 0))) by omega), if_neg (by omega)]
      obtain ⟨τ1, y, f1, gy, g⟩ := m_L74 hl (N := nse w w.length) hn (nse w w.length) FU 0 0 0 0 [] τ (by omega) (FU_gt (by omega)) (Or.inl rfl) (by decide) (by decide) rfl ⟨fun j hj => absurd hj (by simp), fun j _ hj => h.2 j hj, by simp⟩
      have gy' : m_unbase_L74 ((nse w w.length : Nat) : Int) FU 0 0 0 0 τ = some y := gy
      rw [gy', bind_some']
      cases eu : ubf w (nse w w.length) 0 0 0 [] with
      | none =>
        rw [eu] at g
        subst g
        exact ⟨τ1, f1.mono (by decide), rfl⟩
      | some r =>
        rw [eu] at g
        obtain ⟨B', nb', g1, g2, g3, g4, g5⟩ := g
        subst g1
        refine ⟨uI τ1 57 (r.2.length : Int), (f1.mono (by decide)).uI (by decide) _, ?_⟩
        show (match (if r.1 = 0 then some r.2 else none) with | some o => _ | none => _)
        have ea : iAnd (B' : Int) ((iShl 1 (nb' : Int)) - 1) = ((B' % 2 ^ nb' : Nat) : Int) := and_m (by omega)
        by_cases d : r.1 = 0
        · rw [if_pos d]
          refine ⟨?_, ⟨by rw [tI_uI, if_pos rfl], fun j hj => by rw [tA_uI]; exact g5.1 j hj⟩⟩
          show nm (uI τ1 57 (r.2.length : Int)) (fun τ18 => if (iAnd (B' : Int) ((iShl 1 (nb' : Int)) - 1)) = 0 then (some ((1, τ18))) else (some ((0, τ18)))) = _
          rw [nm_eq, ea, g4, if_pos (by omega)]
        · rw [if_neg d]
          show nm (uI τ1 57 (r.2.length : Int)) (fun τ18 => if (iAnd (B' : Int) ((iShl 1 (nb' : Int)) - 1)) = 0 then (some ((1, τ18))) else (some ((0, τ18)))) = _
          rw [nm_eq, ea, g4, if_neg (by omega)]
end MB
