set_option maxRecDepth 100000
/-! SCHEMAS, READ: tokens of the reference -/
section Mm
variable {I : Nat → Nat} {n p s : Nat} {τ τ' : TT}
theorem pch_w : pch true false = wch := by funext c; unfold pch; simp
theorem pch_d : pch false true = dch := by funext c; unfold pch; simp
theorem pch_n : pch false false = fun _ => false := by funext c; unfold pch; simp
/-- one token: its length and its kind -/
theorem m_rt_1 (hT : T8 τ I n) (hs : s < n) (u2 : Int) : ∃ (v25 : Nat), m_readTokens_L54 (s : Int) u2 (if lch (lk I n s) = true then 1 else 0) (if dch (lk I n s) = true then 1 else 0) τ FU 1 = some (v25 : Int) ∧ s + v25 = (tkA I n s).2 ∧ (tkA I n s).1 = (if lch (lk I n s) = true then (if v25 ≤ 24 then 1 else 4) else if dch (lk I n s) = true then (if v25 ≤ 9 then 2 else 4) else if sgc (lk I n s) = true then 3 else 4) := by
  have hn := hT.2.1
  have h := m_rt_54 (s := s) hT (lch (lk I n s)) (dch (lk I n s)) u2 (n - (s + 1)) FU 1 (by omega) (FU_gt (by omega))
  have h' : m_readTokens_L54 (s : Int) u2 (if lch (lk I n s) = true then 1 else 0) (if dch (lk I n s) = true then 1 else 0) τ FU 1 = _ := h
  refine ⟨_, h', ?_⟩
  have g1 := rnF_ge (pch (lch (lk I n s)) (dch (lk I n s))) I n (s + 1)
  unfold tkA
  by_cases cl : lch (lk I n s) = true
  · have cd : dch (lk I n s) = false := by
      cases e : dch (lk I n s) with
      | false => rfl
      | true =>
        unfold lch at cl
        unfold dch at e
        rw [decide_eq_true_iff] at cl e
        omega
    rw [cl, cd, pch_w] at g1
    rw [cl, cd, pch_w, if_pos rfl, if_pos rfl]
    exact ⟨by show s + (rnF wch I n (s + 1) - s) = rnF wch I n (s + 1); omega, rfl⟩
  · have cl' : lch (lk I n s) = false := by cases e : lch (lk I n s) with | false => rfl | true => exact absurd e cl
    by_cases cd : dch (lk I n s) = true
    · rw [cl', cd, pch_d] at g1
      rw [cl', cd, pch_d, if_neg (show ¬ false = true by decide), if_pos (show true = true from rfl), if_neg (show ¬ false = true by decide), if_pos (show true = true from rfl)]
      exact ⟨by show s + (rnF dch I n (s + 1) - s) = rnF dch I n (s + 1); omega, rfl⟩
    · have cd' : dch (lk I n s) = false := by cases e : dch (lk I n s) with | false => rfl | true => exact absurd e cd
      rw [cl', cd', pch_n, if_neg (show ¬ false = true by decide), if_neg (show ¬ false = true by decide), if_neg (show ¬ false = true by decide), if_neg (show ¬ false = true by decide)]
      have : rnF (fun _ => false) I n (s + 1) = s + 1 := rnF_n (by decide)
      rw [this]
      exact ⟨by show s + (s + 1 - s) = s + 1; omega, rfl⟩
theorem m_rt_7 : ∀ (c N p k : Nat) (τ : TT), T8 τ I n → p + c = n → c < N → k ≤ p → rnF bch I n p = rnF bch I n (tkP I n k) → tI τ 12 = (k : Int) → (∀ i, i < k → TTk I n τ i ∧ (tkn I n i).1 ≠ 0) → ∃ (τ' : TT) (K : Nat), m_readTokens_L7 N (p : Int) τ = some τ' ∧ TF [9, 10, 11, 12] τ τ' ∧ tI τ' 12 = (K : Int) ∧ K ≤ n ∧ tkn I n K = (0, n, n) ∧ ∀ i, i < K → TTk I n τ' i ∧ (tkn I n i).1 ≠ 0
  | c, 0, p, k, τ, _, _, h, _, _, _, _ => by omega
  | 0, N + 1, p, k, τ, hT, h, _, hk, hb, h12, hA => by
    have hn := hT.2.1
    refine ⟨τ, k, by rw [m_readTokens_L7, hT.1, gd_pos (by omega), gd_pos (by omega), if_pos (by omega)], TF.refl _ _, h12, by omega, ?_, hA⟩
    rw [rnF_end (by omega)] at hb
    unfold tkn tkT
    rw [← hb, if_pos (by omega), show p = n by omega]
  | c + 1, N + 1, p, k, τ, hT, h, hN, hk, hb, h12, hA => by
    have hn := hT.2.1
    have hp : p < n := by omega
    have hIp := hT.2.2.2 p
    have e8 : tA τ 8 p = (I p : Int) := hT.2.2.1 p hp
    have el : lk I n p = (I p : Int) := lk_lt hp
    rw [m_readTokens_L7, hT.1, gd_pos (by omega), gd_pos (by omega), if_neg (by omega), gd_pos (by omega), Int.toNat_natCast, e8, nm_eq, ← el, gd_pos (by omega)]
    by_cases cb : (lk I n p = 32) ∨ (lk I n p = 10)
    · rw [if_pos cb, show (p : Int) + 1 = ((p + 1 : Nat) : Int) by omega]
      exact m_rt_7 c N (p + 1) k τ hT (by omega) (by omega) (by omega) (by rw [← hb, rnF_s hp (by unfold bch; exact decide_eq_true cb)]) h12 hA
    · rw [if_neg cb]
      have hb0 : rnF bch I n p = p := rnF_n (fun u => cb (of_decide_eq_true u))
      rw [hb0] at hb
      obtain ⟨v, hv1, hv2, hv3⟩ := m_rt_1 hT hp (lk I n p)
      have bd := tkA_bd (I := I) hp
      have etk : tkn I n k = ((tkA I n p).1, p, (tkA I n p).2) := by
        unfold tkn tkT
        rw [← hb, if_neg (by omega)]
      have hkd : (tkA I n p).1 ≠ 0 ∧ (tkA I n p).1 ≤ 4 := by
        rw [hv3]
        split
        · split <;> omega
        · split
          · split <;> omega
          · split <;> omega
      rw [m_isLetter_eq (by omega), bind_some', m_isDigit_t (by omega), bind_some', hv1, bind_some']
      have e37 : (if ((((((lk I n p = 61) ∨ (lk I n p = 59)) ∨ (lk I n p = 123)) ∨ (lk I n p = 125)) ∨ (lk I n p = 46)) ∨ (lk I n p = 44)) ∨ (lk I n p = 34) then (some 1) else (some 0) : Option Int) = some (if sgc (lk I n p) = true then 1 else 0) := by
        by_cases q : lk I n p = 61 ∨ lk I n p = 59 ∨ lk I n p = 123 ∨ lk I n p = 125 ∨ lk I n p = 46 ∨ lk I n p = 44 ∨ lk I n p = 34
        · rw [if_pos (by omega), if_pos (by unfold sgc; exact decide_eq_true q)]
        · rw [if_neg (by omega), if_neg (by unfold sgc; rw [decide_eq_true_iff]; exact q)]
      rw [e37, bind_some']
      have e46 : (gd (rg (if lch (lk I n p) = true then (1 : Int) else 0)) (if (if lch (lk I n p) = true then (1 : Int) else 0) = 0 then (gd (rg (if dch (lk I n p) = true then (1 : Int) else 0)) (if (if dch (lk I n p) = true then (1 : Int) else 0) = 0 then (gd (rg (if sgc (lk I n p) = true then (1 : Int) else 0)) (if (if sgc (lk I n p) = true then (1 : Int) else 0) = 0 then (some 5) else (some 3))) else (gd (rg (v : Int)) (if (v : Int) ≤ 9 then (some 2) else (some 5))))) else (gd (rg (v : Int)) (if (v : Int) ≤ 24 then (some 1) else (some 5)))) : Option Int) = some ((rkd (tkA I n p).1 : Nat) : Int) := by
        rw [hv3, gd_pos (by split <;> omega)]
        by_cases cl : lch (lk I n p) = true
        · rw [if_pos cl, if_neg (by omega), gd_pos (by omega), if_pos cl]
          by_cases q : v ≤ 24
          · rw [if_pos (by omega), if_pos q]; rfl
          · rw [if_neg (by omega), if_neg q]; rfl
        · rw [if_neg cl, if_pos rfl, gd_pos (by split <;> omega), if_neg cl]
          by_cases cd : dch (lk I n p) = true
          · rw [if_pos cd, if_neg (by omega), gd_pos (by omega), if_pos cd]
            by_cases q : v ≤ 9
            · rw [if_pos (by omega), if_pos q]; rfl
            · rw [if_neg (by omega), if_neg q]; rfl
          · rw [if_neg cd, if_pos rfl, gd_pos (by split <;> omega), if_neg cd]
            by_cases q : sgc (lk I n p) = true
            · rw [if_pos q, if_neg (by omega), if_pos q]; rfl
            · rw [if_neg q, if_pos rfl, if_neg q]; rfl
      rw [e46, bind_some', h12, gd_pos (by omega), nm_eq, Int.toNat_natCast]
      show ∃ (τ' : TT) (K : Nat), (gd (ib (tI τ 12) 1001) (nm (uA (uA τ 9 k ((rkd (tkA I n p).1 : Nat) : Int)) 10 (tI τ 12).toNat (p : Int)) fun τ53 => gd (ib (tI τ53 12) 1001) (nm (uA τ53 11 (tI τ53 12).toNat (v : Int)) fun τ55 => nm (uI τ55 12 ((tI τ55 12) + 1)) fun τ56 => nm ((p : Int) + (v : Int)) fun x57 => m_readTokens_L7 N x57 τ56))) = some τ' ∧ _
      rw [h12, gd_pos (by omega), nm_eq, Int.toNat_natCast]
      show ∃ (τ' : TT) (K : Nat), (gd (ib (tI τ 12) 1001) (nm (uA (uA (uA τ 9 k ((rkd (tkA I n p).1 : Nat) : Int)) 10 k (p : Int)) 11 (tI τ 12).toNat (v : Int)) fun τ55 => nm (uI τ55 12 ((tI τ 12) + 1)) fun τ56 => nm ((p : Int) + (v : Int)) fun x57 => m_readTokens_L7 N x57 τ56)) = some τ' ∧ _
      rw [h12, gd_pos (by omega), nm_eq, Int.toNat_natCast, nm_eq, nm_eq, show (p : Int) + (v : Int) = ((p + v : Nat) : Int) by omega]
      obtain ⟨τ1, h1⟩ : ∃ τ1, τ1 = uI (uA (uA (uA τ 9 k ((rkd (tkA I n p).1 : Nat) : Int)) 10 k (p : Int)) 11 k (v : Int)) 12 ((k : Int) + 1) := ⟨_, rfl⟩
      rw [← h1]
      have f1 : TF [9, 10, 11, 12] τ τ1 := by
        rw [h1]; exact ((((TF.refl _ τ).uA (by decide) _ _).uA (by decide) _ _).uA (by decide) _ _).uI (by decide) _
      have ar : ∀ i, tA τ1 9 i = (if i = k then ((rkd (tkA I n p).1 : Nat) : Int) else tA τ 9 i) ∧ tA τ1 10 i = (if i = k then (p : Int) else tA τ 10 i) ∧ tA τ1 11 i = (if i = k then (v : Int) else tA τ 11 i) := fun i => by
        rw [h1, tA_uI]
        refine ⟨?_, ?_, ?_⟩
        · rw [tA_uA, if_neg (fun u => absurd u.1 (by decide)), tA_uA, if_neg (fun u => absurd u.1 (by decide)), tA_uA]
          by_cases q : i = k
          · rw [if_pos ⟨rfl, q⟩, if_pos q]
          · rw [if_neg (fun u => q u.2), if_neg q]
        · rw [tA_uA, if_neg (fun u => absurd u.1 (by decide)), tA_uA]
          by_cases q : i = k
          · rw [if_pos ⟨rfl, q⟩, if_pos q]
          · rw [if_neg (fun u => q u.2), if_neg q, tA_uA, if_neg (fun u => absurd u.1 (by decide))]
        · rw [tA_uA]
          by_cases q : i = k
          · rw [if_pos ⟨rfl, q⟩, if_pos q]
          · rw [if_neg (fun u => q u.2), if_neg q, tA_uA, if_neg (fun u => absurd u.1 (by decide)), tA_uA, if_neg (fun u => absurd u.1 (by decide))]
      have eP : tkP I n (k + 1) = p + v := by
        show (tkn I n k).2.2 = p + v
        rw [etk]; exact hv2.symm
      obtain ⟨τ', K, q1, q2, q3⟩ := m_rt_7 (n - (p + v)) N (p + v) (k + 1) τ1 (hT.tr f1 (by decide) (by decide)) (by omega) (by omega) (by omega) (by rw [eP]) (by rw [h1, tI_uI, if_pos rfl]; omega) (fun i hi => by
        obtain ⟨a1, a2, a3⟩ := ar i
        by_cases q : i = k
        · rw [if_pos q] at a1 a2 a3
          refine ⟨⟨?_, ?_, ?_⟩, ?_⟩
          · rw [a1, q, etk]
          · rw [a2, q, etk]
          · rw [a3, q, etk]; show (v : Int) = (((tkA I n p).2 - p : Nat) : Int); omega
          · rw [q, etk]; exact hkd.1
        · rw [if_neg q] at a1 a2 a3
          obtain ⟨⟨b1, b2, b3⟩, b4⟩ := hA i (by omega)
          exact ⟨⟨by rw [a1]; exact b1, by rw [a2]; exact b2, by rw [a3]; exact b3⟩, b4⟩)
      exact ⟨τ', K, q1, f1.tr q2 (fun _ u => u), q3⟩
/-- all tokens -/
theorem m_readTokens_eq (hT : T8 τ I n) : ∃ (τ' : TT) (K : Nat), m_readTokens τ = some τ' ∧ TF [9, 10, 11, 12] τ τ' ∧ K ≤ n ∧ tkn I n K = (0, n, n) ∧ (∀ i, i < K → (tkn I n i).1 ≠ 0) ∧ ∀ i, i ≤ K → TTk I n τ' i := by
  have hn := hT.2.1
  have f0 : TF [9, 10, 11, 12] τ (uI τ 12 0) := (TF.refl _ τ).uI (by decide) _
  obtain ⟨τ1, K, q1, q2, q3, q4, q5, q6⟩ := m_rt_7 (I := I) n FU 0 0 (uI τ 12 0) (hT.tr f0 (by decide) (by decide)) (by omega) (FU_gt (by omega)) (Nat.le_refl _) rfl rfl (fun i hi => by omega)
  have q1' : m_readTokens_L7 FU 0 (uI τ 12 0) = some τ1 := q1
  have t5 : tI τ1 5 = (n : Int) := by rw [(q2 5 (by decide)).1]; exact hT.1
  obtain ⟨τ2, h2⟩ : ∃ τ2, τ2 = uA (uA (uA τ1 9 K 4) 10 K (n : Int)) 11 K 0 := ⟨_, rfl⟩
  refine ⟨τ2, K, ?_, ?_, q4, q5, fun i hi => (q6 i hi).2, fun i hi => ?_⟩
  · unfold m_readTokens
    rw [nm_eq, q1', bind_some', q3, gd_pos (by omega), nm_eq, Int.toNat_natCast]
    show (gd (ib (tI τ1 12) 1001) (nm (uA (uA τ1 9 K 4) 10 (tI τ1 12).toNat (tI τ1 5)) fun τ9 => gd (ib (tI τ9 12) 1001) (nm (uA τ9 11 (tI τ9 12).toNat 0) fun τ11 => some τ11))) = _
    rw [q3, t5, gd_pos (by omega), nm_eq, Int.toNat_natCast]
    show (gd (ib (tI τ1 12) 1001) (nm (uA (uA (uA τ1 9 K 4) 10 K (n : Int)) 11 (tI τ1 12).toNat 0) fun τ11 => some τ11)) = _
    rw [q3, gd_pos (by omega), nm_eq, Int.toNat_natCast, h2]
  · rw [h2]; exact (((f0.tr q2 (fun _ u => u)).uA (by decide) _ _).uA (by decide) _ _).uA (by decide) _ _
  · by_cases e : i = K
    · subst e
      unfold TTk
      rw [q5, h2]
      refine ⟨?_, ?_, ?_⟩
      · rw [tA_uA, if_neg (fun u => absurd u.1 (by decide)), tA_uA, if_neg (fun u => absurd u.1 (by decide)), tA_uA, if_pos ⟨rfl, rfl⟩]; rfl
      · rw [tA_uA, if_neg (fun u => absurd u.1 (by decide)), tA_uA, if_pos ⟨rfl, rfl⟩]
      · rw [tA_uA, if_pos ⟨rfl, rfl⟩]; show (0 : Int) = ((n - n : Nat) : Int); omega
    · obtain ⟨⟨b1, b2, b3⟩, -⟩ := q6 i (by omega)
      refine ⟨?_, ?_, ?_⟩
      · rw [h2, tA_uA, if_neg (fun u => e u.2), tA_uA, if_neg (fun u => e u.2), tA_uA, if_neg (fun u => e u.2)]; exact b1
      · rw [h2, tA_uA, if_neg (fun u => e u.2), tA_uA, if_neg (fun u => e u.2), tA_uA, if_neg (fun u => e u.2)]; exact b2
      · rw [h2, tA_uA, if_neg (fun u => e u.2), tA_uA, if_neg (fun u => e u.2), tA_uA, if_neg (fun u => e u.2)]; exact b3
end Mm
