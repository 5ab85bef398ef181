set_option maxRecDepth 100000
/-! SCHEMAS, READ: the system's next token -/
/-- the reader stands behind a token -/
def STk (σ : ST) (a b : Nat) (I : Nat → Nat) (n : Nat) (t : Nat × Nat × Nat) : Prop := SRd σ a b I n t.2.2 ∧ sI σ 83 a = (t.1 : Int) ∧ sI σ 84 a = (t.2.1 : Int) ∧ (t.1 = 3 → sI σ 85 a = lk I n t.2.1) ∧ (t.1 = 2 → sI σ 85 a = ((nvl I t.2.1 (t.2.2 - t.2.1) : Nat) : Int))
section Sn
variable {σ σ1 σ2 : ST} {a b n q s : Nat} {I : Nat → Nat}
theorem sr_next_eq (hI : ∀ k, I k < 256) (h : SRd σ a b I n q) : ∃ σ', (∀ bb : Nat × Nat, sr_next bb a σ = some σ') ∧ STk σ' a b I n (tkT I n q) ∧ JO a σ σ' := by
  have hq := h.2.2.2.2.2.2.2.2.1
  have hn := h.2.2.2.2.2.1
  obtain ⟨s, hs⟩ : ∃ s, s = rnF bch I n q := ⟨_, rfl⟩
  have s1 := rnF_ge bch I n q
  have s2 := rnF_le bch I (n := n) hq
  rw [← hs] at s1 s2
  have e0 : ∀ bb : Nat × Nat, sr_next_L0 bb a FU σ = some (pI σ 82 a (s : Int)) := fun bb => by rw [hs]; exact sr_L0 bb hI (n - q) FU q σ h (Nat.le_refl _) (FU_gt (by omega))
  have h1 : SRd (pI σ 82 a (s : Int)) a b I n s := h.to s2
  have e82 : sI (pI σ 82 a (s : Int)) 82 a = (s : Int) := h1.2.2.2.2.2.2.2.1
  obtain ⟨X, hX⟩ : ∃ X, X = pI (pI σ 82 a (s : Int)) 84 a (s : Int) := ⟨_, rfl⟩
  have h2 : SRd X a b I n s := by rw [hX]; exact h1.fld (by decide) (by decide) _
  have X84 : sI X 84 a = (s : Int) := by rw [hX, sI_pI, if_pos ⟨rfl, rfl⟩]
  have X82 : sI X 82 a = (s : Int) := h2.2.2.2.2.2.2.2.1
  have jX : JO a σ X := by rw [hX]; exact (JO.pI _ _ _ _).tr (JO.pI _ _ _ _)
  have el := h2.look (x := (s : Int)) rfl (by omega)
  have rl := lk_rg (n := n) hI s
  have st : ∀ bb : Nat × Nat, sr_next bb a σ = (if 0 ≤ lk I n s then (Option.bind (sr_isLetter (lk I n s)) fun y14 => gd (rg y14) (if y14 = 0 then (Option.bind (sr_isDigit (lk I n s)) fun y19 => gd (rg y19) (if y19 = 0 then (nm (pI X 82 a ((s : Int) + 1)) fun σ23 => gd (sc σ23 a = 6) (nm (pI σ23 85 a (lk I n s)) fun σ25 => Option.bind (if ((((((lk I n s = 61) ∨ (lk I n s = 59)) ∨ (lk I n s = 123)) ∨ (lk I n s = 125)) ∨ (lk I n s = 46)) ∨ (lk I n s = 44)) ∨ (lk I n s = 34) then (some 3) else (some 4)) fun (v34 : Int) => gd (sc σ25 a = 6) (nm (pI σ25 83 a v34) fun σ39 => some σ39))) else (nm (pI X 85 a 0) fun σ50 => Option.bind (sr_next_L167 bb a FU σ50) fun (v51 : ST) => gd (sc v51 a = 6) (Option.bind (gd (rg ((sI v51 82 a) - (sI v51 84 a))) (if ((sI v51 82 a) - (sI v51 84 a)) ≤ 9 then (some 2) else (some 4))) fun (v59 : Int) => nm (pI v51 83 a v59) fun σ63 => some σ63)))) else (Option.bind (sr_next_L75 bb a FU X) fun (v98 : ST) => gd (sc v98 a = 6) (Option.bind (gd (rg ((sI v98 82 a) - (sI v98 84 a))) (if ((sI v98 82 a) - (sI v98 84 a)) ≤ 24 then (some 1) else (some 4))) fun (v106 : Int) => nm (pI v98 83 a v106) fun σ110 => some σ110)))) else (nm (pI X 83 a 0) fun σ139 => some σ139)) := fun bb => by
    unfold sr_next
    rw [e0 bb, bind_some', gd_pos h1.1, e82, nm_eq, ← hX, gd_pos h2.1, X82, el, bind_some', gd_pos (by omega)]
  unfold tkT
  rw [← hs]
  by_cases ce : n ≤ s
  · have e1 : lk I n s = -1 := lk_ge ce
    rw [if_pos ce]
    refine ⟨pI X 83 a 0, fun bb => by rw [st bb, e1, if_neg (by omega), nm_eq], ⟨h2.fld (by decide) (by decide) _, by rw [sI_pI, if_pos ⟨rfl, rfl⟩]; rfl, by rw [sI_pI, if_neg (by omega)]; exact X84, fun u => (by cases u), fun u => (by cases u)⟩, jX.tr (JO.pI _ _ _ _)⟩
  · have hsn : s < n := by omega
    have e1 : lk I n s = (I s : Int) := lk_lt hsn
    rw [if_neg ce]
    unfold tkA
    by_cases cl : lch (lk I n s) = true
    · rw [if_pos cl]
      have cw : wch (lk I n s) = true := by unfold wch; rw [cl]; rfl
      have ew := rnF_s hsn cw
      have g1 := rnF_ge wch I n (s + 1)
      have g2 := rnF_le wch I (n := n) (p := s + 1) (by omega)
      obtain ⟨e, he⟩ : ∃ e, e = rnF wch I n (s + 1) := ⟨_, rfl⟩
      rw [← he] at ew g1 g2 ⊢
      have e75 : ∀ bb : Nat × Nat, sr_next_L75 bb a FU X = some (pI X 82 a (e : Int)) := fun bb => by
        rw [sr_L75 bb hI (n - s) FU s X h2 (Nat.le_refl _) (FU_gt (by omega)), ew]
      have h3 : SRd (pI X 82 a (e : Int)) a b I n e := h2.to g2
      have k84 : sI (pI X 82 a (e : Int)) 84 a = (s : Int) := by rw [sI_pI, if_neg (by omega)]; exact X84
      have k82 : sI (pI X 82 a (e : Int)) 82 a = (e : Int) := h3.2.2.2.2.2.2.2.1
      refine ⟨pI (pI X 82 a (e : Int)) 83 a ((if e - s ≤ 24 then 1 else 4 : Nat) : Int), fun bb => ?_, ⟨h3.fld (by decide) (by decide) _, by rw [sI_pI, if_pos ⟨rfl, rfl⟩], by rw [sI_pI, if_neg (by omega)]; exact k84, fun u => ?_, fun u => ?_⟩, (jX.tr (JO.pI _ _ _ _)).tr (JO.pI _ _ _ _)⟩
      · rw [st bb, if_pos (by omega), sr_isLetter_eq (by omega), bind_some', if_pos cl, gd_pos (by omega), if_neg (by omega), e75 bb, bind_some', gd_pos h3.1, k82, k84, gd_pos (by omega)]
        by_cases c24 : e - s ≤ 24
        · rw [if_pos (by omega), bind_some', nm_eq, if_pos c24]; rfl
        · rw [if_neg (by omega), bind_some', nm_eq, if_neg c24]; rfl
      · exfalso
        change (if e - s ≤ 24 then 1 else 4) = 3 at u
        split at u <;> omega
      · exfalso
        change (if e - s ≤ 24 then 1 else 4) = 2 at u
        split at u <;> omega
    · rw [if_neg cl]
      by_cases cd : dch (lk I n s) = true
      · rw [if_pos cd]
        have ew := rnF_s hsn cd
        have g1 := rnF_ge dch I n (s + 1)
        have g2 := rnF_le dch I (n := n) (p := s + 1) (by omega)
        obtain ⟨e, he⟩ : ∃ e, e = rnF dch I n (s + 1) := ⟨_, rfl⟩
        rw [← he] at ew g1 g2 ⊢
        obtain ⟨Y, q1, q2, q3, q4, q5⟩ := sr_L167 (s := s) hI (n - s) s (pI X 85 a 0) (h2.fld (by decide) (by decide) _) (by rw [sI_pI, if_neg (by omega)]; exact X84) (Nat.le_refl _) (by rw [sI_pI, if_pos ⟨rfl, rfl⟩, Nat.sub_self]; rfl) (Nat.le_refl _)
        rw [ew] at q2 q4
        have k82 : sI Y 82 a = (e : Int) := q2.2.2.2.2.2.2.2.1
        refine ⟨pI Y 83 a ((if e - s ≤ 9 then 2 else 4 : Nat) : Int), fun bb => ?_, ⟨q2.fld (by decide) (by decide) _, by rw [sI_pI, if_pos ⟨rfl, rfl⟩], by rw [sI_pI, if_neg (by omega)]; exact q3, fun u => ?_, fun u => ?_⟩, ((jX.tr (JO.pI _ _ _ _)).tr q5).tr (JO.pI _ _ _ _)⟩
        · rw [st bb, if_pos (by omega), sr_isLetter_eq (by omega), bind_some', if_neg cl, gd_pos (by omega), if_pos rfl, sr_isDigit_eq (by omega), bind_some', if_pos cd, gd_pos (by omega), if_neg (by omega), nm_eq, q1 bb FU (FU_gt (by omega)), bind_some', gd_pos q2.1, k82, q3, gd_pos (by omega)]
          by_cases c9 : e - s ≤ 9
          · rw [if_pos (by omega), bind_some', nm_eq, if_pos c9]; rfl
          · rw [if_neg (by omega), bind_some', nm_eq, if_neg c9]; rfl
        · exfalso
          change (if e - s ≤ 9 then 2 else 4) = 3 at u
          split at u <;> omega
        · change (if e - s ≤ 9 then 2 else 4) = 2 at u
          have c9 : e - s ≤ 9 := by
            by_cases c : e - s ≤ 9
            · exact c
            · rw [if_neg c] at u; omega
          rw [sI_pI, if_neg (by omega), q4, show min (e - s) 9 = e - s by omega]
      · rw [if_neg cd]
        have h3 : SRd (pI X 82 a ((s + 1 : Nat) : Int)) a b I n (s + 1) := h2.to (by omega)
        have k84 : sI (pI X 82 a ((s + 1 : Nat) : Int)) 84 a = (s : Int) := by rw [sI_pI, if_neg (by omega)]; exact X84
        refine ⟨pI (pI (pI X 82 a ((s + 1 : Nat) : Int)) 85 a (lk I n s)) 83 a ((if sgc (lk I n s) = true then 3 else 4 : Nat) : Int), fun bb => ?_, ⟨(h3.fld (by decide) (by decide) _).fld (by decide) (by decide) _, by rw [sI_pI, if_pos ⟨rfl, rfl⟩], by rw [sI_pI, if_neg (by omega), sI_pI, if_neg (by omega)]; exact k84, fun u => ?_, fun u => ?_⟩, ((jX.tr (JO.pI _ _ _ _)).tr (JO.pI _ _ _ _)).tr (JO.pI _ _ _ _)⟩
        · rw [st bb, if_pos (by omega), sr_isLetter_eq (by omega), bind_some', if_neg cl, gd_pos (by omega), if_pos rfl, sr_isDigit_eq (by omega), bind_some', if_neg cd, gd_pos (by omega), if_pos rfl, nm_eq, show (s : Int) + 1 = ((s + 1 : Nat) : Int) by omega, gd_pos h3.1, nm_eq]
          by_cases c3 : sgc (lk I n s) = true
          · have := of_decide_eq_true c3
            rw [if_pos (by omega), bind_some', gd_pos (show sc (pI (pI X 82 a ((s + 1 : Nat) : Int)) 85 a (lk I n s)) a = 6 from h3.1), nm_eq, if_pos c3]; rfl
          · have : ¬ _ := fun u => c3 (decide_eq_true u)
            rw [if_neg (by omega), bind_some', gd_pos (show sc (pI (pI X 82 a ((s + 1 : Nat) : Int)) 85 a (lk I n s)) a = 6 from h3.1), nm_eq, if_neg c3]; rfl
        · rw [sI_pI, if_neg (by omega), sI_pI, if_pos ⟨rfl, rfl⟩]
        · exfalso
          change (if sgc (lk I n s) = true then 3 else 4) = 2 at u
          split at u <;> omega
end Sn
