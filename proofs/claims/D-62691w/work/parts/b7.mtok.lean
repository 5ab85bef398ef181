set_option maxRecDepth 100000
/-! SCHEMAS, READ: signs and words, alike on both sides -/
section Ta
variable {I : Nat → Nat} {n i K : Nat} {σ σ' : ST} {τ τ0 τ' : TT}
theorem tkn_n0 (h : (tkn I n i).1 ≠ 0) : (tkn I n i).2.1 < n ∧ (tkn I n i).1 = (tkA I n (tkn I n i).2.1).1 ∧ (tkn I n i).2.2 = (tkA I n (tkn I n i).2.1).2 := by
  unfold tkn tkT at h ⊢
  by_cases c : n ≤ rnF bch I n (tkP I n i)
  · rw [if_pos c] at h; exact absurd rfl h
  · rw [if_neg c]; exact ⟨by show rnF bch I n (tkP I n i) < n; omega, rfl, rfl⟩
theorem sgc_nl {c : Int} (h : sgc c = true) : ¬ (lch c = true) ∧ ¬ (dch c = true) := by
  unfold sgc at h; rw [decide_eq_true_iff] at h
  unfold lch dch
  rw [decide_eq_true_iff, decide_eq_true_iff]
  omega
theorem tis_sg {u c : Nat} (hs : sx u = [c]) (hc : sgc (c : Int) = true) : ((tkn I n i).1 ≠ 0 ∧ tis I (tkn I n i) u) ↔ ((tkn I n i).1 = 3 ∧ lk I n (tkn I n i).2.1 = (c : Int)) := by
  have hl : slen u = 1 := by unfold slen; rw [hs]; rfl
  have h0 : sch u 0 = c := by unfold sch; rw [hs]; rfl
  have hn := sgc_nl hc
  constructor
  · intro ⟨h, h1, h2⟩
    obtain ⟨a1, a2, a3⟩ := tkn_n0 h
    have e := h2 0 (by omega)
    rw [Nat.add_zero, h0] at e
    have el : lk I n (tkn I n i).2.1 = (c : Int) := by unfold lk; rw [if_pos a1, e]
    refine ⟨?_, el⟩
    rw [a2]; unfold tkA
    rw [el, if_neg hn.1, if_neg hn.2]
    show (if sgc (c : Int) = true then 3 else 4) = 3
    rw [if_pos hc]
  · intro ⟨h, h1⟩
    have h' : (tkn I n i).1 ≠ 0 := by omega
    obtain ⟨a1, a2, a3⟩ := tkn_n0 h'
    refine ⟨h', ?_, fun j hj => ?_⟩
    · rw [a3, hl]; unfold tkA
      rw [h1, if_neg hn.1, if_neg hn.2]
      show (tkn I n i).2.1 + 1 - (tkn I n i).2.1 = 1
      omega
    · rw [show j = 0 by omega, Nat.add_zero, h0]
      unfold lk at h1; rw [if_pos a1] at h1
      omega
theorem tis_wd {u u' : Nat} (hs : sx u = sx u') (h1 : lch (sch u 0 : Int) = true) (h2 : 0 < slen u) (h3 : slen u ≤ 24) : ((tkn I n i).1 ≠ 0 ∧ tis I (tkn I n i) u) ↔ ((tkn I n i).1 = 1 ∧ tis I (tkn I n i) u') := by
  have el : slen u' = slen u := by unfold slen; rw [hs]
  have ec : ∀ j, sch u' j = sch u j := fun j => by unfold sch; rw [hs]
  constructor
  · intro ⟨h, q1, q2⟩
    obtain ⟨a1, a2, a3⟩ := tkn_n0 h
    have e := q2 0 h2
    rw [Nat.add_zero] at e
    have e2 : lk I n (tkn I n i).2.1 = (sch u 0 : Int) := by unfold lk; rw [if_pos a1, e]
    refine ⟨?_, by rw [el]; exact q1, fun j hj => by rw [ec]; exact q2 j (by omega)⟩
    have g2 := a2
    have g3 := a3
    unfold tkA at g2 g3
    rw [e2, if_pos h1] at g2 g3
    change _ = rnF wch I n ((tkn I n i).2.1 + 1) at g3
    change _ = (if rnF wch I n ((tkn I n i).2.1 + 1) - (tkn I n i).2.1 ≤ 24 then 1 else 4) at g2
    rw [if_pos (by omega)] at g2
    exact g2
  · intro ⟨h, q1, q2⟩
    exact ⟨by omega, by rw [← el]; exact q1, fun j hj => by rw [← ec]; exact q2 j (by omega)⟩
/-- a sign -/
abbrev sgn (I : Nat → Nat) (n i : Nat) (c : Int) : Prop := (tkn I n i).1 = 3 ∧ lk I n (tkn I n i).2.1 = c
/-- a word of the language -/
abbrev wrd (I : Nat → Nat) (n i : Nat) (u : Nat) : Prop := (tkn I n i).1 = 1 ∧ tis I (tkn I n i) u
theorem tkn_mono (I : Nat → Nat) (n i : Nat) : (tkn I n i).2.2 ≤ (tkn I n (i + 1)).2.1 := (tkT_bd (I := I) (tkP_le I n (i + 1))).1
/-- the end -/
def KD (I : Nat → Nat) (n K : Nat) : Prop := K ≤ n ∧ (tkn I n K).1 = 0 ∧ ∀ j, j < K → (tkn I n j).1 ≠ 0
theorem MRd.step (hD : KD I n K) (h : MRd τ I n K i) (hk : (tkn I n i).1 ≠ 0) : MRd (uI τ 13 ((i : Int) + 1)) I n K (i + 1) := by
  obtain ⟨h1, h2, h3, h4, h5, h6⟩ := h
  refine ⟨h1, h2, h3, ?_, ?_, ?_⟩
  · by_cases e : i = K
    · rw [e] at hk; exact absurd hD.2.1 hk
    · omega
  · rw [tI_uI, if_pos rfl]; omega
  · rw [tI_uI, if_neg (by decide)]; exact h6
theorem m_takes_sg (h : MRd τ I n K i) {u c : Nat} (hs : sx u = [c]) (hc : sgc (c : Int) = true) : m_takes u τ = some (if sgn I n i (c : Int) then (1, uI τ 13 ((i : Int) + 1)) else (0, τ)) := by
  rw [m_takes_eq h (by unfold slen; rw [hs]; show 1 ≤ 100; decide)]
  have e := tis_sg (I := I) (n := n) (i := i) hs hc
  by_cases q : sgn I n i (c : Int)
  · rw [if_pos q, if_pos (e.mpr q)]
  · rw [if_neg q, if_neg (fun w => q (e.mp w))]
theorem m_sign_sg (h : MRd τ I n K i) {u c : Nat} (hs : sx u = [c]) (hc : sgc (c : Int) = true) : m_sign u τ = some (if sgn I n i (c : Int) then uI τ 13 ((i : Int) + 1) else uI τ 14 1) := by
  rw [m_sign_eq h (by unfold slen; rw [hs]; show 1 ≤ 100; decide)]
  have e := tis_sg (I := I) (n := n) (i := i) hs hc
  by_cases q : sgn I n i (c : Int)
  · rw [if_pos q, if_pos ⟨q.1, (e.mpr q).2⟩]
  · rw [if_neg q, if_neg (fun w => q (e.mp ⟨by omega, w.2⟩))]
theorem m_takes_wd (h : MRd τ I n K i) {u u' : Nat} (hs : sx u = sx u') (h1 : lch (sch u 0 : Int) = true) (h2 : 0 < slen u) (h3 : slen u ≤ 24) : m_takes u τ = some (if wrd I n i u' then (1, uI τ 13 ((i : Int) + 1)) else (0, τ)) := by
  rw [m_takes_eq h (by omega)]
  have e := tis_wd (I := I) (n := n) (i := i) hs h1 h2 h3
  by_cases q : wrd I n i u'
  · rw [if_pos q, if_pos (e.mpr q)]
  · rw [if_neg q, if_neg (fun w => q (e.mp w))]
theorem m_looks_wd (h : MRd τ I n K i) {u u' : Nat} (hs : sx u = sx u') (h1 : lch (sch u 0 : Int) = true) (h2 : 0 < slen u) (h3 : slen u ≤ 24) : m_looks u τ = some (if wrd I n i u' then 1 else 0) := by
  rw [m_looks_eq h (by omega)]
  have e := tis_wd (I := I) (n := n) (i := i) hs h1 h2 h3
  by_cases q : wrd I n i u'
  · rw [if_pos q, if_pos ⟨q.1, (e.mpr q).2⟩]
  · rw [if_neg q, if_neg (fun w => q (e.mp ⟨by omega, w.2⟩))]
end Ta
