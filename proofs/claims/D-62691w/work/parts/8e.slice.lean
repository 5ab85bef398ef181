set_option maxRecDepth 100000
/-! NUMBERS: in the text, and as a row of their own -/
def nsg (c : Int) : Bool := dgt c || decide ((((c = 45 ∨ c = 43) ∨ c = 46) ∨ c = 101) ∨ c = 69)
theorem nsg_iff (c : Int) : nsg c = true ↔ (48 ≤ c ∧ c ≤ 57) ∨ c = 45 ∨ c = 43 ∨ c = 46 ∨ c = 101 ∨ c = 69 := by
  unfold nsg
  rw [Bool.or_eq_true, dgt_iff, decide_eq_true_iff]
  omega
theorem nsg_m : nsg (-1) = false := by decide
abbrev rns (I : Nat → Nat) (n p : Nat) : Nat := run nsg I n p
/-- bytes of the text as a row -/
def cut (I : Nat → Nat) (p r : Nat) : List UInt8 := (List.range (r - p)).map (fun j => UInt8.ofNat (I (p + j)))
theorem cut_len (I : Nat → Nat) (p r : Nat) : (cut I p r).length = r - p := by unfold cut; simp
theorem cut_at {I : Nat → Nat} (hI : ∀ k, I k < 256) {p r j : Nat} (h : j < r - p) : wI (cut I p r) j = I (p + j) := by
  unfold wI cut
  rw [List.getD_eq_getElem?_getD, List.getElem?_map, List.getElem?_range h]
  simp only [Option.map_some, Option.getD_some]
  exact tn_of (hI _)
theorem cut_push {I : Nat → Nat} {p r : Nat} (h : p ≤ r) : cut I p (r + 1) = cut I p r ++ [UInt8.ofNat (I r)] := by
  unfold cut
  rw [show r + 1 - p = (r - p) + 1 by omega, List.range_succ, List.map_append]
  simp only [List.map_cons, List.map_nil]
  rw [show p + (r - p) = r by omega]
theorem dg_uniq {J : Nat → Nat} {N k e : Nat} (h1 : k ≤ e) (h2 : ∀ j, k ≤ j → j < e → 48 ≤ lk J N j ∧ lk J N j ≤ 57) (h3 : ¬ (48 ≤ lk J N e ∧ lk J N e ≤ 57)) : dg J N k = e := by
  obtain ⟨a, b, c, d⟩ := dg_sp J N k
  rcases Nat.lt_trichotomy (dg J N k) e with q | q | q
  · exact absurd (h2 _ a q) c
  · exact q
  · exact absurd (d e h1 q) h3
section Cu
variable {I : Nat → Nat} {n p r : Nat}
/-- a number's run of signs from p to r - 1, as a row -/
def Rns (I : Nat → Nat) (n p r : Nat) : Prop := (∀ k, I k < 256) ∧ p ≤ r ∧ (r ≤ n ∨ r = p) ∧ ¬ nsg (lk I n r) = true ∧ ∀ j, p ≤ j → j < r → nsg (lk I n j) = true
theorem Rns.mk (hI : ∀ k, I k < 256) : Rns I n p (rns I n p) := by
  obtain ⟨a, b, c, d⟩ := run_sp (P := nsg) (J := I) (N := n) nsg_m _ p (Nat.le_refl _)
  refine ⟨hI, a, ?_, c, d⟩
  have : run nsg I n p ≤ max p n := b
  have e : rns I n p = run nsg I n p := rfl
  omega
theorem Rns.lt (h : Rns I n p r) {j : Nat} (hj : j < r - p) : lk (wI (cut I p r)) (r - p) j = lk I n (p + j) := by
  rw [lk_lt hj, cut_at h.1 hj, lk_lt (by have := h.2.2.1; omega)]
theorem Rns.same (h : Rns I n p r) {j : Nat} (hj : j ≤ r - p) {c : Int} (hc : nsg c = true) : lk (wI (cut I p r)) (r - p) j = c ↔ lk I n (p + j) = c := by
  rcases Nat.lt_or_ge j (r - p) with q | q
  · rw [h.lt q]
  · have e : p + j = r := by have := h.2.1; omega
    rw [lk_ge q, e]
    constructor
    · intro w; rw [← w] at hc; exact absurd hc (by decide)
    · intro w; rw [← w] at hc; exact absurd hc h.2.2.2.1
theorem Rns.in {j : Nat} {c : Int} (_ : Rns I n p r) (hc : c ≠ -1) (h : lk (wI (cut I p r)) (r - p) j = c) : j < r - p := lk_in (I := wI (cut I p r)) (by rw [h]; exact hc)
theorem Rns.dgs (h : Rns I n p r) {j : Nat} (hj : j ≤ r - p) : dg I n (p + j) = p + dg (wI (cut I p r)) (r - p) j ∧ dg (wI (cut I p r)) (r - p) j ≤ r - p := by
  obtain ⟨a, b, c, d⟩ := dg_sp (wI (cut I p r)) (r - p) j
  have hl : dg (wI (cut I p r)) (r - p) j ≤ r - p := by omega
  refine ⟨dg_uniq (by omega) (fun i h1 h2 => ?_) (fun q => ?_), hl⟩
  · have hd := d (i - p) (by omega) (by omega)
    rw [h.lt (by omega), show p + (i - p) = i by omega] at hd
    exact hd
  · rcases Nat.lt_or_ge (dg (wI (cut I p r)) (r - p) j) (r - p) with w | w
    · rw [← h.lt w] at q; exact c q
    · have e : p + dg (wI (cut I p r)) (r - p) j = r := by have := h.2.1; omega
      rw [e] at q
      exact h.2.2.2.1 ((nsg_iff _).mpr (Or.inl q))
theorem sl1_sh {J J' : Nat → Nat} {N N' pt k0 p : Nat} {W : Int} : ∀ (c k : Nat) (o : Option Nat), (∀ j, k ≤ j → j < k + c → j ≠ pt → dv J N (p + j) = dv J' N' j) → sl1 J N (p + pt) (p + k0) W c (p + k) o = sl1 J' N' pt k0 W c k o
  | 0, k, o, h => rfl
  | c + 1, k, o, h => by
    have e : ix (p + k0) (p + pt) (p + k) = ix k0 pt k := by unfold ix; split <;> split <;> omega
    rw [sl1, sl1, e]
    by_cases q : k = pt
    · rw [if_pos (by omega), if_pos q]
      exact sl1_sh c (k + 1) o (fun j h1 h2 h3 => h j (by omega) (by omega) h3)
    · rw [if_neg (by omega), if_neg q, h k (Nat.le_refl _) (by omega) q]
      split
      · exact sl1_sh c (k + 1) _ (fun j h1 h2 h3 => h j (by omega) (by omega) h3)
      · exact sl1_sh c (k + 1) _ (fun j h1 h2 h3 => h j (by omega) (by omega) h3)
theorem nv_sh {J J' : Nat → Nat} {N N' k0 pt k2 p : Nat} {W : Int} (h : ∀ j, k0 ≤ j → j < k2 → j ≠ pt → dv J N (p + j) = dv J' N' j) : nv J N (p + k0) (p + pt) (p + k2) W = nv J' N' k0 pt k2 W := by
  unfold nv
  have e : ix (p + k0) (p + pt) (p + k2) = ix k0 pt k2 := by unfold ix; split <;> split <;> omega
  rw [e, show p + k2 - (p + k0) = k2 - k0 by omega, sl1_sh _ _ _ (fun j h1 h2 h3 => h j h1 (by omega) h3)]
theorem spw_sh {J J' : Nat → Nat} {N N' p : Nat} : ∀ (c k v : Nat), (∀ j, k ≤ j → j < k + c → dv J N (p + j) = dv J' N' j) → spw J N c (p + k) v = spw J' N' c k v
  | 0, k, v, h => rfl
  | c + 1, k, v, h => by
    rw [spw, spw, h k (Nat.le_refl _) (by omega)]
    exact spw_sh c (k + 1) _ (fun j h1 h2 => h j (by omega) (by omega))
/-- the two are one number -/
theorem Rns.num (h : Rns I n p r) : (lk I n p = 45 ↔ lk (wI (cut I p r)) (r - p) 0 = 45) ∧ (gok I n p ↔ gok (wI (cut I p r)) (r - p) 0) ∧ g4 I n p = p + g4 (wI (cut I p r)) (r - p) 0 ∧ g4 (wI (cut I p r)) (r - p) 0 ≤ r - p ∧ wv I n p = wv (wI (cut I p r)) (r - p) 0 := by
  have hJ : ∃ J, J = wI (cut I p r) := ⟨_, rfl⟩
  obtain ⟨J, hJ⟩ := hJ
  have hN : ∃ N, N = r - p := ⟨_, rfl⟩
  obtain ⟨N, hN⟩ := hN
  have same : ∀ j, j ≤ N → ∀ c, nsg c = true → (lk J N j = c ↔ lk I n (p + j) = c) := fun j hj c hc => by rw [hJ, hN]; rw [hN] at hj; exact h.same hj hc
  have lt : ∀ j, j < N → lk J N j = lk I n (p + j) := fun j hj => by rw [hJ, hN]; rw [hN] at hj; exact h.lt hj
  have inn : ∀ j c, c ≠ -1 → lk J N j = c → j < N := fun j c h1 h2 => lk_in (I := J) (by rw [h2]; exact h1)
  have dgs : ∀ j, j ≤ N → dg I n (p + j) = p + dg J N j ∧ dg J N j ≤ N := fun j hj => by rw [hJ, hN]; rw [hN] at hj; exact h.dgs hj
  rw [← hJ, ← hN]
  clear hJ hN
  have s0 := same 0 (by omega) 45 (by decide)
  rw [Nat.add_zero] at s0
  have e0 : g0 I n p = p + g0 J N 0 ∧ g0 J N 0 ≤ N := by
    unfold g0
    by_cases c : lk J N 0 = 45
    · have := inn 0 45 (by decide) c
      rw [if_pos c, if_pos (s0.mp c)]; omega
    · rw [if_neg c, if_neg (fun q => c (s0.mpr q))]; omega
  have e1 : g1 I n p = p + g1 J N 0 ∧ g1 J N 0 ≤ N := by
    unfold g1
    rw [e0.1]
    exact dgs _ e0.2
  have s1 := same (g1 J N 0) e1.2 46 (by decide)
  rw [← e1.1] at s1
  have e2 : g2 I n p = p + g2 J N 0 ∧ g2 J N 0 ≤ N := by
    unfold g2
    by_cases c : lk J N (g1 J N 0) = 46
    · have := inn _ 46 (by decide) c
      rw [if_pos c, if_pos (s1.mp c), e1.1]
      exact dgs (g1 J N 0 + 1) (by omega)
    · rw [if_neg c, if_neg (fun q => c (s1.mpr q))]; exact e1
  have sE : isE (lk J N (g2 J N 0)) ↔ isE (lk I n (g2 I n p)) := by
    have a1 := same (g2 J N 0) e2.2 101 (by decide)
    have a2 := same (g2 J N 0) e2.2 69 (by decide)
    rw [← e2.1] at a1 a2
    unfold isE
    rw [a1, a2]
  have e3 : g3 I n p = p + g3 J N 0 ∧ g3 J N 0 ≤ N := by
    unfold g3
    by_cases c : isE (lk J N (g2 J N 0))
    · have hlt : g2 J N 0 < N := by
        rcases c with c | c
        · exact inn _ 101 (by decide) c
        · exact inn _ 69 (by decide) c
      have b1 := same (g2 J N 0 + 1) (by omega) 43 (by decide)
      have b2 := same (g2 J N 0 + 1) (by omega) 45 (by decide)
      rw [show p + (g2 J N 0 + 1) = g2 I n p + 1 by omega] at b1 b2
      rw [if_pos c, if_pos (sE.mp c)]
      by_cases d : lk J N (g2 J N 0 + 1) = 43 ∨ lk J N (g2 J N 0 + 1) = 45
      · have : g2 J N 0 + 1 < N := by
          rcases d with d | d
          · exact inn _ 43 (by decide) d
          · exact inn _ 45 (by decide) d
        rw [if_pos d, if_pos (by rw [← b1, ← b2]; exact d)]; omega
      · rw [if_neg d, if_neg (by rw [← b1, ← b2]; exact d)]; omega
    · rw [if_neg c, if_neg (fun q => c (sE.mpr q))]; exact e2
  have e4 : g4 I n p = p + g4 J N 0 ∧ g4 J N 0 ≤ N := by
    unfold g4
    by_cases c : isE (lk J N (g2 J N 0))
    · rw [if_pos c, if_pos (sE.mp c), e3.1]; exact dgs _ e3.2
    · rw [if_neg c, if_neg (fun q => c (sE.mpr q))]; exact e2
  have s48 := same (g0 J N 0) e0.2 48 (by decide)
  rw [← e0.1] at s48
  refine ⟨s0.symm, ?_, e4.1, e4.2, ?_⟩
  · unfold gok
    rw [← s48, ← s1, ← sE, e0.1, e1.1, e2.1, e3.1, e4.1]
    constructor
    · rintro ⟨q1, q2, q3, q4⟩
      exact ⟨by omega, fun q => q2 ⟨q.1, by omega⟩, fun q => by have := q3 q; omega, fun q => by have := q4 q; omega⟩
    · rintro ⟨q1, q2, q3, q4⟩
      exact ⟨by omega, fun q => q2 ⟨q.1, by omega⟩, fun q => by have := q3 q; omega, fun q => by have := q4 q; omega⟩
  · have dve : ∀ j, j < N → dv I n (p + j) = dv J N j := fun j hj => by unfold dv; rw [lt j hj]
    unfold wv
    have eW : ept I n p (spw I n (g4 I n p - g3 I n p) (g3 I n p) 0) = ept J N 0 (spw J N (g4 J N 0 - g3 J N 0) (g3 J N 0) 0) := by
      rw [e4.1, e3.1, show p + g4 J N 0 - (p + g3 J N 0) = g4 J N 0 - g3 J N 0 by omega, spw_sh (J' := J) (N' := N) _ _ _ (fun j h1 h2 => dve j (by omega))]
      unfold ept
      by_cases c : isE (lk J N (g2 J N 0))
      · have hlt : g2 J N 0 < N := by
          rcases c with c | c
          · exact inn _ 101 (by decide) c
          · exact inn _ 69 (by decide) c
        have b2 := same (g2 J N 0 + 1) (by omega) 45 (by decide)
        rw [show p + (g2 J N 0 + 1) = g2 I n p + 1 by omega] at b2
        rw [if_pos c, if_pos (sE.mp c)]
        by_cases d : lk J N (g2 J N 0 + 1) = 45
        · rw [if_pos d, if_pos (b2.mp d)]
        · rw [if_neg d, if_neg (fun q => d (b2.mpr q))]
      · rw [if_neg c, if_neg (fun q => c (sE.mpr q))]
    rw [eW, e0.1, e1.1, e2.1, show ((p + g1 J N 0 : Nat) : Int) - ((p + g0 J N 0 : Nat) : Int) = (g1 J N 0 : Int) - (g0 J N 0 : Int) by omega]
    exact nv_sh (fun j h1 h2 h3 => dve j (by omega))
end Cu
