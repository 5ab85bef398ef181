set_option maxRecDepth 100000
/-! SCHEMAS, READ: the system's lists -/
/-- a list got one more -/
def LA (l x : Nat) (σ σ' : ST) : Prop := sc σ' = sc σ ∧ sI σ' = sI σ ∧ sR σ' = sR σ ∧ sW σ' = sW σ ∧ sE σ' = sE σ ∧ (∀ b, sA σ' b = if b = l then sA σ l ++ [x] else sA σ b) ∧ (∀ b, b ≠ l → sN σ' b = sN σ b) ∧ sN σ' l ≤ 10 + 2 * ((sA σ l).length + 1) ∧ FR (fun b => b = l) σ σ' ∧ sS σ' ≤ sS σ + 10 + 2 * (sA σ l).length ∧ sC σ' ≤ sC σ + 1
/-- keys of objects that hold lists, arrays and scopes of their own -/
abbrev HK : List Nat := [16, 17, 18, 19, 33, 34, 35, 98, 99, 100, 101, 114, 115, 139]
abbrev tg (k : Nat) : Nat := if k = 16 ∨ k = 98 then 3 else if k = 101 ∨ k = 115 then 102 else 16
/-- the objects ob have lists (arrays) of their own, with L in them -/
def HVw (y : Nat) (σ : ST) (ob : Nat → Prop) (L : Nat → Nat → List Nat) : Prop :=
  (∀ x, ob x → y ≤ x ∧ x < sZ σ) ∧
  (∀ x k, ob x → k ∈ HK → sc σ x = k / 16 + 1 → ∃ l, sR σ k x = some l ∧ y ≤ l ∧ l < sZ σ ∧ sc σ l = tg k ∧ (tg k = 16 → sA σ l = L k x ∧ sN σ l ≤ 10 + 2 * (L k x).length) ∧ (tg k = 102 → sN σ l = (if k = 101 then 30 else 40) ∧ (∀ q v : Nat, (L k x)[q]? = some v → sE σ l q = (v : Int)) ∧ ∀ q, (L k x).length ≤ q → sE σ l q = 0)) ∧
  ∀ x x' k k', ob x → ob x' → k ∈ HK → k' ∈ HK → sc σ x = k / 16 + 1 → sc σ x' = k' / 16 + 1 → sR σ k x = sR σ k' x' → k = k' ∧ x = x'
def updL (L : Nat → Nat → List Nat) (k x : Nat) (w : List Nat) : Nat → Nat → List Nat := fun k' x' => if k' = k ∧ x' = x then w else L k' x'
section Hp
variable {y z k l x v : Nat} {σ σ0 σ' : ST} {ob : Nat → Prop} {L : Nat → Nat → List Nat}
theorem lCap_le (c : Nat) : lCap c ≤ 10 + 2 * c := by
  unfold lCap
  split
  · omega
  · omega
theorem rn_ladd (hl : sc σ l = 16) (hx : lt4 (sc σ x)) (hn : (sA σ l).length < 100000) (hN : sN σ l ≤ 10 + 2 * (sA σ l).length) : Rn (fun r : Int × ST => r.2) σ (fun bb => l_add bb l (some x) σ) (fun r => LA l x σ r.2) := by
  unfold l_add
  show Rn (fun r : Int × ST => r.2) σ (fun bb => gd (sc σ l = 16 ∧ lt4 (sc σ x) ∧ (sA σ l).length < 1000000 ∧ sN σ l < 1000000) (if (sA σ l).length = sN σ l then gd (rm bb σ (lCap (sN σ l))) (some (1, sLg σ l (sA σ l ++ [x]) (lCap (sN σ l)))) else some (1, sLu σ l (sA σ l ++ [x])))) _
  refine Rn_gd ⟨hl, hx, by omega, by omega⟩ ?_
  have hc := lCap_le (sN σ l)
  by_cases c : (sA σ l).length = sN σ l
  · refine Rn_pos c ?_
    refine Rn_rm (σ1 := sLg σ l (sA σ l ++ [x]) (lCap (sN σ l))) (Nat.le_refl _) (Nat.le_refl _) (Nat.le_succ _) ?_
    refine Rn_some (Le.refl _) ⟨rfl, rfl, rfl, rfl, rfl, fun b => sA_sLg_ _ _ _ _ _, fun b hb => ?_, ?_, FR.sLg _ _ _ rfl, ?_, ?_⟩
    · rw [sN_sLg_, if_neg hb]
    · show sN (sLg σ l (sA σ l ++ [x]) (lCap (sN σ l))) l ≤ _
      rw [sN_sLg_, if_pos rfl]; omega
    · show sS (sLg σ l (sA σ l ++ [x]) (lCap (sN σ l))) ≤ _
      rw [sS_sLg_]; omega
    · show sC (sLg σ l (sA σ l ++ [x]) (lCap (sN σ l))) ≤ _
      rw [sC_sLg_]; omega
  · refine Rn_neg c ?_
    refine Rn_some ⟨Nat.le_refl _, Nat.le_refl _, Nat.le_refl _⟩ ⟨rfl, rfl, rfl, rfl, rfl, fun b => sA_sLu_ _ _ _ _, fun b hb => rfl, ?_, FR.sLu _ _ rfl, ?_, ?_⟩
    · show sN (sLu σ l (sA σ l ++ [x])) l ≤ _
      rw [sN_sLu_]; omega
    · show sS (sLu σ l (sA σ l ++ [x])) ≤ _
      rw [sS_sLu_]; omega
    · show sC (sLu σ l (sA σ l ++ [x])) ≤ _
      rw [sC_sLu_]; omega
theorem HVw.get (h : HVw y σ ob L) (hx : ob x) (hk : k ∈ HK) (hc : sc σ x = k / 16 + 1) : ∃ l, sR σ k x = some l ∧ y ≤ l ∧ l < sZ σ ∧ sc σ l = tg k ∧ (tg k = 16 → sA σ l = L k x ∧ sN σ l ≤ 10 + 2 * (L k x).length) ∧ (tg k = 102 → sN σ l = (if k = 101 then 30 else 40) ∧ (∀ q v : Nat, (L k x)[q]? = some v → sE σ l q = (v : Int)) ∧ ∀ q, (L k x).length ≤ q → sE σ l q = 0) := h.2.1 x k hx hk hc
theorem HVw.add (h : HVw y σ ob L) (hx : ob x) (hk : k ∈ HK) (hc : sc σ x = k / 16 + 1) (ht : tg k = 16) (hl : sR σ k x = some l) (g : LA l v σ σ') : HVw y σ' ob (updL L k x (L k x ++ [v])) := by
  obtain ⟨g1, g2, g3, g4, g5, g6, g7, g8, g9, -⟩ := g
  have hz := g9.1.1
  refine ⟨fun x' hx' => ⟨(h.1 x' hx').1, by have := (h.1 x' hx').2; omega⟩, fun x' k' hx' hk' hc' => ?_, ?_⟩
  · rw [g1] at hc'
    obtain ⟨l', a1, a2, a3, a4, a5, a6⟩ := h.2.1 x' k' hx' hk' hc'
    refine ⟨l', by rw [g3]; exact a1, a2, by omega, by rw [g1]; exact a4, ?_, ?_⟩
    · intro t
      by_cases e : k' = k ∧ x' = x
      · obtain ⟨e1, e2⟩ := e
        subst e1 e2
        rw [hl] at a1
        have e3 : l = l' := Option.some.inj a1
        subst e3
        obtain ⟨b1, b2⟩ := a5 t
        rw [g6, if_pos rfl]
        unfold updL
        rw [if_pos ⟨rfl, rfl⟩, b1]
        refine ⟨rfl, ?_⟩
        rw [b1] at g8
        rw [List.length_append]; simpa using g8
      · have ne : l' ≠ l := fun q => e (by
          have := h.2.2 x' x k' k hx' hx hk' hk hc' hc (by rw [a1, hl, q])
          exact this)
        rw [g6, if_neg ne, g7 l' ne]
        unfold updL
        rw [if_neg e]; exact a5 t
    · intro t
      have e : ¬ (k' = k ∧ x' = x) := fun q => by rw [q.1, ht] at t; cases t
      have ne : l' ≠ l := fun q => e (by
          have := h.2.2 x' x k' k hx' hx hk' hk hc' hc (by rw [a1, hl, q])
          exact this)
      rw [g7 l' ne, g5]
      unfold updL
      rw [if_neg e]; exact a6 t
  · rw [g1, g3]; exact h.2.2
theorem HVw.arr (h : HVw y σ ob L) (hx : ob x) (hk : k ∈ HK) (hc : sc σ x = k / 16 + 1) (ht : tg k = 102) (hl : sR σ k x = some l) : HVw y (pE σ l (L k x).length (v : Int)) ob (updL L k x (L k x ++ [v])) := by
  refine ⟨h.1, fun x' k' hx' hk' hc' => ?_, h.2.2⟩
  obtain ⟨l', a1, a2, a3, a4, a5, a6⟩ := h.2.1 x' k' hx' hk' hc'
  refine ⟨l', a1, a2, a3, a4, ?_, ?_⟩
  · intro t
    have e : ¬ (k' = k ∧ x' = x) := fun q => by rw [q.1, ht] at t; cases t
    unfold updL
    rw [if_neg e]; exact a5 t
  · intro t
    refine ⟨(a6 t).1, fun q u hq => ?_, fun q hq => ?_⟩
    case refine_2.refine_2 =>
      rw [sE_pE]
      by_cases e : k' = k ∧ x' = x
      · obtain ⟨e1, e2⟩ := e
        subst e1 e2
        unfold updL at hq
        rw [if_pos ⟨rfl, rfl⟩, List.length_append] at hq
        simp only [List.length_singleton] at hq
        rw [if_neg (fun w => by have := w.2; omega)]
        exact (a6 t).2.2 q (by omega)
      · have ne : l' ≠ l := fun q => e (by
            have := h.2.2 x' x k' k hx' hx hk' hk hc' hc (by rw [a1, hl, q])
            exact this)
        rw [if_neg (fun w => ne w.1)]
        unfold updL at hq
        rw [if_neg e] at hq
        exact (a6 t).2.2 q hq
    rw [sE_pE]
    by_cases e : k' = k ∧ x' = x
    · obtain ⟨e1, e2⟩ := e
      subst e1 e2
      rw [hl] at a1
      have e3 : l = l' := Option.some.inj a1
      subst e3
      unfold updL at hq
      rw [if_pos ⟨rfl, rfl⟩] at hq
      by_cases e4 : q = (L k' x').length
      · rw [if_pos ⟨rfl, e4⟩]
        subst e4
        rw [List.getElem?_append_right (Nat.le_refl _)] at hq
        simp at hq
        omega
      · rw [if_neg (fun w => e4 w.2)]
        have hlt : q < (L k' x').length := by
          have := (List.getElem?_eq_some_iff.mp hq).1
          rw [List.length_append] at this; simp at this; omega
        rw [List.getElem?_append_left hlt] at hq
        exact (a6 t).2.1 q u hq
    · have ne : l' ≠ l := fun q => e (by
          have := h.2.2 x' x k' k hx' hx hk' hk hc' hc (by rw [a1, hl, q])
          exact this)
      rw [if_neg (fun w => ne w.1)]
      unfold updL at hq
      rw [if_neg e] at hq
      exact (a6 t).2.1 q u hq
theorem HVw.setI (h : HVw y σ ob L) (j b : Nat) (w : Int) : HVw y (pI σ j b w) ob L := h
/-- nothing but readers were written -/
def FR6 (σ σ' : ST) : Prop := FR (fun x => sc σ x = 6) σ σ'
theorem tg_6 (k : Nat) : tg k ≠ 6 := by unfold tg; split; decide; split <;> decide
theorem HK_6 (h : k ∈ HK) : k / 16 + 1 ≠ 6 := by
  have : ∀ k ∈ HK, k / 16 + 1 ≠ 6 := by decide
  exact this k h
theorem FR6.sm (F : FR6 σ σ') (h : x < sZ σ) (hn : sc σ x ≠ 6) : SameB σ σ' x := (F.2 x h).2 hn
theorem FR6.tgE (F : FR6 σ σ') (h : x < sZ σ) : sc σ' x = sc σ x := (F.2 x h).1
theorem HVw.fr (h : HVw y σ ob L) (F : FR6 σ σ') : HVw y σ' ob L := by
  have hz := F.1.1
  refine ⟨fun x hx => ⟨(h.1 x hx).1, by have := (h.1 x hx).2; omega⟩, fun x k hx hk hc => ?_, fun x x' k k' hx hx' hk hk' hc hc' e => ?_⟩
  · rw [FR6.tgE F (h.1 x hx).2] at hc
    obtain ⟨l, a1, a2, a3, a4, a5, a6⟩ := h.2.1 x k hx hk hc
    have sx := FR6.sm F (h.1 x hx).2 (by rw [hc]; exact HK_6 hk)
    have sl := FR6.sm F a3 (by rw [a4]; exact tg_6 k)
    refine ⟨l, by rw [sx.2.2.2.2.2.2.2.2.2]; exact a1, a2, by omega, by rw [FR6.tgE F a3]; exact a4, fun t => ?_, fun t => ?_⟩
    · rw [sl.2.1, sl.2.2.1]; exact a5 t
    · rw [sl.2.2.1, sl.2.2.2.2.1]; exact a6 t
  · rw [FR6.tgE F (h.1 x hx).2] at hc
    rw [FR6.tgE F (h.1 x' hx').2] at hc'
    have s1 := FR6.sm F (h.1 x hx).2 (by rw [hc]; exact HK_6 hk)
    have s2 := FR6.sm F (h.1 x' hx').2 (by rw [hc']; exact HK_6 hk')
    rw [s1.2.2.2.2.2.2.2.2.2, s2.2.2.2.2.2.2.2.2.2] at e
    exact h.2.2 x x' k k' hx hx' hk hk' hc hc' e
/-- new objects with lists of their own -/
theorem HVw.new (h : HVw y σ0 ob L) (F : FR6 σ0 σ) (hy : y ≤ sZ σ0) {nw : Nat → Prop} (hx : ∀ x, nw x → sZ σ0 ≤ x ∧ x < sZ σ)
    (hl : ∀ x k, nw x → k ∈ HK → sc σ x = k / 16 + 1 → ∃ l, sR σ k x = some l ∧ sZ σ0 ≤ l ∧ l < sZ σ ∧ sc σ l = tg k ∧ (tg k = 16 → sA σ l = [] ∧ sN σ l ≤ 10) ∧ (tg k = 102 → sN σ l = (if k = 101 then 30 else 40) ∧ ∀ q, sE σ l q = 0))
    (hd : ∀ x x' k k', nw x → nw x' → k ∈ HK → k' ∈ HK → sc σ x = k / 16 + 1 → sc σ x' = k' / 16 + 1 → sR σ k x = sR σ k' x' → k = k' ∧ x = x')
    {L' : Nat → Nat → List Nat} (h1 : ∀ k x, x < sZ σ0 → L' k x = L k x) (h2 : ∀ k x, nw x → L' k x = []) : HVw y σ (fun x => ob x ∨ nw x) L' := by
  have g := h.fr F
  have old : ∀ x k l, ob x → k ∈ HK → sc σ x = k / 16 + 1 → sR σ k x = some l → l < sZ σ0 := fun x k l hx hk hc e => by
    rw [FR6.tgE F (h.1 x hx).2] at hc
    obtain ⟨l', a1, a2, a3, -⟩ := h.2.1 x k hx hk hc
    have sx := FR6.sm F (h.1 x hx).2 (by rw [hc]; exact HK_6 hk)
    rw [sx.2.2.2.2.2.2.2.2.2, a1] at e
    have := Option.some.inj e
    omega
  refine ⟨fun x hx' => ?_, fun x k hx' hk hc => ?_, fun x x' k k' hx1 hx2 hk hk' hc hc' e => ?_⟩
  · rcases hx' with q | q
    · exact g.1 x q
    · have := hx x q; omega
  · rcases hx' with q | q
    · rw [h1 k x (h.1 x q).2]; exact g.2.1 x k q hk hc
    · obtain ⟨l, a1, a2, a3, a4, a5, a6⟩ := hl x k q hk hc
      refine ⟨l, a1, by omega, a3, a4, fun t => ?_, fun t => ⟨(a6 t).1, fun i v hv => ?_, fun q _ => (a6 t).2 q⟩⟩
      · rw [h2 k x q]; exact a5 t
      · rw [h2 k x q] at hv; cases hv
  · rcases hx1 with q | q <;> rcases hx2 with q' | q'
    · exact g.2.2 x x' k k' q q' hk hk' hc hc' e
    · obtain ⟨l, a1, a2, -⟩ := hl x' k' q' hk' hc'
      rw [a1] at e
      have := old x k l q hk hc e
      omega
    · obtain ⟨l, a1, a2, -⟩ := hl x k q hk hc
      rw [a1] at e
      have := old x' k' l q' hk' hc' e.symm
      omega
    · exact hd x x' k k' q q' hk hk' hc hc' e
end Hp
