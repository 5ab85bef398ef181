set_option maxRecDepth 100000
/-! SCHEMAS, READ: what was read grows (fields, oneofs, reserved numbers) -/
section Gy
variable {y z k l x v n sd root s ms : Nat} {p : Int} {I : Nat → Nat} {σ σ0 σ1 σ' : ST} {ob : Nat → Prop} {L L' : Nat → Nat → List Nat} {M : List TyM} {E : List TyE} {V : List TyV} {F : List TyF} {O : List TyO} {R : List TyR} {N : List TyN}
theorem lCap_am (c : Nat) : lCap c + 4 * c ≤ 4 * lCap c := by
  unfold lCap
  split
  · omega
  · omega
/-- growing costs four times the growth at most -/
theorem rn_ladd2 (hl : sc σ l = 16) (hx : lt4 (sc σ x)) (hn : (sA σ l).length < 100000) (hN : sN σ l ≤ 10 + 2 * (sA σ l).length) : Rn (fun r : Int × ST => r.2) σ (fun bb => l_add bb l (some x) σ) (fun r => LA l x σ r.2 ∧ sS r.2 + 4 * sN σ l ≤ sS σ + 4 * sN r.2 l) := by
  unfold l_add
  show Rn (fun r : Int × ST => r.2) σ (fun bb => gd (sc σ l = 16 ∧ lt4 (sc σ x) ∧ (sA σ l).length < 1000000 ∧ sN σ l < 1000000) (if (sA σ l).length = sN σ l then gd (rm bb σ (lCap (sN σ l))) (some (1, sLg σ l (sA σ l ++ [x]) (lCap (sN σ l)))) else some (1, sLu σ l (sA σ l ++ [x])))) _
  refine Rn_gd ⟨hl, hx, by omega, by omega⟩ ?_
  have hc := lCap_le (sN σ l)
  have ha := lCap_am (sN σ l)
  by_cases c : (sA σ l).length = sN σ l
  · refine Rn_pos c ?_
    refine Rn_rm (σ1 := sLg σ l (sA σ l ++ [x]) (lCap (sN σ l))) (Nat.le_refl _) (Nat.le_refl _) (Nat.le_succ _) ?_
    refine Rn_some (Le.refl _) ⟨⟨rfl, rfl, rfl, rfl, rfl, fun b => sA_sLg_ _ _ _ _ _, fun b hb => ?_, ?_, FR.sLg _ _ _ rfl, ?_, ?_⟩, ?_⟩
    · rw [sN_sLg_, if_neg hb]
    · show sN (sLg σ l (sA σ l ++ [x]) (lCap (sN σ l))) l ≤ _
      rw [sN_sLg_, if_pos rfl]; omega
    · show sS (sLg σ l (sA σ l ++ [x]) (lCap (sN σ l))) ≤ _
      rw [sS_sLg_]; omega
    · show sC (sLg σ l (sA σ l ++ [x]) (lCap (sN σ l))) ≤ _
      rw [sC_sLg_]; omega
    · show sS (sLg σ l (sA σ l ++ [x]) (lCap (sN σ l))) + 4 * sN σ l ≤ sS σ + 4 * sN (sLg σ l (sA σ l ++ [x]) (lCap (sN σ l))) l
      rw [sS_sLg_, sN_sLg_, if_pos rfl]; omega
  · refine Rn_neg c ?_
    refine Rn_some ⟨Nat.le_refl _, Nat.le_refl _, Nat.le_refl _⟩ ⟨⟨rfl, rfl, rfl, rfl, rfl, fun b => sA_sLu_ _ _ _ _, fun b hb => rfl, ?_, FR.sLu _ _ rfl, ?_, ?_⟩, Nat.le_refl _⟩
    · show sN (sLu σ l (sA σ l ++ [x])) l ≤ _
      rw [sN_sLu_]; omega
    · show sS (sLu σ l (sA σ l ++ [x])) ≤ _
      rw [sS_sLu_]; omega
    · show sC (sLu σ l (sA σ l ++ [x])) ≤ _
      rw [sC_sLu_]; omega
/-- new objects with lists of their own that are filled already -/
theorem HVw.new2 (h : HVw y σ0 ob L) (F : FR6 σ0 σ) (hy : y ≤ sZ σ0) {nw : Nat → Prop} (hx : ∀ x, nw x → sZ σ0 ≤ x ∧ x < sZ σ)
    {L' : Nat → Nat → List Nat} (h1 : ∀ k x, x < sZ σ0 → L' k x = L k x)
    (hl : ∀ x k, nw x → k ∈ HK → sc σ x = k / 16 + 1 → ∃ l, sR σ k x = some l ∧ sZ σ0 ≤ l ∧ l < sZ σ ∧ sc σ l = tg k ∧ (tg k = 16 → sA σ l = L' k x ∧ sN σ l ≤ 10 + 2 * (L' k x).length) ∧ (tg k = 102 → sN σ l = (if k = 101 then 30 else 40) ∧ L' k x = [] ∧ ∀ q, sE σ l q = 0))
    (hd : ∀ x x' k k', nw x → nw x' → k ∈ HK → k' ∈ HK → sc σ x = k / 16 + 1 → sc σ x' = k' / 16 + 1 → sR σ k x = sR σ k' x' → k = k' ∧ x = x') : HVw y σ (fun x => ob x ∨ nw x) L' := by
  have g := h.fr F
  have old : ∀ x k l, ob x → k ∈ HK → sc σ x = k / 16 + 1 → sR σ k x = some l → l < sZ σ0 := fun x k l hx hk hc e => by
    rw [FR6.tgE F (h.1 x hx).2] at hc
    obtain ⟨l', a1, a2, a3, -⟩ := h.2.1 x k hx hk hc
    have sx := FR6.sm F (h.1 x hx).2 (by rw [hc]; exact HK_6 hk)
    rw [sx.2.2.2.2.2.2.2.2.2, a1] at e
    have := Option.some.inj e
    omega
  refine ⟨fun x hx' => ?_, fun x k hx' hk hc => ?_, fun x x' k k' hx1 hx2 hk hk' hc hc' e => ?_⟩
  · rcases hx' with q | q
    · exact g.1 x q
    · have := hx x q; omega
  · rcases hx' with q | q
    · rw [h1 k x (h.1 x q).2]; exact g.2.1 x k q hk hc
    · obtain ⟨l, a1, a2, a3, a4, a5, a6⟩ := hl x k q hk hc
      refine ⟨l, a1, by omega, a3, a4, a5, fun t => ⟨(a6 t).1, fun i v hv => ?_, fun q _ => (a6 t).2.2 q⟩⟩
      rw [(a6 t).2.1] at hv; cases hv
  · rcases hx1 with q | q <;> rcases hx2 with q' | q'
    · exact g.2.2 x x' k k' q q' hk hk' hc hc' e
    · obtain ⟨l, a1, a2, -⟩ := hl x' k' q' hk' hc'
      rw [a1] at e
      have := old x k l q hk hc e
      omega
    · obtain ⟨l, a1, a2, -⟩ := hl x k q hk hc
      rw [a1] at e
      have := old x' k' l q' hk' hc' e.symm
      omega
    · exact hd x x' k k' q q' hk hk' hc hc' e
theorem QV.addF (Q : QV sd root M E V F O R N L) {m : TyM} {f : TyF} (hm : M[ms]? = some m) (hf : fMs f = ms) (hM : ∀ (j : Nat) (m' : TyM), M[j]? = some m' → m'.1 = m.1 → j = ms) :
    QV sd root M E V (F ++ [f]) O R N (updL (updL L 99 m.1 (L 99 m.1 ++ [f.1])) 19 sd (L 19 sd ++ [f.1])) := by
  obtain ⟨⟨q1, q2, q3⟩, qs, qm, qe⟩ := Q
  refine ⟨⟨?_, ?_, ?_⟩, fun p' s' h' => ?_, fun j m' hm' => ?_, fun j e' he' => ?_⟩
  · rw [updL_k (by decide), updL_k (by decide)]; exact q1
  · rw [updL_k (by decide), updL_k (by decide)]; exact q2
  · rw [updL_s, q3, List.map_append]; rfl
  · rw [updL_k (by decide), updL_k (by decide), updL_k (by decide), updL_k (by decide), updL_k (by decide), updL_k (by decide)]
    exact qs p' s' h'
  · obtain ⟨a1, a2, a3⟩ := qm j m' hm'
    refine ⟨?_, ?_, ?_⟩
    · by_cases c : j = ms
      · subst c
        rw [hm] at hm'
        have e1 : m = m' := Option.some.inj hm'
        subst e1
        rw [updL_k (by decide), updL_s, ft_p (by simp [hf]), List.map_append, ← a1]; rfl
      · rw [updL_k (by decide), updL_x (fun w => c (hM j m' hm' w)), ft_n (by simp; rw [hf]; exact fun w => c w.symm)]; exact a1
    · rw [updL_k (by decide), updL_k (by decide)]; exact a2
    · rw [updL_k (by decide), updL_k (by decide)]; exact a3
  · rw [updL_k (by decide), updL_k (by decide), updL_k (by decide), updL_k (by decide)]
    exact qe j e' he'
theorem QV.cgF (Q : QV sd root M E V (F ++ [(x, k, l, z, v, ms, p, (0 : Int), (0 : Int))]) O R N L) (on re pr : Int) : QV sd root M E V (F ++ [(x, k, l, z, v, ms, on, re, pr)]) O R N L := by
  obtain ⟨⟨q1, q2, q3⟩, qs, qm, qe⟩ := Q
  refine ⟨⟨q1, q2, by rw [q3, List.map_append, List.map_append]; rfl⟩, qs, fun j m hm => ?_, qe⟩
  obtain ⟨a1, a2⟩ := qm j m hm
  refine ⟨?_, a2⟩
  rw [a1]
  by_cases c : ms = j
  · rw [ft_p (by show decide (ms = j) = true; simp [c]), ft_p (by show decide (ms = j) = true; simp [c]), List.map_append, List.map_append]; rfl
  · rw [ft_n (by show decide (ms = j) = false; simp [c]), ft_n (by show decide (ms = j) = false; simp [c])]
theorem PW.addF (h : PW I n M E V F O R N) {f : TyF} (hl : F.length < 50) (hf : fMs f < M.length ∧ fNo f < 1000000000 ∧ (tkn I n (fNm f)).1 = 1 ∧ fNm f ≤ n ∧ 1 ≤ fPa f ∧ (∀ q, q < fPa f → (tkn I n (fTy f + 2 * q)).1 = 1 ∧ fTy f + 2 * q ≤ n) ∧ (fRe f = 0 ∨ fRe f = 1) ∧ (fPr f = 0 ∨ fPr f = 1) ∧ (fOn f = -1 ∨ ((∃ o, 0 ≤ fOn f ∧ O[(fOn f).toNat]? = some o ∧ o.2.2 = fMs f) ∧ fRe f = 0))) : PW I n M E V (F ++ [f]) O R N := by
  obtain ⟨⟨g1, g2, g3, g4, g5, g6⟩, hM, hE, hV, hF, hO, hR, hN⟩ := h
  refine ⟨⟨g1, g2, g3, by rw [List.length_append]; simp; omega, g5, g6⟩, hM, hE, hV, fun g hg => ?_, hO, hR, hN⟩
  rcases List.mem_append.mp hg with q | q
  · exact hF g q
  · rw [List.mem_singleton.mp q]; exact hf
theorem OBS.addF (B : OBS y σ I n ob L sd root M E V F O N) {f : TyF} (h1 : ob f.1) (h2 : OBF y σ I n L M f) (h3 : ∀ g, g ∈ F → g.1 ≠ f.1) : OBS y σ I n ob L sd root M E V (F ++ [f]) O N := by
  obtain ⟨g, hM, hE, hF, hN, hV, hO, hW⟩ := B
  refine ⟨g, hM, hE, fun e he => ?_, ?_, hV, hO, hW⟩
  · rcases List.mem_append.mp he with q | q
    · exact hF e q
    · rw [List.mem_singleton.mp q]; exact ⟨h1, h2⟩
  · rw [List.map_append, List.nodup_append]
    refine ⟨hN, by simp, fun a ha b hb => ?_⟩
    obtain ⟨g, g1, g2⟩ := List.mem_map.mp ha
    have hb' : b = f.1 := by simpa using hb
    rw [hb', ← g2]; exact h3 g g1
theorem OBS.setX (B : OBS y σ I n ob L sd root M E V F O N) (hk : k ∈ [131, 133, 135, 136]) (hX : ∀ g, g ∈ F → g.1 ≠ x) (w : Int) : OBS y (pI σ k x w) I n ob L sd root M E V F O N := by
  obtain ⟨g, hM, hE, hF, hN, hV, hO, hW⟩ := B
  have k1 : 96 ≠ k ∧ 112 ≠ k := by
    have : ∀ k ∈ [131, 133, 135, 136], 96 ≠ k ∧ 112 ≠ k := by decide
    exact this k hk
  refine ⟨g, fun j m hm => ?_, fun j e he => ?_, fun f hf => ?_, hN, hV, hO, hW⟩
  · obtain ⟨b1, b2, b3, b4, b5⟩ := hM j m hm
    exact ⟨b1, b2, b3, by rw [sI_pI, if_neg (fun e => k1.1 e.1)]; exact b4, b5⟩
  · obtain ⟨b1, b2, b3, b4⟩ := hE j e he
    exact ⟨b1, b2, by rw [sI_pI, if_neg (fun e => k1.2 e.1)]; exact b3, b4⟩
  · obtain ⟨b0, b1, b2, b3, b4, b5, b6, b7, b8, b9, bA⟩ := hF f hf
    have ne : ∀ j, ¬ (j = k ∧ f.1 = x) := fun j e => hX f hf e.2
    exact ⟨b0, b1, b2, b3, b4, by rw [sI_pI, if_neg (ne _)]; exact b5, by rw [sI_pI, if_neg (ne _)]; exact b6, by rw [sI_pI, if_neg (ne _)]; exact b7, by rw [sI_pI, if_neg (ne _)]; exact b8, by rw [sI_pI, if_neg (ne _)]; exact b9, bA⟩
theorem CNT.setX (h : CNT σ sd M V O R) (hk : k ∈ [131, 133, 135, 136]) (w : Int) : CNT (pI σ k x w) sd M V O R := by
  obtain ⟨h1, h2, h3, h4⟩ := h
  have k1 : 20 ≠ k ∧ 21 ≠ k ∧ 22 ≠ k ∧ 102 ≠ k := by
    have : ∀ k ∈ [131, 133, 135, 136], 20 ≠ k ∧ 21 ≠ k ∧ 22 ≠ k ∧ 102 ≠ k := by decide
    exact this k hk
  exact ⟨by rw [sI_pI, if_neg (fun e => k1.1 e.1)]; exact h1, by rw [sI_pI, if_neg (fun e => k1.2.1 e.1)]; exact h2, by rw [sI_pI, if_neg (fun e => k1.2.2.1 e.1)]; exact h3, fun j m hm => by rw [sI_pI, if_neg (fun e => k1.2.2.2 e.1)]; exact h4 j m hm⟩
theorem OBF.set3 {t pa nm no : Nat} {on re pr : Int} (h : OBF y σ I n L M (x, t, pa, nm, no, ms, on, re, pr)) (w : Int) : OBF y (pI σ 133 x w) I n L M (x, t, pa, nm, no, ms, w, re, pr) := by
  obtain ⟨b1, b2, b3, b4, b5, b6, b7, b8, b9, bA⟩ := h
  exact ⟨b1, b2, b3, b4, by rw [sI_pI, if_neg (by omega)]; exact b5, by rw [sI_pI, if_neg (by omega)]; exact b6, by rw [sI_pI, if_pos ⟨rfl, rfl⟩]; rfl, by rw [sI_pI, if_neg (by omega)]; exact b8, by rw [sI_pI, if_neg (by omega)]; exact b9, bA⟩
theorem OBF.set5 {t pa nm no : Nat} {on re pr : Int} (h : OBF y σ I n L M (x, t, pa, nm, no, ms, on, re, pr)) (w : Int) : OBF y (pI σ 135 x w) I n L M (x, t, pa, nm, no, ms, on, w, pr) := by
  obtain ⟨b1, b2, b3, b4, b5, b6, b7, b8, b9, bA⟩ := h
  exact ⟨b1, b2, b3, b4, by rw [sI_pI, if_neg (by omega)]; exact b5, by rw [sI_pI, if_neg (by omega)]; exact b6, by rw [sI_pI, if_neg (by omega)]; exact b7, by rw [sI_pI, if_pos ⟨rfl, rfl⟩]; rfl, by rw [sI_pI, if_neg (by omega)]; exact b9, bA⟩
theorem OBF.set6 {t pa nm no : Nat} {on re pr : Int} (h : OBF y σ I n L M (x, t, pa, nm, no, ms, on, re, pr)) (w : Int) : OBF y (pI σ 136 x w) I n L M (x, t, pa, nm, no, ms, on, re, w) := by
  obtain ⟨b1, b2, b3, b4, b5, b6, b7, b8, b9, bA⟩ := h
  exact ⟨b1, b2, b3, b4, by rw [sI_pI, if_neg (by omega)]; exact b5, by rw [sI_pI, if_neg (by omega)]; exact b6, by rw [sI_pI, if_neg (by omega)]; exact b7, by rw [sI_pI, if_neg (by omega)]; exact b8, by rw [sI_pI, if_pos ⟨rfl, rfl⟩]; rfl, bA⟩
theorem OBF.cg {f : TyF} (h : OBF y σ I n L M f) (hL : L' 139 f.1 = L 139 f.1) : OBF y σ I n L' M f := by
  unfold OBF at h ⊢
  rw [hL]; exact h
theorem QV.addO (Q : QV sd root M E V F O R N L) {m : TyM} {o : TyO} (hm : M[ms]? = some m) (hf : o.2.2 = ms) (hM : ∀ (j : Nat) (m' : TyM), M[j]? = some m' → m'.1 = m.1 → j = ms) :
    QV sd root M E V F (O ++ [o]) R N (updL L 100 m.1 (L 100 m.1 ++ [o.1])) := by
  obtain ⟨⟨q1, q2, q3⟩, qs, qm, qe⟩ := Q
  refine ⟨⟨?_, ?_, ?_⟩, fun p' s' h' => ?_, fun j m' hm' => ?_, fun j e' he' => ?_⟩
  · rw [updL_k (by decide)]; exact q1
  · rw [updL_k (by decide)]; exact q2
  · rw [updL_k (by decide)]; exact q3
  · rw [updL_k (by decide), updL_k (by decide), updL_k (by decide)]
    exact qs p' s' h'
  · obtain ⟨a1, a2, a3⟩ := qm j m' hm'
    refine ⟨?_, ?_, ?_⟩
    · rw [updL_k (by decide)]; exact a1
    · by_cases c : j = ms
      · subst c
        rw [hm] at hm'
        have e1 : m = m' := Option.some.inj hm'
        subst e1
        rw [updL_s, ft_p (by simp [hf]), List.map_append, ← a2]; rfl
      · rw [updL_x (fun w => c (hM j m' hm' w)), ft_n (by simp; rw [hf]; exact fun w => c w.symm)]; exact a2
    · rw [updL_k (by decide)]; exact a3
  · rw [updL_k (by decide), updL_k (by decide)]
    exact qe j e' he'
theorem QV.addR (Q : QV sd root M E V F O R N L) {m : TyM} {r : TyR} (hm : M[ms]? = some m) (hf : r.2 = ms) (hM : ∀ (j : Nat) (m' : TyM), M[j]? = some m' → m'.1 = m.1 → j = ms) :
    QV sd root M E V F O (R ++ [r]) N (updL L 101 m.1 (L 101 m.1 ++ [r.1])) := by
  obtain ⟨⟨q1, q2, q3⟩, qs, qm, qe⟩ := Q
  refine ⟨⟨?_, ?_, ?_⟩, fun p' s' h' => ?_, fun j m' hm' => ?_, fun j e' he' => ?_⟩
  · rw [updL_k (by decide)]; exact q1
  · rw [updL_k (by decide)]; exact q2
  · rw [updL_k (by decide)]; exact q3
  · rw [updL_k (by decide), updL_k (by decide), updL_k (by decide)]
    exact qs p' s' h'
  · obtain ⟨a1, a2, a3⟩ := qm j m' hm'
    refine ⟨?_, ?_, ?_⟩
    · rw [updL_k (by decide)]; exact a1
    · rw [updL_k (by decide)]; exact a2
    · by_cases c : j = ms
      · subst c
        rw [hm] at hm'
        have e1 : m = m' := Option.some.inj hm'
        subst e1
        rw [updL_s, ft_p (by simp [hf]), List.map_append, ← a3]; rfl
      · rw [updL_x (fun w => c (hM j m' hm' w)), ft_n (by simp; rw [hf]; exact fun w => c w.symm)]; exact a3
  · rw [updL_k (by decide), updL_k (by decide)]
    exact qe j e' he'
theorem PW.addO (h : PW I n M E V F O R N) {o : TyO} (hl : O.length < 12) (ho : o.2.2 < M.length ∧ (tkn I n o.2.1).1 = 1 ∧ o.2.1 ≤ n) : PW I n M E V F (O ++ [o]) R N := by
  obtain ⟨⟨g1, g2, g3, g4, g5, g6⟩, hM, hE, hV, hF, hO, hR, hN⟩ := h
  refine ⟨⟨g1, g2, g3, g4, by rw [List.length_append]; simp; omega, g6⟩, hM, hE, hV, fun f hf => ?_, fun e he => ?_, hR, hN⟩
  · obtain ⟨b1, b2, b3, b4, b5, b6, b7, b8, b9⟩ := hF f hf
    refine ⟨b1, b2, b3, b4, b5, b6, b7, b8, ?_⟩
    rcases b9 with q | ⟨⟨o', q1, q2, q3⟩, q4⟩
    · exact Or.inl q
    · exact Or.inr ⟨⟨o', q1, gq_old q2, q3⟩, q4⟩
  · rcases List.mem_append.mp he with q | q
    · exact hO e q
    · rw [List.mem_singleton.mp q]; exact ho
theorem PW.addR (h : PW I n M E V F O R N) {r : TyR} (hl : R.length < 30) (hr : r.2 < M.length ∧ r.1 < 1000000000) : PW I n M E V F O (R ++ [r]) N := by
  obtain ⟨⟨g1, g2, g3, g4, g5, g6⟩, hM, hE, hV, hF, hO, hR, hN⟩ := h
  refine ⟨⟨g1, g2, g3, g4, g5, by rw [List.length_append]; simp; omega⟩, hM, hE, hV, hF, hO, fun e he => ?_, hN⟩
  rcases List.mem_append.mp he with q | q
  · exact hR e q
  · rw [List.mem_singleton.mp q]; exact hr
theorem OBS.addO (B : OBS y σ I n ob L sd root M E V F O N) {o : TyO} (h : Rt y σ o.1 (tkX I (tkn I n o.2.1))) : OBS y σ I n ob L sd root M E V F (O ++ [o]) N := by
  obtain ⟨g, hM, hE, hF, hN, hV, hO, hW⟩ := B
  refine ⟨g, hM, hE, hF, hN, hV, fun e he => ?_, hW⟩
  rcases List.mem_append.mp he with q | q
  · exact hO e q
  · rw [List.mem_singleton.mp q]; exact h
end Gy
