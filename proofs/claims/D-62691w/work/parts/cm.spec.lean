set_option maxRecDepth 100000
/-! SCHEMAS, READ WELL: the abstract schema -/
def fG (F : List TyF) (x : Nat) : TyF := F.getD x (0, 0, 0, 0, 0, 0, 0, 0, 0)
def mkS (I : Nat → Nat) (n : Nat) (M : List TyM) (E : List TyE) (V : List TyV) (F : List TyF) (kd : Nat → Nat) : SC := (M.length, E.length, (List.range F.length).map (fun x => (fMs (fG F x), fNo (fG F x), kd x, fOn (fG F x), fRe (fG F x), fPr (fG F x), tx I n (fNm (fG F x)))), V.map (fun v => (v.2.2.2, tx I n v.2.1, v.2.2.1)))
section Sm
variable {n K i t x : Nat} {I : Nat → Nat} {τ : TT} {M : List TyM} {E : List TyE} {V : List TyV} {F : List TyF} {O : List TyO} {R : List TyR} {N : List TyN} {kd : Nat → Nat}
theorem word_tk (h : (tkn I n i).1 = 1) : ∃ s, s < n ∧ (tkn I n i).2.1 = s ∧ (tkn I n i).2.2 = rnF wch I n (s + 1) ∧ lch (lk I n s) = true := by
  unfold tkn tkT at h ⊢
  by_cases c : n ≤ rnF bch I n (tkP I n i)
  · rw [if_pos c] at h; cases h
  · rw [if_neg c] at h ⊢
    refine ⟨rnF bch I n (tkP I n i), by omega, rfl, ?_⟩
    obtain ⟨s, hs⟩ : ∃ s, s = rnF bch I n (tkP I n i) := ⟨_, rfl⟩
    rw [← hs] at h ⊢
    change (tkA I n s).1 = 1 at h
    show (tkA I n s).2 = _ ∧ _
    unfold tkA at h ⊢
    by_cases cl : lch (lk I n s) = true
    · rw [if_pos cl]
      exact ⟨rfl, cl⟩
    · rw [if_neg cl] at h
      by_cases cd : dch (lk I n s) = true
      · rw [if_pos cd] at h
        change (if _ then 2 else 4) = 1 at h
        split at h <;> omega
      · rw [if_neg cd] at h
        change (if _ then 3 else 4) = 1 at h
        split at h <;> omega
theorem tx_safe (hI : ∀ k, I k < 256) (h : (tkn I n t).1 = 1) : ∀ b ∈ tx I n t, safe b := by
  obtain ⟨s, h1, h2, h3, h4⟩ := word_tk h
  intro b hb
  unfold tx tkX cut at hb
  rw [h2, h3] at hb
  obtain ⟨j, hj, e⟩ := List.mem_map.mp hb
  have hj := List.mem_range.mp hj
  have w : wch (lk I n (s + j)) = true := by
    by_cases c : j = 0
    · subst c
      unfold wch
      rw [Nat.add_zero, h4]; rfl
    · exact rnF_all wch I n _ (s + 1) (s + j) (Nat.le_refl _) (by omega) (by omega)
  have hn : s + j < n := lk_in (fun e => by rw [e] at w; revert w; decide)
  rw [lk_lt hn] at w
  rw [← e]
  have hb := hI (s + j)
  unfold wch lch dch at w
  simp only [Bool.or_eq_true, decide_eq_true_eq] at w
  have e2 : (UInt8.ofNat (I (s + j))).toNat = I (s + j) := tn_of hb
  refine ⟨by omega, by omega, by omega, by omega⟩
theorem tx_ne (hI : ∀ k, I k < 256) (h : (tkn I n t).1 = 1) : jsn (tx I n t) ≠ [] ∧ tx I n t ≠ [] := by
  obtain ⟨s, h1, h2, h3, h4⟩ := word_tk h
  have hs : s < n := lk_in (fun e => by rw [e] at h4; revert h4; decide)
  have hr := (rnE_ge wch I n (n - (s + 1)) (s + 1)).1
  have hr : s + 1 ≤ rnF wch I n (s + 1) := hr
  have e0 : ∃ r, tx I n t = UInt8.ofNat (I s) :: r := by
    unfold tx tkX cut
    rw [h2, h3, show rnF wch I n (s + 1) - s = (rnF wch I n (s + 1) - s - 1) + 1 by omega, List.range_succ_eq_map, List.map_cons, Nat.add_zero]
    exact ⟨_, rfl⟩
  obtain ⟨r, er⟩ := e0
  rw [lk_lt hs] at h4
  unfold lch at h4
  simp only [decide_eq_true_eq] at h4
  have e2 : (UInt8.ofNat (I s)).toNat = I s := tn_of (hI s)
  rw [er]
  refine ⟨?_, by simp⟩
  unfold jsn
  rw [jsL, if_neg (by omega)]
  simp
theorem fG_at {f : TyF} (h : F[x]? = some f) : fG F x = f := by unfold fG; rw [List.getD_eq_getElem?_getD, h]; rfl
theorem mkS_q {f : TyF} (h : F[x]? = some f) : qm (mkS I n M E V F kd) x = fMs f ∧ qn (mkS I n M E V F kd) x = fNo f ∧ qk (mkS I n M E V F kd) x = kd x ∧ qo (mkS I n M E V F kd) x = fOn f ∧ qr (mkS I n M E V F kd) x = fRe f ∧ qp (mkS I n M E V F kd) x = fPr f ∧ qw (mkS I n M E V F kd) x = tx I n (fNm f) := by
  have e : fdd (mkS I n M E V F kd) x = (fMs f, fNo f, kd x, fOn f, fRe f, fPr f, tx I n (fNm f)) := by
    unfold fdd xF mkS
    show ((List.range F.length).map _).getD x _ = _
    rw [List.getD_eq_getElem?_getD, List.getElem?_map, List.getElem?_range (gq_lt h), Option.map_some, Option.getD_some, fG_at h]
  unfold qm qn qk qo qr qp qw
  rw [e]
  exact ⟨rfl, rfl, rfl, rfl, rfl, rfl, rfl⟩
theorem mkS_v {v : TyV} (h : V[x]? = some v) : ve (mkS I n M E V F kd) x = v.2.2.2 ∧ vw_ (mkS I n M E V F kd) x = tx I n v.2.1 ∧ vn (mkS I n M E V F kd) x = v.2.2.1 := by
  have e : vdd (mkS I n M E V F kd) x = (v.2.2.2, tx I n v.2.1, v.2.2.1) := by
    unfold vdd xV mkS
    show (V.map _).getD x _ = _
    rw [List.getD_eq_getElem?_getD, List.getElem?_map, h, Option.map_some, Option.getD_some]
  unfold ve vw_ vn
  rw [e]
  exact ⟨rfl, rfl, rfl⟩
theorem mkS_n : nF_ (mkS I n M E V F kd) = F.length ∧ nV_ (mkS I n M E V F kd) = V.length := by
  unfold nF_ nV_ xF xV mkS
  exact ⟨by show ((List.range F.length).map _).length = _; rw [List.length_map, List.length_range], by show (V.map _).length = _; rw [List.length_map]⟩
theorem nd_ix {α β : Type} {l : List α} {g : α → β} (h : (l.map g).Nodup) {x z : Nat} {a b : α} (ha : l[x]? = some a) (hb : l[z]? = some b) (e : g a = g b) : x = z := by
  have ga : (l.map g)[x]? = some (g a) := by rw [List.getElem?_map, ha]; rfl
  have gb : (l.map g)[z]? = some (g b) := by rw [List.getElem?_map, hb]; rfl
  have p := List.pairwise_iff_getElem.mp h
  by_cases c : x = z
  · exact c
  · by_cases c2 : x < z
    · have := p x z (gq_lt ga) (gq_lt gb) c2
      rw [(List.getElem?_eq_some_iff.mp ga).2, (List.getElem?_eq_some_iff.mp gb).2] at this
      exact absurd e this
    · have := p z x (gq_lt gb) (gq_lt ga) (by omega)
      rw [(List.getElem?_eq_some_iff.mp ga).2, (List.getElem?_eq_some_iff.mp gb).2] at this
      exact absurd e.symm this
theorem mkS_SW (hw : PW I n M E V F O R N) (hN : (F.map (fun f => f.1)).Nodup) (h1 : (NL I n M E V).Nodup) (h2 : (FN I n F O).Nodup) (h3 : ∀ f, f ∈ F → ¬ BNf F R f) (h5 : ∀ x, x < E.length → ¬ BEn V x) (h6 : ∀ x z, x < F.length → z < x → ¬ JCx I n F x z) (hk : ∀ x, x < F.length → (kd x ≤ 10 ∨ (16 ≤ kd x ∧ kd x < 16 + M.length) ∨ (32 ≤ kd x ∧ kd x < 32 + E.length))) : SW (mkS I n M E V F kd) := by
  obtain ⟨eF, eV⟩ := mkS_n (I := I) (n := n) (M := M) (E := E) (V := V) (F := F) (kd := kd)
  obtain ⟨⟨l1, l2, l3, l4, l5, l6⟩, pM, pE, pV, pF, pO, pR, pN, -⟩ := hw
  have vn0 : (V.map (fun v => (v.2.2.1, v.2.2.2))).Nodup := by
    refine nd_split V |>.mpr (fun p => ?_)
    by_cases c : p < E.length
    · exact Classical.byContradiction (fun q => h5 p c (Or.inr q))
    · have : V.filter (fun v => decide (v.2.2.2 = p)) = [] := List.filter_eq_nil_iff.mpr (fun v hv => by
        have := (pV v hv).1
        simp; omega)
      rw [this]; exact List.Pairwise.nil
  have f2 : (F.map (fun f => (tx I n (fNm f), fMs f))).Nodup := (List.nodup_append.mp h2).1
  have v2 : (V.map (fun v => (tx I n v.2.1, ePa E v.2.2.2))).Nodup := (List.nodup_append.mp (List.nodup_append.mp h1).2.1).2.1
  refine ⟨by rw [eF]; exact l4, by rw [eV]; exact l3, l1, l2, fun x hx => ?_, fun x z hx hz ne e => ?_, fun x z hx hz h e => ?_, fun v hv => ?_, fun v u hv hu ne e => ?_⟩
  · rw [eF] at hx
    obtain ⟨f, hf, fm, -⟩ := drop_at hx
    obtain ⟨q1, q2, q3, q4, q5, q6, q7⟩ := mkS_q (I := I) (n := n) (M := M) (E := E) (V := V) (kd := kd) hf
    rw [q1, q2, q3, q4, q5, q6, q7]
    obtain ⟨p1, p2, p3, p4, p5, p6, p7, p8, p9⟩ := pF f fm
    have nb := h3 f fm
    have b1 : ¬ (fNo f = 0) := fun e => nb (Or.inl (Or.inl e))
    have b2 : ¬ 536870911 < fNo f := fun e => nb (Or.inl (Or.inr (Or.inl e)))
    have kx := hk x hx
    rcases p9 with e | ⟨⟨o, o1, o2, o3⟩, o4⟩
    · exact ⟨p1, by omega, by omega, kx, by omega, by omega, p7, p8, tx_len p3, fun _ => e⟩
    · have := gq_lt o2
      exact ⟨p1, by omega, by omega, kx, by omega, by omega, p7, p8, tx_len p3, fun h => by omega⟩
  · rw [eF] at hx hz
    obtain ⟨f, hf, fm, -⟩ := drop_at hx
    obtain ⟨g, hg, gm, -⟩ := drop_at hz
    obtain ⟨q1, q2, -, -, -, -, q7⟩ := mkS_q (I := I) (n := n) (M := M) (E := E) (V := V) (kd := kd) hf
    obtain ⟨u1, u2, -, -, -, -, u7⟩ := mkS_q (I := I) (n := n) (M := M) (E := E) (V := V) (kd := kd) hg
    rw [q1, u1] at e
    rw [q2, u2, q7, u7]
    refine ⟨fun w => ?_, fun w => ?_, fun w => ?_⟩
    · exact h3 f fm (Or.inr (Or.inr ⟨g, gm, fun q => ne (nd_ix hN hf hg q.symm), e.symm, w.symm⟩))
    · exact ne (nd_ix f2 hf hg (by rw [w, e]))
    · by_cases c : z < x
      · exact h6 x z hx c ⟨f, g, hf, hg, e, w⟩
      · exact h6 z x hz (by omega) ⟨g, f, hg, hf, e.symm, w.symm⟩
  · rw [eF] at hx hz
    obtain ⟨f, hf, fm, -⟩ := drop_at hx
    obtain ⟨g, hg, gm, -⟩ := drop_at hz
    obtain ⟨q1, -, -, q4, -⟩ := mkS_q (I := I) (n := n) (M := M) (E := E) (V := V) (kd := kd) hf
    obtain ⟨u1, -, -, u4, -⟩ := mkS_q (I := I) (n := n) (M := M) (E := E) (V := V) (kd := kd) hg
    rw [q4] at h
    rw [q4, u4] at e
    rw [q1, u1]
    obtain ⟨-, -, -, -, -, -, -, -, p9⟩ := pF f fm
    obtain ⟨-, -, -, -, -, -, -, -, r9⟩ := pF g gm
    rcases p9 with p | ⟨⟨o, o1, o2, o3⟩, -⟩
    · exact absurd p h
    · rcases r9 with r | ⟨⟨o', o1', o2', o3'⟩, -⟩
      · exact absurd (e.trans r) h
      · rw [e] at o2
        have : o = o' := Option.some.inj (o2.symm.trans o2')
        rw [← o3, ← o3', this]
  · rw [eV] at hv
    obtain ⟨u, hu, um, -⟩ := drop_at hv
    obtain ⟨q1, q2, q3⟩ := mkS_v (I := I) (n := n) (M := M) (E := E) (F := F) (kd := kd) hu
    rw [q1, q2, q3]
    obtain ⟨p1, p2, p3, -⟩ := pV u um
    exact ⟨p1, tx_len p3, p2⟩
  · rw [eV] at hv hu
    obtain ⟨a, ha, am, -⟩ := drop_at hv
    obtain ⟨b, hb, bm, -⟩ := drop_at hu
    obtain ⟨q1, q2, q3⟩ := mkS_v (I := I) (n := n) (M := M) (E := E) (F := F) (kd := kd) ha
    obtain ⟨u1, u2, u3⟩ := mkS_v (I := I) (n := n) (M := M) (E := E) (F := F) (kd := kd) hb
    rw [q1, u1] at e
    rw [q2, q3, u2, u3]
    exact ⟨fun w => ne (nd_ix v2 ha hb (by rw [w, e])), fun w => ne (nd_ix vn0 ha hb (by rw [w, e]))⟩
theorem mkS_SN (hI : ∀ k, I k < 256) (hw : PW I n M E V F O R N) : SN (mkS I n M E V F kd) := by
  obtain ⟨eF, eV⟩ := mkS_n (I := I) (n := n) (M := M) (E := E) (V := V) (F := F) (kd := kd)
  obtain ⟨-, pM, pE, pV, pF, -⟩ := hw
  refine ⟨fun x hx => ?_, fun v hv => ?_, fun x hx => ?_⟩
  · rw [eF] at hx
    obtain ⟨f, hf, fm, -⟩ := drop_at hx
    obtain ⟨-, -, -, -, -, -, q7⟩ := mkS_q (I := I) (n := n) (M := M) (E := E) (V := V) (kd := kd) hf
    rw [q7]
    exact tx_safe hI (pF f fm).2.2.1
  · rw [eV] at hv
    obtain ⟨u, hu, um, -⟩ := drop_at hv
    obtain ⟨-, q2, -⟩ := mkS_v (I := I) (n := n) (M := M) (E := E) (F := F) (kd := kd) hu
    rw [q2]
    exact tx_safe hI (pV u um).2.2.1
  · rw [eF] at hx
    obtain ⟨f, hf, fm, -⟩ := drop_at hx
    obtain ⟨-, -, -, -, -, -, q7⟩ := mkS_q (I := I) (n := n) (M := M) (E := E) (V := V) (kd := kd) hf
    rw [q7]
    exact tx_ne hI (pF f fm).2.2.1
theorem mkS_TSc (hR : RF I n K τ M E V F O R N) (hk : ∀ x, x < F.length → tA τ 28 x = (kd x : Int)) : TSc τ (mkS I n M E V F kd) := by
  obtain ⟨eF, eV⟩ := mkS_n (I := I) (n := n) (M := M) (E := E) (V := V) (F := F) (kd := kd)
  obtain ⟨⟨t1, t2, t3, t4, t5, t6⟩, tM, tE, tV, tF, -⟩ := hR.2.2.2.1
  obtain ⟨-, pM, pE, pV, pF, -⟩ := hR.2.2.2.2
  refine ⟨t1, t2, by rw [eV]; exact t3, by rw [eF]; exact t4, fun x hx => ?_, fun v hv => ?_⟩
  · rw [eF] at hx
    obtain ⟨f, hf, fm, -⟩ := drop_at hx
    obtain ⟨q1, q2, q3, q4, q5, q6, q7⟩ := mkS_q (I := I) (n := n) (M := M) (E := E) (V := V) (kd := kd) hf
    obtain ⟨-, -, a22, a24, a23, a27, a29, a30⟩ := tF x f hf
    rw [q1, q2, q3, q4, q5, q6, q7]
    exact ⟨a23, a24, hk x hx, a27, a29, a30, by rw [a22]; exact hR.tok (pF f fm).2.2.1⟩
  · rw [eV] at hv
    obtain ⟨u, hu, um, -⟩ := drop_at hv
    obtain ⟨q1, q2, q3⟩ := mkS_v (I := I) (n := n) (M := M) (E := E) (F := F) (kd := kd) hu
    obtain ⟨a19, a20, a21⟩ := tV v u hu
    rw [q1, q2, q3]
    exact ⟨a21, a20, by rw [a19]; exact hR.tok (pV u um).2.2.1⟩
end Sm
