set_option maxRecDepth 100000
/-! SCHEMAS, READ WELL: the system has it -/
def mAd (M : List TyM) (x : Nat) : Nat := (M.getD x (0, 0, 0, 0)).1
def eAd (E : List TyE) (x : Nat) : Nat := (E.getD x (0, 0, 0)).1
def fAd (F : List TyF) (x : Nat) : Nat := (fG F x).1
def vG (V : List TyV) (x : Nat) : TyV := V.getD x (0, 0, 0, 0)
/-- the field's place, by its object -/
def ixF : List TyF → Nat → Nat
  | [], _ => 0
  | f :: r, a => if f.1 = a then 0 else ixF r a + 1
section Sn
variable {y n sd root a0 x : Nat} {I : Nat → Nat} {σ σ' : ST} {ob : Nat → Prop} {L : Nat → Nat → List Nat} {M : List TyM} {E : List TyE} {V : List TyV} {F : List TyF} {O : List TyO} {R : List TyR} {N : List TyN} {kd : Nat → Nat}
theorem mAd_at {m : TyM} (h : M[x]? = some m) : mAd M x = m.1 := by unfold mAd; rw [List.getD_eq_getElem?_getD, h]; rfl
theorem eAd_at {e : TyE} (h : E[x]? = some e) : eAd E x = e.1 := by unfold eAd; rw [List.getD_eq_getElem?_getD, h]; rfl
theorem fAd_at {f : TyF} (h : F[x]? = some f) : fAd F x = f.1 := by unfold fAd; rw [fG_at h]
theorem vG_at {v : TyV} (h : V[x]? = some v) : vG V x = v := by unfold vG; rw [List.getD_eq_getElem?_getD, h]; rfl
theorem ixF_at : ∀ {F : List TyF} {a : Nat} {f : TyF}, f ∈ F → f.1 = a → ∃ g, F[ixF F a]? = some g ∧ g.1 = a
  | [], a, f, h, _ => by cases h
  | k :: r, a, f, h, e => by
    unfold ixF
    by_cases c : k.1 = a
    · rw [if_pos c]; exact ⟨k, rfl, c⟩
    · rw [if_neg c]
      rcases List.mem_cons.mp h with q | q
      · rw [q] at e; exact absurd e c
      · obtain ⟨g, g1, g2⟩ := ixF_at q e
        exact ⟨g, by rw [List.getElem?_cons_succ]; exact g1, g2⟩
theorem map_rg {α β : Type} (l : List α) (g : α → β) (d : α) : l.map g = (List.range l.length).map (fun x => g (l.getD x d)) := by
  apply List.ext_getElem?
  intro i
  rw [List.getElem?_map, List.getElem?_map]
  by_cases c : i < l.length
  · rw [List.getElem?_range c, List.getElem?_eq_getElem c, Option.map_some, Option.map_some, List.getD_eq_getElem?_getD, List.getElem?_eq_getElem c]; rfl
  · rw [List.getElem?_eq_none (by omega), List.getElem?_eq_none (by rw [List.length_range]; omega)]; rfl
theorem filt_rg {α : Type} (l : List α) (p : α → Bool) (d : α) : l.filter p = ((List.range l.length).filter (fun i => p (l.getD i d))).map (fun i => l.getD i d) := by
  have e : l = (List.range l.length).map (fun x => l.getD x d) := by
    have := map_rg l id d
    rw [List.map_id] at this; exact this
  have e2 : l.filter p = ((List.range l.length).map (fun x => l.getD x d)).filter p := by rw [← e]
  rw [e2, List.filter_map]; rfl
theorem vls_mk (e : Nat) : vls (mkS I n M E V F kd) e = (List.range V.length).filter (fun i => decide ((vG V i).2.2.2 = e)) := by
  unfold vls
  rw [mkS_n.2]
  refine List.filter_congr (fun i hi => ?_)
  obtain ⟨v, hv, -, -⟩ := drop_at (List.mem_range.mp hi)
  rw [(mkS_v hv).1, vG_at hv]
theorem Rt.w {r : Nat} {w : List UInt8} (h : Rt y σ r w) : Rw0 (sZ σ) σ (some r) w := ⟨r, rfl, h.2.1, h.2.2.1, h.2.2.2⟩
/-- enums -/
theorem hsc_e (h : SFr y σ I n ob L sd root M E V F O R N a0) {e : Nat} (he : e < E.length) : (eAd E e < sZ σ ∧ sc σ (eAd E e) = 8 ∧ sI σ 112 (eAd E e) = (e : Int) ∧ ∃ nl va, sR σ 114 (eAd E e) = some nl ∧ nl < sZ σ ∧ sc σ nl = 16 ∧ sR σ 115 (eAd E e) = some va ∧ va < sZ σ ∧ sc σ va = 102 ∧ sN σ va = 40 ∧ (sA σ nl).length = (vls (mkS I n M E V F kd) e).length ∧ ∀ j, j < (vls (mkS I n M E V F kd) e).length → Rw0 (sZ σ) σ (some ((sA σ nl).getD j 0)) (vw_ (mkS I n M E V F kd) ((vls (mkS I n M E V F kd) e).getD j 0)) ∧ sE σ va j = (vn (mkS I n M E V F kd) ((vls (mkS I n M E V F kd) e).getD j 0) : Int)) ∧ (y ≤ eAd E e ∧ (∀ r, sR σ 114 (eAd E e) = some r → y ≤ r ∧ ∀ j, j < (vls (mkS I n M E V F kd) e).length → y ≤ (sA σ r).getD j 0) ∧ ∀ r, sR σ 115 (eAd E e) = some r → y ≤ r) := by
  obtain ⟨H, Q, B, W, C, k1, k2, k3⟩ := id h
  obtain ⟨en, hen, enm, -⟩ := drop_at he
  rw [eAd_at hen]
  obtain ⟨o1, o2, o3, -⟩ := B.2.2.1 e en hen
  obtain ⟨oy, oz⟩ := H.1 _ o1
  obtain ⟨nl, a1, a2, a3, a4, a5, -⟩ := H.get (k := 114) o1 (by decide) o2
  obtain ⟨va, b1, b2, b3, b4, -, b6⟩ := H.get (k := 115) o1 (by decide) o2
  have a5 := a5 rfl
  obtain ⟨b7, b8, -⟩ := b6 rfl
  obtain ⟨q1, q2⟩ := Q.2.2.2 e en hen
  have ev := vls_mk (I := I) (n := n) (M := M) (E := E) (V := V) (F := F) (kd := kd) e
  rw [filt_rg V _ (0, 0, 0, 0)] at q1 q2
  have ef : (List.range V.length).filter (fun i => decide ((V.getD i (0, 0, 0, 0)).2.2.2 = e)) = vls (mkS I n M E V F kd) e := ev.symm
  rw [ef, List.map_map] at q1 q2
  have at_ : ∀ j, j < (vls (mkS I n M E V F kd) e).length → ∃ i v, (vls (mkS I n M E V F kd) e).getD j 0 = i ∧ V[i]? = some v ∧ v ∈ V ∧ (sA σ nl).getD j 0 = v.1 ∧ (L 115 en.1)[j]? = some v.2.2.1 := fun j hj => by
    obtain ⟨i, hi, im, -⟩ := drop_at hj
    have iV : i < V.length := by
      rw [ev] at im
      exact List.mem_range.mp (List.mem_filter.mp im).1
    obtain ⟨v, hv, vm, -⟩ := drop_at iV
    have gv : V.getD i (0, 0, 0, 0) = v := vG_at hv
    refine ⟨i, v, by rw [List.getD_eq_getElem?_getD, hi]; rfl, hv, vm, ?_, ?_⟩
    · rw [a5.1, q1, List.getD_eq_getElem?_getD, List.getElem?_map, hi, Option.map_some, Option.getD_some]
      show (V.getD i (0, 0, 0, 0)).1 = v.1
      rw [gv]
    · rw [q2, List.getElem?_map, hi, Option.map_some]
      show some (V.getD i (0, 0, 0, 0)).2.2.1 = some v.2.2.1
      rw [gv]
  refine ⟨⟨oz, o2, o3, nl, va, a1, a3, a4, b1, b3, b4, b7, by rw [a5.1, q1, List.length_map], fun j hj => ?_⟩, oy, fun r hr => ?_, fun r hr => ?_⟩
  · obtain ⟨i, v, e1, e2, e3, e4, e5⟩ := at_ j hj
    obtain ⟨-, u2, u3⟩ := mkS_v (I := I) (n := n) (M := M) (E := E) (F := F) (kd := kd) e2
    rw [e1, u2, u3, e4]
    exact ⟨(B.2.2.2.2.2.1 v e3).w, b8 j _ e5⟩
  · have er : nl = r := Option.some.inj (a1.symm.trans hr)
    subst er
    refine ⟨a2, fun j hj => ?_⟩
    obtain ⟨i, v, e1, e2, e3, e4, e5⟩ := at_ j hj
    rw [e4]
    exact (B.2.2.2.2.2.1 v e3).1
  · have er : va = r := Option.some.inj (b1.symm.trans hr)
    subst er
    exact b2
/-- the order of a message, by places -/
theorem ord_key (h : SFr y σ I n ob L sd root M E V F O R N a0) {m : TyM} (hm : M[x]? = some m) {q : List Nat} (hq : ORd σ y m.1 (L 99 m.1) q) : ∀ a, a ∈ q → ∃ g, F[ixF F a]? = some g ∧ g ∈ F ∧ g.1 = a ∧ fMs g = x ∧ sI σ 131 a = (fNo g : Int) := by
  intro a ha
  obtain ⟨f, f1, f2, f3⟩ := (h.fl hm).mp (hq.1.mem_iff.mp ha)
  obtain ⟨g, g1, g2⟩ := ixF_at f1 f3
  have gm := List.mem_of_getElem? g1
  have e : g = f := nd_inj (g := fun f : TyF => f.1) h.2.2.1.2.2.2.2.1 gm f1 (g2.trans f3.symm)
  refine ⟨g, g1, gm, g2, by rw [e]; exact f2, ?_⟩
  have := (h.2.2.1.2.2.2.1 g gm).2.2.2.2.2.1
  rw [← g2]; exact this
theorem hsc_od (h : SFr y σ I n ob L sd root M E V F O R N a0) (nb : ∀ f, f ∈ F → ¬ BNf F R f) {m : TyM} (hm : M[x]? = some m) {q : List Nat} (hq : ORd σ y m.1 (L 99 m.1) q) : (q.map (ixF F)).length ≤ 50 ∧ (∀ f, f ∈ q.map (ixF F) ↔ (f < nF_ (mkS I n M E V F kd) ∧ qm (mkS I n M E V F kd) f = x)) ∧ (q.map (ixF F)).Pairwise (fun f g => qn (mkS I n M E V F kd) f < qn (mkS I n M E V F kd) g) := by
  have key := ord_key h hm hq
  obtain ⟨H, Q, B, W, -⟩ := id h
  have q99 := (Q.2.2.1 x m hm).1
  have wnd : (L 99 m.1).Nodup := by
    rw [q99]
    exact List.Nodup.sublist (List.Sublist.map _ List.filter_sublist) B.2.2.2.2.1
  obtain ⟨p1, p2, -, -⟩ := hq
  refine ⟨?_, fun f => ?_, ?_⟩
  · rw [List.length_map, p1.length_eq, q99, List.length_map]
    exact Nat.le_trans (List.length_filter_le _ _) W.1.2.2.2.1
  · rw [mkS_n.1, List.mem_map]
    constructor
    · rintro ⟨a, ha, e⟩
      obtain ⟨g, g1, g2, g3, g4, -⟩ := key a ha
      rw [e] at g1
      exact ⟨gq_lt g1, by rw [(mkS_q g1).1]; exact g4⟩
    · rintro ⟨h1, h2⟩
      obtain ⟨g, hg, gm, -⟩ := drop_at h1
      rw [(mkS_q hg).1] at h2
      have ga : g.1 ∈ q := p1.mem_iff.mpr ((h.fl hm).mpr ⟨g, gm, h2, rfl⟩)
      obtain ⟨g', u1, u2, u3, -⟩ := key g.1 ga
      exact ⟨g.1, ga, nd_ix B.2.2.2.2.1 u1 hg u3⟩
  · refine List.pairwise_map.mpr (List.pairwise_iff_getElem.mpr (fun i j hi hj hij => ?_))
    have a := List.pairwise_iff_getElem.mp p2 i j hi hj hij
    have b := List.pairwise_iff_getElem.mp (p1.nodup_iff.mpr wnd) i j hi hj hij
    obtain ⟨g, g1, g2, g3, g4, g5⟩ := key _ (List.getElem_mem hi)
    obtain ⟨g', u1, u2, u3, u4, u5⟩ := key _ (List.getElem_mem hj)
    rw [(mkS_q g1).2.1, (mkS_q u1).2.1]
    rw [g5, u5] at a
    have ne : fNo g ≠ fNo g' := fun e => nb g g2 (Or.inr (Or.inr ⟨g', u2, fun w => b (by rw [← g3, ← u3, w]), by omega, e.symm⟩))
    omega
theorem hsc_all (h : SG y σ I n ob L sd root M E V F O R N a0) (nb : ∀ f, f ∈ F → ¬ BNf F R f) (hkd : ∀ (x : Nat) (f : TyF), F[x]? = some f → ∃ v : Int, KFs σ M E f.1 v ∧ v ≠ -1 ∧ (kd x : Int) = v) : ∃ od, HSc (sZ σ) σ (mkS I n M E V F kd) (fAd F) (mAd M) (eAd E) od ∧ HSy y σ (mkS I n M E V F kd) (fAd F) (mAd M) (eAd E) ∧ HSd y (sZ σ) σ (mkS I n M E V F kd) (fAd F) (mAd M) (eAd E) sd ∧ OD (mkS I n M E V F kd) od ∧ ∀ x, x < F.length → (kd x ≤ 10 ∨ (16 ≤ kd x ∧ kd x < 16 + M.length) ∨ (32 ≤ kd x ∧ kd x < 32 + E.length)) := by
  obtain ⟨h, -, hO⟩ := h
  obtain ⟨H, Q, B, W, C, k1, k2, k3⟩ := id h
  have hl := W.1
  obtain ⟨eF, eV⟩ := mkS_n (I := I) (n := n) (M := M) (E := E) (V := V) (F := F) (kd := kd)
  obtain ⟨Qo, hQ⟩ : ∃ Qo : Nat → List Nat, ∀ x, ∀ m, M[x]? = some m → ORd σ y m.1 (L 99 m.1) (Qo x) := by
    refine Classical.axiomOfChoice (β := fun _ : Nat => List Nat) (r := fun x q => ∀ m, M[x]? = some m → ORd σ y m.1 (L 99 m.1) q) (fun x => ?_)
    cases e : M[x]? with
    | none => exact ⟨[], fun m hm => by cases hm⟩
    | some m0 =>
      obtain ⟨q, hq⟩ := hO x m0 e
      exact ⟨q, fun m hm => by rw [← Option.some.inj hm]; exact hq⟩
  have kb : ∀ x, x < F.length → (kd x ≤ 10 ∨ (16 ≤ kd x ∧ kd x < 16 + M.length) ∨ (32 ≤ kd x ∧ kd x < 32 + E.length)) := fun x hx => by
    obtain ⟨f, hf, -, -⟩ := drop_at hx
    obtain ⟨v, q, q2, q3⟩ := hkd x f hf
    rcases q with ⟨a1, a2, -⟩ | ⟨a1, -⟩ | ⟨j, m, a1, a2, -⟩ | ⟨k, e, a1, a2, -⟩
    · exact Or.inl (by omega)
    · exact absurd a1 q2
    · have := gq_lt a2
      exact Or.inr (Or.inl (by omega))
    · have := gq_lt a2
      exact Or.inr (Or.inr (by omega))
  refine ⟨fun x => (Qo x).map (ixF F), ⟨Nat.le_refl _, fun x hx => ?_, fun x z hx hz e => ?_, fun x hx => ?_, fun x z hx hz e => ?_, fun e he => (hsc_e h he).1⟩, ⟨fun x hx => ?_, fun x hx => ?_, fun e he => (hsc_e h he).2⟩, ⟨(H.1 _ B.1.1).1, (H.1 _ B.1.1).2, B.1.2.2.1, ?_⟩, fun x hx => ?_, kb⟩
  · rw [eF] at hx
    obtain ⟨f, hf, fm, -⟩ := drop_at hx
    obtain ⟨q1, q2, q3, q4, q5, q6, q7⟩ := mkS_q (I := I) (n := n) (M := M) (E := E) (V := V) (kd := kd) hf
    rw [fAd_at hf, q1, q2, q4, q5, q6, q7]
    obtain ⟨o1, o2, o3, ⟨r4, o4, p4⟩, ⟨r5, o5, p5⟩, o6, o7, o8, o9, -⟩ := B.2.2.2.1 f fm
    obtain ⟨m, hm, mm, -⟩ := drop_at (W.2.2.2.2.1 f fm).1
    rw [hm] at o3
    obtain ⟨v, kv, kn, ke⟩ := hkd x f hf
    have hq := hQ (fMs f) m hm
    have hod := hsc_od (kd := kd) h nb hm hq
    have kk : sI σ 132 f.1 = (sk (mkS I n M E V F kd) x : Int) ∧ sR σ 137 f.1 = (if isM (mkS I n M E V F kd) x then some (mAd M (qk (mkS I n M E V F kd) x - 16)) else none) ∧ sR σ 138 f.1 = (if 32 ≤ qk (mkS I n M E V F kd) x then some (eAd E (qk (mkS I n M E V F kd) x - 32)) else none) := by
      unfold sk ks isM
      rw [q3]
      rcases kv with ⟨a1, a2, a3, a4, a5⟩ | ⟨a1, -⟩ | ⟨j, m', a1, a2, a3, a4, a5⟩ | ⟨k, e, a1, a2, a3, a4, a5⟩
      · rw [if_neg (by omega), if_neg (by omega), if_neg (by omega), if_neg (by omega)]
        exact ⟨by omega, a4, a5⟩
      · exact absurd a1 kn
      · have := gq_lt a2
        have ej : kd x = 16 + j := by omega
        rw [ej, if_pos (by omega), if_pos (by omega), if_neg (by omega), show 16 + j - 16 = j by omega, mAd_at a2]
        exact ⟨a3, a4, a5⟩
      · have := gq_lt a2
        have ej : kd x = 32 + k := by omega
        rw [ej, if_neg (by omega), if_pos (by omega), if_neg (by omega), if_pos (by omega), show 32 + k - 32 = k by omega, eAd_at a2]
        exact ⟨a3, a4, a5⟩
    refine ⟨(H.1 _ o1).2, o2, by rw [mAd_at hm]; exact o3, by rw [o4]; exact p4.w, by rw [o5]; exact p5.w, o6, kk.1, o7, o8, o9, kk.2.1, kk.2.2, ?_⟩
    have fq : f.1 ∈ Qo (fMs f) := hq.1.mem_iff.mpr ((h.fl hm).mpr ⟨f, fm, rfl, rfl⟩)
    obtain ⟨j, hj⟩ := List.getElem?_of_mem fq
    obtain ⟨g, g1, g2, g3, -⟩ := ord_key h hm hq f.1 fq
    have ex : ixF F f.1 = x := nd_ix B.2.2.2.2.1 g1 hf g3
    refine ⟨j, hq.2.2.2 j f.1 hj, by rw [List.length_map]; exact gq_lt hj, ?_⟩
    rw [List.getD_eq_getElem?_getD, List.getElem?_map, hj, Option.map_some, Option.getD_some, ex]
  · rw [eF] at hx hz
    obtain ⟨f, hf, -, -⟩ := drop_at hx
    obtain ⟨g, hg, -, -⟩ := drop_at hz
    rw [fAd_at hf, fAd_at hg] at e
    exact nd_ix B.2.2.2.2.1 hf hg e
  · obtain ⟨m, hm, mm, -⟩ := drop_at (show x < M.length from hx)
    rw [mAd_at hm]
    have hq := hQ x m hm
    obtain ⟨d1, d2, d3⟩ := hsc_od (kd := kd) h nb hm hq
    obtain ⟨o1, -, o2, o3, -⟩ := B.2.1 x m hm
    obtain ⟨oa, c1, c2, c3, c4, c5, c6⟩ := hq.2.2.1
    refine ⟨(H.1 _ o1).2, o2, o3, ⟨oa, c1, c3, c4, by rw [List.length_map]; exact c5, fun j hj => ?_⟩, d1, d2, d3⟩
    rw [List.length_map] at hj
    obtain ⟨a, ha, am, -⟩ := drop_at hj
    obtain ⟨g, g1, g2, g3, -⟩ := ord_key h hm hq a am
    rw [c6 j hj, List.getD_eq_getElem?_getD, List.getElem?_map, ha, Option.map_some, Option.getD_some, fAd_at g1, g3]
  · obtain ⟨m, hm, -, -⟩ := drop_at (show x < M.length from hx)
    obtain ⟨m', hm', -, -⟩ := drop_at (show z < M.length from hz)
    rw [mAd_at hm, mAd_at hm'] at e
    exact h.minj hm' hm e
  · rw [eF] at hx
    obtain ⟨f, hf, fm, -⟩ := drop_at hx
    rw [fAd_at hf]
    obtain ⟨o1, o2, o3, ⟨r4, o4, p4⟩, ⟨r5, o5, p5⟩, -⟩ := B.2.2.2.1 f fm
    refine ⟨(H.1 _ o1).1, fun r hr => ?_, fun r hr => ?_⟩
    · rw [← Option.some.inj (o4.symm.trans hr)]; exact p4.1
    · rw [← Option.some.inj (o5.symm.trans hr)]; exact p5.1
  · obtain ⟨m, hm, mm, -⟩ := drop_at (show x < M.length from hx)
    rw [mAd_at hm]
    obtain ⟨oa, c1, c2, -⟩ := (hQ x m hm).2.2.1
    refine ⟨(H.1 _ (B.2.1 x m hm).1).1, fun r hr => ?_⟩
    rw [← Option.some.inj (c1.symm.trans hr)]; exact c2
  · have d2 : sc σ sd = 2 := B.1.2.2.1
    obtain ⟨l1, a1, a2, a3, a4, a5, -⟩ := H.get (k := 17) B.1.1 (by decide) d2
    obtain ⟨l2, b1, b2, b3, b4, b5, -⟩ := H.get (k := 18) B.1.1 (by decide) d2
    obtain ⟨l3, c1, c2, c3, c4, c5, -⟩ := H.get (k := 19) B.1.1 (by decide) d2
    refine ⟨l1, l2, l3, a1, b1, c1, ⟨a2, a3, a4, ?_⟩, ⟨b2, b3, b4, ?_⟩, ⟨c2, c3, c4, ?_⟩⟩
    · rw [(a5 rfl).1, Q.1.1]; exact map_rg M (fun m => m.1) (0, 0, 0, 0)
    · rw [(b5 rfl).1, Q.1.2.1]; exact map_rg E (fun e => e.1) (0, 0, 0)
    · rw [(c5 rfl).1, Q.1.2.2, eF]; exact map_rg F (fun f => f.1) (0, 0, 0, 0, 0, 0, 0, 0, 0)
  · obtain ⟨m, hm, mm, -⟩ := drop_at (show x < M.length from hx)
    obtain ⟨d1, d2, d3⟩ := hsc_od (kd := kd) h nb hm (hQ x m hm)
    exact ⟨d2, d3, d1⟩
end Sn
