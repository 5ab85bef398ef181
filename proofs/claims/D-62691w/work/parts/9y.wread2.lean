set_option maxRecDepth 100000
/-! THE WIRE, READ: messages, as the system reads them -/
section Tq
variable {z : Nat} {S : SC} {fa ma ea : Nat → Nat} {od : Nat → List Nat} {a b n f m v d : Nat} {I : Nat → Nat} {rec : Nat × Nat → Option Nat → Option Nat → Int → Int → ST → Option (Option Unit × ST)} {dp : Int} {sp : Nat → Nat → Nat → TV d → Option (TV d)}
theorem FR.or {σ σ1 : ST} {F : Nat → Prop} (g : FR (fun y => y = a) σ σ1) : FR (fun x => x = a ∨ F x) σ σ1 := ⟨g.1, fun x hx => ⟨(g.2 x hx).1, fun w => (g.2 x hx).2 (fun u => w (Or.inl u))⟩⟩
set_option maxHeartbeats 4000000 in
theorem wr_take_eq (hS : SW S) (hI : ∀ k, I k < 256) (hR : ¬ 8 ≤ dp → WM z S fa ma ea od a b I n d rec (dp + 1) sp) (h8 : 8 ≤ dp → ∀ m p e T, sp m p e T = none) (hdp : 1 ≤ dp ∧ dp ≤ 8) (hd1 : ¬ 8 ≤ dp → 1 ≤ d) {σ : ST} {q e k kd : Nat} (hH : HSc z σ S fa ma ea od) (hW : WRd σ a b I n q) (hza : z ≤ a) (he : e ≤ n) (hr : rgt S m k kd = some f) (hkd : (kd : Int) = wrK S f) {T : TV (d + 1)} {F : Nat → Prop} (hV : HV S fa ma (d + 1) σ v m T F) (hF : ∀ x, F x → z ≤ x ∧ x < sZ σ ∧ x ≠ a ∧ x ≠ b) (hT : TP (d + 1) T q) (hlenT : (t1 T).length < 1000) {p0 : Nat} (hp0 : p0 < q) : Rn (fun r : Option Unit × ST => r.2) σ (fun bb => wr_take bb (rec bb) (some a) (some (fa f)) (some v) (e : Int) dp σ) (fun r => RK S fa ma a b I n v m d F σ p0 (tkS S I sp m e k kd q T) r.1.isSome r.2) := by
  have hf : f < nF_ S := (rgt_in hr).1
  have hn := hW.2.2.2.2.2.1
  have ha := hW.2.2.2.2.2.2.2.2.1
  have hb := hW.2.2.2.2.2.2.2.2.2
  have hz := hH.1
  obtain ⟨b1, b2, -, -, -, -, -, -, -, -, b11, -⟩ := hH.2.1 f hf
  have hpm := plain_m hS hf
  have nFa : ¬ F a := fun w => (hF a w).2.2.1 rfl
  have nFb : ¬ F b := fun w => (hF b w).2.2.2 rfl
  have nFs : ¬ F (sZ σ) := fun w => by have := (hF _ w).2.1; omega
  have hFv := hV.2.2.1
  unfold wr_take
  refine Rn_eq (fun bb => by rw [bind_some', gd_pos b2, fd_plain_eq hS hH hf, bind_some', gd_pos (by split <;> omega)]) ?_
  by_cases hpl : plain S f
  · -- a number
    obtain ⟨k1, k2⟩ := bod_num (I := I) (e := e) (q := q) hS hf hpl hkd
    have hk2 : ¬ kd = 2 := fun w => (wrK_plain hS hf).mp (by omega) hpl
    refine Rn_neg (by rw [if_pos hpl]; omega) ?_
    refine Rn_eq (fun bb => by rw [bind_some', gd_pos hW.1]) ?_
    refine Rn_tB (WRd.number hS hH hW hza hf hpl he rfl) (fun σ' _ hr' => ⟨rfl, ?_⟩) (fun y σ1 _ hr' => ?_)
    · obtain ⟨g, hr'⟩ := hr'
      cases ev : nmS S I f e q with
      | some r => rw [ev] at hr'; exact absurd hr'.1 (by simp)
      | none =>
        rw [ev] at hr'
        unfold tkS
        rw [k2 ev]
        refine ⟨g.or, rfl, ?_, ?_⟩
        · have := hr'.2.1; show sS σ' ≤ _; simp only at this; omega
        · have := hr'.2.2; show sC σ' ≤ _; simp only at this; omega
    · obtain ⟨g, hr'⟩ := hr'
      cases ev : nmS S I f e q with
      | none => rw [ev] at hr'; exact absurd hr'.1 (by simp)
      | some r =>
        rw [ev] at hr'
        obtain ⟨e1, hW1, hs, z1, c1, c2⟩ := hr'
        cases e1
        change FR (fun y => y = a) σ σ1 at g
        change WRd σ1 a b I n r.1 at hW1
        change Sl σ1 (sZ σ) (sZ σ) S fa f (mnt S f r.2) [] at hs
        change sZ σ1 = sZ σ + 1 at z1
        change sS σ1 = sS σ + 5 at c1
        change sC σ1 = sC σ + 1 at c2
        have rb := nmS_bd ev
        obtain ⟨kb, kn⟩ := k1 r ev
        obtain ⟨σ2, p1, p2, p3, p4, p5, p6⟩ := num_put (b := b) hS hH hza hf hpl hV hF hlenT g hs z1
        have v11 : sc σ1 v = 11 := by rw [(g.2 v (hF v hFv).2.1).1]; exact hV.1
        have et : tkS S I sp m e k kd q T = some (nuT S f T r.2, r.1) := by
          unfold tkS
          rw [kb]
          show ((stR1 S I sp m (k, kd, q, r.1) T).map fun T' => (T', r.1)) = _
          unfold stR1
          rw [hr]
          show Option.map _ (if plain S f then (if kd = 2 then _ else (nmS S I f r.1 q).map (fun y => nuT S f T y.2)) else _) = _
          rw [if_pos hpl, if_neg hk2, kn]; rfl
        rw [et]
        refine Rn_eq (fun bb => by rw [bind_some', gd_pos v11, p1 bb, bind_some']) ?_
        refine Rn_some (σ := σ1) ⟨by rw [p6]; exact Nat.le_refl _, by rw [p5]; exact Nat.le_refl _, by rw [p4]; exact Nat.le_refl _⟩ ⟨g.or.tr p3 (fun x hx w => by
          rcases w with w | w
          · exact Or.inr w
          · omega), rfl, _, hW1.fr p3 (by
          rintro (w | w)
          · exact nFa w
          · omega) (by
          rintro (w | w)
          · exact nFb w
          · omega), p2, fun x w => ?_, fun x w => Or.inl w, ?_, ?_⟩
        · rcases w with w | w | w
          · exact Or.inl w
          · right; rw [p6]; omega
          · exact w.elim
        · show sS σ2 ≤ sS σ + 8 * (r.1 - p0); rw [p4]; omega
        · show sC σ2 ≤ sC σ + 5 * (r.1 - p0); rw [p5]; omega
  · -- something with a length
    have hw2 : wrK S f = 2 := (wrK_plain hS hf).mpr hpl
    have hk2 : kd = 2 := by omega
    have ebod : bodS I e kd q = lnS I e q := by unfold bodS; rw [if_neg (by omega), if_pos hk2]
    refine Rn_pos (by rw [if_neg hpl]) ?_
    refine Rn_eq (fun bb => by rw [bind_some', gd_pos hW.1]) ?_
    refine Rn_tB (hW.length he rfl) (fun σ' _ hr' => ⟨rfl, ?_⟩) (fun y σ1 _ hr' => ?_)
    · cases ev : lnS I e q with
      | some l => rw [ev] at hr'; cases hr'
      | none =>
        rw [ev] at hr'
        obtain ⟨j, j1, j2⟩ := hr'
        cases j2
        unfold tkS
        rw [ebod, ev]
        refine ⟨?_, rfl, ?_, ?_⟩
        · exact ((FR.at1 (W := fun y => y = a) (at_pI σ 177 a (j : Int)) rfl).tr (FR.nX (fun _ => False) _) (fun x _ w => w.elim)).or
        · show sS σ + 6 ≤ _; omega
        · show sC σ + 1 ≤ _; omega
    · cases ev : lnS I e q with
      | none => rw [ev] at hr'; obtain ⟨j, j1, j2⟩ := hr'; cases j2
      | some l =>
        rw [ev] at hr'
        cases hr'
        have lb := lnS_bd ev
        have hl : q < l.1 ∧ l.1 ≤ l.2 ∧ l.2 ≤ n := ⟨lb.1, lb.2.1, by omega⟩
        obtain ⟨y1, y2, y3, y4, y5, y6, y7⟩ := nSl_at (pI σ 177 a (l.1 : Int)) (fa f)
        have FY := nSl_fr (pI σ 177 a (l.1 : Int)) (fa f)
        have FσY : FR (fun x => x = a) σ (nSl (pI σ 177 a (l.1 : Int)) (fa f)) := (FR.at1 (W := fun y => y = a) (at_pI σ 177 a (l.1 : Int)) rfl).tr FY (fun x _ w => w.elim)
        have hHY : HSc z (nSl (pI σ 177 a (l.1 : Int)) (fa f)) S fa ma ea od := hH.ge hS FσY (fun x w => by rw [w]; exact hza)
        obtain ⟨b1', b2', -, -, -, -, -, -, -, -, b11', -⟩ := hHY.2.1 f hf
        refine Rn_rm (σ1 := nSl (pI σ 177 a (l.1 : Int)) (fa f)) (Nat.le_refl _) (Nat.le_refl _) (Nat.le_succ _) ?_
        refine Rn_eq (fun bb => by rw [nm_eq, sl_init_n, bind_some', gd_pos b2', b11']) ?_
        have et : tkS S I sp m e k kd q T = (stR1 S I sp m (k, kd, l.1, l.2) T).map fun T' => (T', l.2) := by
          unfold tkS
          rw [ebod, ev]; rfl
        by_cases hM : isM S f
        · rw [if_pos hM]
          refine Rn_eq (fun bb => by rw [if_neg (by simp)]) ?_
          have es : stR1 S I sp m (k, kd, l.1, l.2) T = (sp (qk S f - 16) l.1 l.2 (if qr S f = 1 then emp d else subT f T)).map (fun T1 => put S T (f, 0, [], T1)) := by
            unfold stR1
            rw [hr]
            show (if plain S f then _ else if isM S f then _ else _) = _
            rw [if_neg hpl, if_pos hM]
          have eq : tkS S I sp m e k kd q T = (sp (qk S f - 16) l.1 l.2 (if qr S f = 1 then emp d else subT f T)).map fun T1 => (put S T (f, 0, [], T1), l.2) := by
            rw [et, es]
            cases sp (qk S f - 16) l.1 l.2 (if qr S f = 1 then emp d else subT f T) <;> rfl
          rw [eq]
          exact wt_msg hS hR h8 hdp hd1 hH hW hza hf hM hV hF hT hl hp0
        · rw [if_neg hM]
          have hk : qk S f = 9 ∨ qk S f = 10 := by
            by_cases w : qk S f = 9 ∨ qk S f = 10
            · exact w
            · exact absurd (hpm.mpr ⟨w, hM⟩) hpl
          refine Rn_eq (fun bb => by rw [if_pos rfl]) ?_
          have es : stR1 S I sp m (k, kd, l.1, l.2) T = if qk S f = 9 ∧ ¬ txt (gN I) l.2 l.1 = true then none else some (put S T (f, 0, cut I l.1 l.2, emp d)) := by
            unfold stR1
            rw [hr]
            show (if plain S f then _ else if isM S f then _ else if qk S f = 9 ∧ ¬ txt (gN I) l.2 l.1 = true then none else some (put S T (f, 0, cut I l.1 l.2, emp d))) = _
            rw [if_neg hpl, if_neg hM]
          rw [et, es]
          refine Rn_bind (su := st2) (wt_str (d := d) hS hI hH hW hza hf hk hl) (fun y _ hy => ?_)
          obtain ⟨g, g1, g2, g3⟩ := hy
          by_cases ct : qk S f = 9 ∧ ¬ txt (gN I) l.2 l.1 = true
          · rw [if_pos ct] at g3 ⊢
            obtain ⟨X, hX⟩ : ∃ X, X = st2 y := ⟨_, rfl⟩
            rw [← hX] at g g1 g2 g3
            subst g3
            refine Rn_some (Le.refl _) ⟨g.or, rfl, ?_, ?_⟩
            · show sS X ≤ _; omega
            · show sC X ≤ _; omega
          · rw [if_neg ct] at g3 ⊢
            obtain ⟨X, hX⟩ : ∃ X, X = st2 y := ⟨_, rfl⟩
            rw [← hX] at g g1 g2 g3
            obtain ⟨e1, c1, hWX, h196, hst, zs⟩ := g3
            subst e1
            have hHX := hH.ge hS g (fun x w => by rw [w]; exact hza)
            have hVX : HV S fa ma (d + 1) X v m T F := HV_kept (d + 1) v m T F hV (fun x w lt => ⟨(g.2 x lt).2 (hF x w).2.2.1, (g.2 x lt).1⟩) g.1.1
            obtain ⟨σ2, p1, p2, p3, p4, p5, p6⟩ := vlu_put_eq hS hHX (fun x w => (hF x w).1) hVX (by omega) hst h196 nFs (fun x w u => by have := (hF x w).2.1; omega) (by omega) hlenT
            have v11 : sc X v = 11 := by rw [(g.2 v (hF v hFv).2.1).1]; exact hV.1
            have p1' : ∀ bb, vlu_put bb v (some (sZ (pI σ 177 a (l.1 : Int)))) X = some σ2 := p1
            refine Rn_eq (fun bb => by rw [elim_r, bind_some', gd_pos v11, p1' bb, bind_some']) ?_
            refine Rn_some (σ := X) ⟨by rw [p6]; exact Nat.le_refl _, by rw [p5]; exact Nat.le_refl _, by rw [p4]; exact Nat.le_refl _⟩ ⟨g.or.tr p3 (fun x hx w => by
              rcases w with w | w
              · exact Or.inr w
              · omega), rfl, _, hWX.fr p3 (by
              rintro (w | w)
              · exact nFa w
              · omega) (by
              rintro (w | w)
              · exact nFb w
              · omega), p2, fun x w => ?_, fun x w => Or.inl w, ?_, ?_⟩
            · rcases w with w | w | w
              · exact Or.inl w
              · right; rw [p6]; omega
              · right; rw [p6]; omega
            · show sS σ2 ≤ sS σ + 8 * (l.2 - p0); rw [p4]; omega
            · show sC σ2 ≤ sC σ + 5 * (l.2 - p0); rw [p5]; omega
theorem msgL_tk {m e c p : Nat} {T : TV (d + 1)} : msgL S I sp m e (c + 1) p T = if e ≤ p then some T else (vrS I e p).bind fun t => if un t.2 / 8 = 0 ∨ 536870911 < un t.2 / 8 then none else (tkS S I sp m e (un t.2 / 8) (un t.2 % 8) t.1 T).bind fun x => msgL S I sp m e c x.2 x.1 := by
  rw [msgL, fldS_eq]
  by_cases ce : e ≤ p
  · rw [if_pos ce, if_pos ce]
  · rw [if_neg ce, if_neg ce]
    cases vrS I e p with
    | none => rfl
    | some t =>
      show Option.bind (if un t.2 / 8 = 0 ∨ 536870911 < un t.2 / 8 then none else _) _ = (if un t.2 / 8 = 0 ∨ 536870911 < un t.2 / 8 then none else _)
      by_cases cb : un t.2 / 8 = 0 ∨ 536870911 < un t.2 / 8
      · rw [if_pos cb, if_pos cb]; rfl
      · rw [if_neg cb, if_neg cb]
        unfold tkS
        cases bodS I e (un t.2 % 8) t.1 with
        | none => rfl
        | some l =>
          show ((stR1 S I sp m (un t.2 / 8, un t.2 % 8, l.1, l.2) T).bind fun T' => msgL S I sp m e c l.2 T') = Option.bind (Option.map (fun T' => (T', l.2)) (stR1 S I sp m (un t.2 / 8, un t.2 % 8, l.1, l.2) T)) fun x => msgL S I sp m e c x.2 x.1
          cases stR1 S I sp m (un t.2 / 8, un t.2 % 8, l.1, l.2) T <;> rfl
theorem tkS_bd {m e k kd q : Nat} {T : TV (d + 1)} {x : TV (d + 1) × Nat} (h : tkS S I sp m e k kd q T = some x) : q ≤ x.2 ∧ x.2 ≤ e := by
  unfold tkS at h
  cases eb : bodS I e kd q with
  | none => rw [eb] at h; cases h
  | some l =>
    rw [eb] at h
    have := bodS_bd eb
    change (stR1 S I sp m (k, kd, l.1, l.2) T).map _ = _ at h
    cases es : stR1 S I sp m (k, kd, l.1, l.2) T with
    | none => rw [es] at h; cases h
    | some T' => rw [es] at h; cases h; exact ⟨by simp only; omega, by simp only; omega⟩
theorem tkS_TP (hRT : RT sp) {m e k kd p q : Nat} {T : TV (d + 1)} {x : TV (d + 1) × Nat} (hpq : p < q) (hT : TP (d + 1) T p) (h : tkS S I sp m e k kd q T = some x) : TP (d + 1) x.1 x.2 := by
  unfold tkS at h
  cases eb : bodS I e kd q with
  | none => rw [eb] at h; cases h
  | some l =>
    rw [eb] at h
    have := bodS_bd eb
    change (stR1 S I sp m (k, kd, l.1, l.2) T).map _ = _ at h
    cases es : stR1 S I sp m (k, kd, l.1, l.2) T with
    | none => rw [es] at h; cases h
    | some T' =>
      rw [es] at h; cases h
      exact stR1_TP hRT (r := (k, kd, l.1, l.2)) (by show p < l.1; omega) (by show l.1 ≤ l.2; omega) hT es
end Tq
