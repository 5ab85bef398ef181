set_option maxRecDepth 100000
/-! VALUES: a field gets one -/
section Pt
variable {z : Nat} {S : SC} {fa ma ea : Nat → Nat} {od : Nat → List Nat} {σ σ' : ST} {v : Nat}
theorem HL_snoc {d : Nat} {hv : Nat → Nat → TV d → (Nat → Prop) → Prop} {s : Nat} {t : SV d} {Fn : Nat → Prop} (hs : s < sZ σ) (hst : HSl S fa hv σ s t Fn) (hns : ¬ Fn s) : ∀ (la : List Nat) (T : List (SV d)) (F : Nat → Prop), HL S fa hv σ la T F → ¬ F s → (∀ x, F x → ¬ Fn x) → HL S fa hv σ (la ++ [s]) (T ++ [t]) (fun x => F x ∨ x = s ∨ Fn x)
  | [], [], F, _, _, _ => ⟨Or.inr (Or.inl rfl), hs, Fn, fun _ => False, hst, True.intro, fun x w => Or.inr (Or.inr w), fun x w => w.elim, hns, fun w => w, fun x _ w => w⟩
  | [], _ :: _, F, h, _, _ => h.elim
  | _ :: _, [], F, h, _, _ => h.elim
  | s' :: la, t' :: T, F, h, hFs, hFn => by
    obtain ⟨h1, h2, Fn', F2, h3, h4, h5, h6, h7, h8, h9⟩ := h
    have ih := HL_snoc hs hst hns la T F2 h4 (fun w => hFs (h6 s w)) (fun x w => hFn x (h6 x w))
    refine ⟨Or.inl h1, h2, Fn', fun x => F2 x ∨ x = s ∨ Fn x, h3, ih, fun x w => Or.inl (h5 x w), fun x w => ?_, h7, ?_, fun x w u => ?_⟩
    · rcases w with w | w
      · exact Or.inl (h6 x w)
      · exact Or.inr w
    · rintro (w | w | w)
      · exact h8 w
      · rw [w] at h1; exact hFs h1
      · exact hFn s' h1 w
    · rcases u with u | u | u
      · exact h9 x w u
      · rw [u] at w; exact hFs (h5 s w)
      · exact hFn x (h5 x w) u
theorem isDef_eq {d : Nat} {hv : Nat → Nat → TV d → (Nat → Prop) → Prop} {s : Nat} {t : SV d} {Fn : Nat → Prop} (h : HSl S fa hv σ s t Fn) : sl_isDefault s σ = some (if ¬ isM S t.1 ∧ t.2.1 = 0 ∧ t.2.2.1 = [] then 1 else 0) := by
  obtain ⟨a1, a2, a3, a4⟩ := h
  unfold sl_isDefault
  rw [gd_pos a1]
  by_cases c : isM S t.1
  · rw [if_pos c] at a4
    obtain ⟨c1, c2, c3, c4, va, c5, c6⟩ := a4
    rw [if_neg (fun w => by rw [c5] at w; exact absurd w.1 (by simp)), if_neg (fun w => w.1 c)]
  · rw [if_neg c] at a4
    obtain ⟨b1, b2, b3⟩ := a4
    by_cases c0 : t.2.1 = 0
    · rw [if_pos ⟨b1, by rw [b2]; exact c0⟩, gd_pos (by exact fun w => w)]
      by_cases ck : qk S t.1 = 9 ∨ qk S t.1 = 10
      · rw [if_pos ck] at b3
        obtain ⟨e1, rw', e2, e3, e4, e5, e6⟩ := b3
        rw [e2, show ad (some rw') = rw' from rfl, gd_pos (by exact fun _ => e5), e6]
        by_cases cl : t.2.2.1 = []
        · rw [if_pos (Or.inr (by rw [cl]; rfl)), if_pos ⟨c, c0, cl⟩]
        · rw [if_neg (by
            rintro (w | w)
            · cases w
            · exact cl (List.eq_nil_of_length_eq_zero (by omega))), if_neg (fun w => cl w.2.2)]
      · rw [if_neg ck] at b3
        rw [gd_pos (by exact fun w => absurd b3.1 w), if_pos (Or.inl b3.1), if_pos ⟨c, c0, b3.2⟩]
    · rw [if_neg (fun w => c0 (by rw [← b2]; exact w.2)), if_neg (fun w => c0 w.2.1)]
theorem keeps_eq (hS : SW S) (hH : HSc z σ S fa ma ea od) {f : Nat} (hf : f < nF_ S) : fd_keepsDefault (fa f) σ = some (if keeps S f then 1 else 0) := by
  obtain ⟨b1, b2, b3, b4, b5, b6, b7, b8, b9, b10, b11, b12, b13⟩ := hH.2.1 f hf
  have bf := (hS.2.2.2.2.1 f hf).2.2.2.2
  unfold fd_keepsDefault
  rw [gd_pos b2, b10, b8, gd_pos (by omega), gd_pos (by omega), b11]
  by_cases c : isM S f
  · rw [if_pos c, if_neg (fun w => absurd w.2 (by simp)), if_pos (Or.inr (Or.inr c))]
  · rw [if_neg c]
    by_cases k : keeps S f
    · rw [if_pos k, if_neg (by
        rintro ⟨⟨w1, w2⟩, -⟩
        rcases k with k | k | k
        · omega
        · omega
        · exact c k)]
    · rw [if_neg k, if_pos ⟨⟨by
        by_cases q : qp S f = 0
        · exact q
        · exact absurd (Or.inl (by omega)) k, fun q => k (Or.inr (Or.inl q))⟩, rfl⟩]
set_option maxHeartbeats 4000000 in
theorem vlu_put_eq {d m : Nat} {T : TV (d + 1)} {F Fn : Nat → Prop} {s : Nat} {t : SV d} (hS : SW S) (hH : HSc z σ S fa ma ea od) (hFz : ∀ x, F x → z ≤ x) (hV : HV S fa ma (d + 1) σ v m T F) (hs : s < sZ σ) (hst : HSl S fa (HV S fa ma d σ) σ s t Fn) (h196 : sR σ 196 s = none) (hFs : ¬ F s) (hFn : ∀ x, F x → ¬ Fn x) (hns : ¬ Fn s) (hlen : (t1 T).length < 1000) : ∃ σ', (∀ bb, vlu_put bb v (some s) σ = some σ') ∧ HV S fa ma (d + 1) σ' v m (put S T t) (fun x => F x ∨ x = s ∨ Fn x) ∧ FR (fun x => F x ∨ x = s) σ σ' ∧ sS σ' = sS σ ∧ sC σ' = sC σ ∧ sZ σ' = sZ σ := by
  have hf : t.1 < nF_ S := hst.2.1
  have s13 : sc σ s = 13 := hst.1
  have s192 : sR σ 192 s = some (fa t.1) := hst.2.2.1
  obtain ⟨b1, b2, -, -, -, -, -, -, b9, -⟩ := hH.2.1 t.1 hf
  have bf := (hS.2.2.2.2.1 t.1 hf).2.2.2.2
  have hv11 : sc σ v = 11 := hV.1
  have hvs : v ≠ s := fun e => by rw [e] at hv11; omega
  by_cases cr : qr S t.1 = 1
  · -- a row: behind the last one
    obtain ⟨h1, h2, h3, h4, la, lb, F1, F2, c1, c2, c3, c4, c5, c6, c7, c8, c9, c10⟩ := hV
    obtain ⟨m1, n1, e1⟩ := HL_mem la _ F1 c4
    obtain ⟨m2, n2, e2⟩ := HL_mem lb _ F2 c5
    have sF2 : ¬ F2 s := fun w => hFs (c7 s w)
    have slb : s ∉ lb := fun w => sF2 (m2 s w).1
    have key : ∀ σ1 : ST, (∀ k x, ¬ (k = 162 ∧ x = v) → ¬ (k = 163 ∧ x = v) → ¬ (k = 196 ∧ some x = lb.getLast?) → sR σ1 k x = sR σ k x) → (sc σ1 = sc σ ∧ sI σ1 = sI σ ∧ sJ σ1 = sJ σ ∧ sW σ1 = sW σ ∧ sA σ1 = sA σ ∧ sN σ1 = sN σ ∧ sB σ1 = sB σ ∧ sE σ1 = sE σ ∧ sF σ1 = sF σ ∧ sH σ1 = sH σ ∧ sZ σ1 = sZ σ ∧ sC σ1 = sC σ ∧ sS σ1 = sS σ) → sR σ1 163 v = some s → (lb = [] → sR σ1 162 v = some s) → (lb ≠ [] → sR σ1 162 v = sR σ 162 v) → (∀ l, lb.getLast? = some l → sR σ1 196 l = some s) → HV S fa ma (d + 1) σ1 v m (put S T t) (fun x => F x ∨ x = s ∨ Fn x) ∧ FR (fun x => F x ∨ x = s) σ σ1 ∧ sS σ1 = sS σ ∧ sC σ1 = sC σ ∧ sZ σ1 = sZ σ := fun σ1 hR hE h163 ha hb hl => by
      obtain ⟨a1, a2, a3, a4, a5, a6, a7, a8, a9, a10, a11, a12, a13⟩ := hE
      have sm : ∀ x, x ≠ v → some x ≠ lb.getLast? → Sm1 σ σ1 x := fun x w u => ⟨⟨by rw [a4], by rw [a5], by rw [a6], by rw [a7], by rw [a8], by rw [a9], by rw [a10], fun k => by rw [a2], fun k => by rw [a3], fun k => hR k x (fun q => w q.2) (fun q => w q.2) (fun q => u q.2)⟩, by rw [a1]⟩
      have sx : ∀ x, x ≠ v → Sx σ σ1 x := fun x w => ⟨by rw [a1], by rw [a3], hR 192 x (fun q => w q.2) (fun q => w q.2) (fun q => absurd q.1 (by decide)), hR 194 x (fun q => w q.2) (fun q => w q.2) (fun q => absurd q.1 (by decide)), hR 195 x (fun q => w q.2) (fun q => w q.2) (fun q => absurd q.1 (by decide))⟩
      have hz : sZ σ ≤ sZ σ1 := by rw [a11]; exact Nat.le_refl _
      have nl : ∀ x, x ∉ lb → some x ≠ lb.getLast? := fun x w u => w (List.mem_of_getLast? u.symm)
      have sF1 : ∀ x, F1 x → Sm1 σ σ1 x := fun x w => sm x (fun e => c8 (by rw [← e]; exact w)) (nl x (fun u => c10 x w (m2 x u).1))
      have sF2' : ∀ x, F2 x → x ∉ lb → Sm1 σ σ1 x := fun x w u => sm x (fun e => c9 (by rw [← e]; exact w)) (nl x u)
      have sFn : ∀ x, Fn x → Sm1 σ σ1 x := fun x w => sm x (fun e => hFn v h3 (by rw [← e]; exact w)) (nl x (fun u => hFn x (c7 x (m2 x u).1) w))
      have ss : Sm1 σ σ1 s := sm s (fun e => hvs e.symm) (nl s slb)
      refine ⟨?_, ⟨⟨by rw [a11]; exact Nat.le_refl _, by rw [a12]; exact Nat.le_refl _, by rw [a13]; exact Nat.le_refl _⟩, fun x _ => ⟨by rw [a1], fun w => (sm x (fun e => w (Or.inl (by rw [e]; exact h3))) (nl x (fun u => w (Or.inl (c7 x (m2 x u).1))))).1⟩⟩, a13, a12, a11⟩
      have eput : put S T t = mk (t1 T) (t2 T ++ [t]) := by unfold put; rw [if_pos cr]
      rw [eput]
      have hla : HL S fa (HV S fa ma d σ1) σ1 la (t1 T) F1 := HL_kept la _ F1 c4 (fun x hx => (sF1 x (m1 x hx).1).x) (fun x w _ _ => sF1 x w) hz (fun Fn' va m T w u => HV_kept d va m T Fn' u (fun x r _ => sF1 x (w x r).1) hz)
      have hlb : HL S fa (HV S fa ma d σ1) σ1 lb (t2 T) F2 := HL_kept lb _ F2 c5 (fun x hx => sx x (fun e => c9 (by rw [← e]; exact (m2 x hx).1))) (fun x w u _ => sF2' x w u) hz (fun Fn' va m T w u => HV_kept d va m T Fn' u (fun x r _ => sF2' x (w x r).1 (w x r).2) hz)
      have hst1 : HSl S fa (HV S fa ma d σ1) σ1 s t Fn := HSl_kept hst ss.x (fun x w _ => sFn x w) hz (fun va m T u => HV_kept d va m T Fn u (fun x r _ => sFn x r) hz)
      have hlb2 := HL_snoc (s := s) (t := t) (by rw [a11]; exact hs) hst1 hns lb _ F2 hlb sF2 (fun x w => hFn x (c7 x w))
      have p196 : sR σ1 196 s = none := by rw [ss.1.2.2.2.2.2.2.2.2.2]; exact h196
      have hch : chain σ1 (sR σ1 162 v) (lb ++ [s]) := chain_snoc p196 lb (sR σ 162 v) _ c2 n2 (fun x hx w => hR 196 x (fun q => absurd q.1 (by decide)) (fun q => absurd q.1 (by decide)) (fun q => w q.2)) hl ha hb
      refine ⟨by rw [a1]; exact h1, by rw [a11]; exact h2, Or.inl h3, by rw [hR 160 v (fun q => absurd q.1 (by decide)) (fun q => absurd q.1 (by decide)) (fun q => absurd q.1 (by decide))]; exact h4, la, lb ++ [s], F1, fun x => F2 x ∨ x = s ∨ Fn x, ?_, hch, fun _ => by rw [h163, List.getLast?_append]; rfl, hla, hlb2, fun x w => Or.inl (c6 x w), fun x w => ?_, c8, ?_, fun x w u => ?_⟩
      · exact chain_kept la _ _ (hR 161 v (fun q => absurd q.1 (by decide)) (fun q => absurd q.1 (by decide)) (fun q => absurd q.1 (by decide))) (fun x hx => (sF1 x (m1 x hx).1).1.2.2.2.2.2.2.2.2.2 196) c1
      · rcases w with w | w
        · exact Or.inl (c7 x w)
        · exact Or.inr w
      · rintro (w | w | w)
        · exact c9 w
        · exact hvs w
        · exact hFn v h3 w
      · rcases u with u | u | u
        · exact c10 x w u
        · rw [u] at w; exact hFs (c6 s w)
        · exact hFn x (c6 x w) u
    cases hl : lb.getLast? with
    | none =>
      have hlb0 : lb = [] := List.getLast?_eq_none_iff.mp hl
      have e162 : sR σ 162 v = none := by rw [hlb0] at c2; exact c2
      refine ⟨pR (pR σ 162 v (some s)) 163 v (some s), fun bb => ?_, key _ (fun k x u1 u2 u3 => ?_) ⟨rfl, rfl, rfl, rfl, rfl, rfl, rfl, rfl, rfl, rfl, rfl, rfl, rfl⟩ ?_ (fun _ => ?_) (fun w => absurd hlb0 w) (fun l w => by rw [hl] at w; cases w)⟩
      · unfold vlu_put
        rw [bind_some', gd_pos s13, nm_eq, s192, bind_some', gd_pos b2, b9, gd_pos (by omega), if_neg (by omega), gd_pos hv11, if_pos e162, nm_eq, bind_some', gd_pos (show sc (pR σ 162 v (some s)) v = 11 from hv11), nm_eq]
      · rw [sR_pR, if_neg u2, sR_pR, if_neg u1]
      · rw [sR_pR, if_pos ⟨rfl, rfl⟩]
      · rw [sR_pR, if_neg (fun q => absurd q.1 (by decide)), sR_pR, if_pos ⟨rfl, rfl⟩]
    | some l =>
      have hne : lb ≠ [] := fun w => by rw [w] at hl; cases hl
      have hl13 : sc σ l = 13 := by
        have := List.mem_of_getLast? hl
        obtain ⟨q, hq1, hq2⟩ : ∃ q ∈ lb.zip (t2 T), q.1 = l := by
          have e := zip_fst lb (t2 T) e2
          rw [← e] at this
          obtain ⟨q, a, b⟩ := List.mem_map.mp this
          exact ⟨q, a, b⟩
        rw [← hq2]; exact (HL_at lb _ F2 c5 q hq1).2.1
      have e162 : ¬ sR σ 162 v = none := by
        cases lb with
        | nil => exact absurd rfl hne
        | cons x r => rw [c2.1]; simp
      have e163 : sR σ 163 v = some l := by rw [c3 hne, hl]
      refine ⟨pR (pR σ 196 l (some s)) 163 v (some s), fun bb => ?_, key _ (fun k x u1 u2 u3 => ?_) ⟨rfl, rfl, rfl, rfl, rfl, rfl, rfl, rfl, rfl, rfl, rfl, rfl, rfl⟩ ?_ (fun w => absurd w hne) (fun _ => ?_) (fun l' w => ?_)⟩
      · unfold vlu_put
        rw [bind_some', gd_pos s13, nm_eq, s192, bind_some', gd_pos b2, b9, gd_pos (by omega), if_neg (by omega), gd_pos hv11, if_neg e162, e163, bind_some', gd_pos hl13, nm_eq, bind_some', gd_pos (show sc (pR σ 196 l (some s)) v = 11 from hv11), nm_eq]
      · rw [sR_pR, if_neg u2, sR_pR, if_neg (fun q => u3 ⟨q.1, by rw [q.2, hl]⟩)]
      · rw [sR_pR, if_pos ⟨rfl, rfl⟩]
      · rw [sR_pR, if_neg (fun q => absurd q.1 (by decide)), sR_pR, if_neg (fun q => absurd q.1 (by decide))]
      · rw [hl] at w
        cases w
        rw [sR_pR, if_neg (fun q => absurd q.1 (by decide)), sR_pR, if_pos ⟨rfl, rfl⟩]
  · -- a single value: ahead of the others
    obtain ⟨σ1, g1, g2, g3, g4, g5, g6, g7⟩ := vlu_drop_eq (f := t.1) hS hH hf hV hlen
    have hsm : ∀ x, ¬ F x → x < sZ σ → Sm1 σ σ1 x := fun x w l => ⟨(g3.2 x l).2 w, (g3.2 x l).1⟩
    have hz : sZ σ ≤ sZ σ1 := by rw [g6]; exact Nat.le_refl _
    have hst1 : HSl S fa (HV S fa ma d σ1) σ1 s t Fn := HSl_kept hst (hsm s hFs hs).x (fun x w l => hsm x (fun u => hFn x u w) l) hz (fun va m T u => HV_kept d va m T Fn u (fun x r l => hsm x (fun w => hFn x w r) l) hz)
    have hH1 : HSc z σ1 S fa ma ea od := hH.kept hS ⟨g3.1, fun x l => ⟨(g3.2 x l).1, fun w => (g3.2 x l).2 (fun u => w (hFz x u))⟩⟩
    have k1 := isDef_eq hst1
    have k2 := keeps_eq hS hH1 hf
    have b2' : sc σ1 (fa t.1) = 9 := (hH1.2.1 t.1 hf).2.1
    have v11 : sc σ1 v = 11 := g2.1
    have s13' : sc σ1 s = 13 := hst1.1
    have eI : ∀ bb, vlu_put bb v (some s) σ = (if ((if ¬ isM S t.1 ∧ t.2.1 = 0 ∧ t.2.2.1 = [] then (1 : Int) else 0) = 0) ∨ (¬ ((if keeps S t.1 then (1 : Int) else 0) = 0)) then some (pR (pR σ1 196 s (sR σ1 161 v)) 161 v (some s)) else some σ1) := fun bb => by
      unfold vlu_put
      rw [bind_some', gd_pos s13, nm_eq, s192, bind_some', gd_pos b2, b9, gd_pos (by omega), if_pos (by omega), gd_pos hv11, g1 bb, bind_some', gd_pos s13', k1, bind_some', k2, gd_pos (by split <;> omega), gd_pos (by exact fun _ => b2'), gd_pos (by exact fun _ => rfl), gd_pos (by exact fun _ => by rw [vv_s]; split <;> omega), vv_s]
      by_cases w : ((if ¬ isM S t.1 ∧ t.2.1 = 0 ∧ t.2.2.1 = [] then (1 : Int) else 0) = 0) ∨ (¬ ((if keeps S t.1 then (1 : Int) else 0) = 0))
      · rw [if_pos w, if_pos w, gd_pos v11, nm_eq, gd_pos (show sc (pR σ1 196 s (sR σ1 161 v)) v = 11 from v11), nm_eq]
      · rw [if_neg w, if_neg w]
    by_cases cd : (¬ isM S t.1 ∧ t.2.1 = 0 ∧ t.2.2.1 = []) ∧ ¬ keeps S t.1
    · refine ⟨σ1, fun bb => by rw [eI bb, if_pos cd.1, if_neg cd.2, if_neg (by omega)], ?_, ⟨g3.1, fun x l => ⟨(g3.2 x l).1, fun w => (g3.2 x l).2 (fun u => w (Or.inl u))⟩⟩, g4, g5, g6⟩
      have eput : put S T t = mk ((t1 T).filter (fun t' => !decide (goes S t.1 t'.1))) (t2 T) := by unfold put; rw [if_neg cr, if_pos cd]
      rw [eput]
      obtain ⟨h1, h2, h3, h4, la, lb, F1, F2, c1, c2, c3, c4, c5, c6, c7, c8⟩ := g2
      exact ⟨h1, h2, Or.inl h3, h4, la, lb, F1, F2, c1, c2, c3, c4, c5, fun x w => Or.inl (c6 x w), fun x w => Or.inl (c7 x w), c8⟩
    · have eput : put S T t = mk (t :: (t1 T).filter (fun t' => !decide (goes S t.1 t'.1))) (t2 T) := by unfold put; rw [if_neg cr, if_neg cd]
      refine ⟨pR (pR σ1 196 s (sR σ1 161 v)) 161 v (some s), fun bb => ?_, ?_, ?_, g4, g5, g6⟩
      · rw [eI bb]
        by_cases q : ¬ isM S t.1 ∧ t.2.1 = 0 ∧ t.2.2.1 = []
        · have q2 : keeps S t.1 := by
            by_cases w : keeps S t.1
            · exact w
            · exact absurd ⟨q, w⟩ cd
          rw [if_pos q, if_pos q2, if_pos (by omega)]
        · rw [if_neg q, if_pos (Or.inl rfl)]
      · rw [eput]
        obtain ⟨h1, h2, h3, h4, la, lb, F1, F2, c1, c2, c3, c4, c5, c6, c7, c8, c9, c10⟩ := g2
        obtain ⟨m1, n1, e1⟩ := HL_mem la _ F1 c4
        obtain ⟨m2, n2, e2⟩ := HL_mem lb _ F2 c5
        obtain ⟨Y, hY⟩ : ∃ Y, Y = pR (pR σ1 196 s (sR σ1 161 v)) 161 v (some s) := ⟨_, rfl⟩
        have sm2 : ∀ x, x ≠ v → x ≠ s → Sm1 σ1 Y x := fun x w u => by
          rw [hY]
          exact ⟨⟨rfl, rfl, rfl, rfl, rfl, rfl, rfl, fun k => rfl, fun k => rfl, fun k => by rw [sR_pR, if_neg (fun q => w q.2), sR_pR, if_neg (fun q => u q.2)]⟩, rfl⟩
        have ssx : Sx σ1 Y s := by
          rw [hY]
          exact ⟨rfl, rfl, by rw [sR_pR, if_neg (fun q => absurd q.1 (by decide)), sR_pR, if_neg (fun q => absurd q.1 (by decide))], by rw [sR_pR, if_neg (fun q => absurd q.1 (by decide)), sR_pR, if_neg (fun q => absurd q.1 (by decide))], by rw [sR_pR, if_neg (fun q => absurd q.1 (by decide)), sR_pR, if_neg (fun q => absurd q.1 (by decide))]⟩
        have hzY : sZ σ1 ≤ sZ Y := by rw [hY]; exact Nat.le_refl _
        have sF1 : ∀ x, F1 x → Sm1 σ1 Y x := fun x w => sm2 x (fun e => c8 (by rw [← e]; exact w)) (fun e => hFs (c6 s (by rw [← e]; exact w)))
        have sF2 : ∀ x, F2 x → Sm1 σ1 Y x := fun x w => sm2 x (fun e => c9 (by rw [← e]; exact w)) (fun e => hFs (c7 s (by rw [← e]; exact w)))
        have sFn : ∀ x, Fn x → Sm1 σ1 Y x := fun x w => sm2 x (fun e => hFn v h3 (by rw [← e]; exact w)) (fun e => hns (by rw [← e]; exact w))
        have hla : HL S fa (HV S fa ma d Y) Y la _ F1 := HL_kept la _ F1 c4 (fun x hx => (sF1 x (m1 x hx).1).x) (fun x w _ _ => sF1 x w) hzY (fun Fn' va m T w u => HV_kept d va m T Fn' u (fun x r _ => sF1 x (w x r).1) hzY)
        have hlb : HL S fa (HV S fa ma d Y) Y lb _ F2 := HL_kept lb _ F2 c5 (fun x hx => (sF2 x (m2 x hx).1).x) (fun x w _ _ => sF2 x w) hzY (fun Fn' va m T w u => HV_kept d va m T Fn' u (fun x r _ => sF2 x (w x r).1) hzY)
        have hst2 : HSl S fa (HV S fa ma d Y) Y s t Fn := HSl_kept hst1 ssx (fun x w _ => sFn x w) hzY (fun va m T u => HV_kept d va m T Fn u (fun x r _ => sFn x r) hzY)
        rw [← hY]
        have yR : ∀ k, k ≠ 161 → sR Y k v = sR σ1 k v := fun k hk => by rw [hY, sR_pR, if_neg (fun q => hk q.1), sR_pR, if_neg (fun q => hvs q.2)]
        refine ⟨by rw [hY]; exact h1, by rw [hY]; exact h2, Or.inl h3, by rw [yR 160 (by decide)]; exact h4, s :: la, lb, fun x => F1 x ∨ x = s ∨ Fn x, F2, ⟨by rw [hY, sR_pR, if_pos ⟨rfl, rfl⟩], ?_⟩, chain_kept lb _ _ (yR 162 (by decide)) (fun x hx => (sF2 x (m2 x hx).1).1.2.2.2.2.2.2.2.2.2 196) c2, fun w => by rw [yR 163 (by decide)]; exact c3 w, ⟨Or.inr (Or.inl rfl), by rw [hY]; show s < sZ σ1; omega, Fn, F1, hst2, hla, fun x w => Or.inr (Or.inr w), fun x w => Or.inl w, hns, fun w => hFs (c6 s w), fun x w u => hFn x (c6 x u) w⟩, hlb, fun x w => ?_, fun x w => Or.inl (c7 x w), ?_, c9, fun x w u => ?_⟩
        · exact chain_kept la _ _ (by rw [hY, sR_pR, if_neg (fun q => absurd q.1 (by decide)), sR_pR, if_pos ⟨rfl, rfl⟩]) (fun x hx => (sF1 x (m1 x hx).1).1.2.2.2.2.2.2.2.2.2 196) c1
        · rcases w with w | w
          · exact Or.inl (c6 x w)
          · exact Or.inr w
        · rintro (w | w | w)
          · exact c8 w
          · exact hvs w
          · exact hFn v h3 w
        · rcases w with w | w | w
          · exact c10 x w u
          · rw [w] at u; exact hFs (c7 s u)
          · exact hFn x (c7 x u) w
      · have FA : FR (fun x => F x ∨ x = s) σ1 (pR σ1 196 s (sR σ1 161 v)) := FR.at1 (at_pR σ1 196 s _) (Or.inr rfl)
        have FB : FR (fun x => F x ∨ x = s) (pR σ1 196 s (sR σ1 161 v)) (pR (pR σ1 196 s (sR σ1 161 v)) 161 v (some s)) := FR.at1 (at_pR _ 161 v _) (Or.inl g2.2.2.1)
        have F0 : FR (fun x => F x ∨ x = s) σ σ1 := ⟨g3.1, fun x l => ⟨(g3.2 x l).1, fun w => (g3.2 x l).2 (fun u => w (Or.inl u))⟩⟩
        exact (F0.tr FA (fun _ _ w => w)).tr FB (fun _ _ w => w)
end Pt
