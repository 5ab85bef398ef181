set_option maxRecDepth 100000
/-! JSON OF THE WIRE: the text is not much longer than the bytes -/
section Jo
variable {S : SC} {I : Nat → Nat} {n d f m p e : Nat} {od : Nat → List Nat} {sp : Nat → Nat → Nat → TV d → Option (TV d)}
def LB {d : Nat} (S : SC) (od : Nat → List Nat) (sp : Nat → Nat → Nat → TV d → Option (TV d)) : Prop := ∀ m p e T T', m < S.1 → p ≤ e → sp m p e T = some T' → (js S od d m T').length ≤ (js S od d m T).length + 28 * (e - p)
theorem js_emp2 (d m : Nat) : (js S od d m (emp d)).length ≤ 2 := by
  cases d with
  | zero => exact Nat.zero_le _
  | succ d => rw [js_len, JL_emp]; omega
theorem hdS_f {l : List (SV d)} {s : SV d} (h : hdS f l = some s) : s.1 = f := by
  unfold hdS at h
  cases e : drp f l with
  | nil => rw [e] at h; cases h
  | cons t l' =>
    rw [e] at h
    cases h
    exact (drp_head l _ l' e).1
theorem cJ_grow (hS : SW S) (hN : SN S) {J : Nat → TV d → List UInt8} {T T1 : TV (d + 1)} (hf : f < nF_ S) (hr : qr S f = 1) {ss : List (SV d)} {k : Nat} (h : rws f (t2 T1) = rws f (t2 T) ++ ss) (h1 : ((ss.map (slT S J)).map (fun x => x.length + 1)).sum ≤ k) (h2 : ss ≠ [] → k + 29 ≤ 28 * (e - p)) (h3 : k ≤ 28 * (e - p)) : cJ S J T1 f ≤ cJ S J T f + 28 * (e - p) := by
  have hl := nm_len hS hN hf
  rw [cJ_2 hr, cJ_2 hr, h]
  by_cases c : rws f (t2 T) = []
  · rw [if_pos c, c, List.nil_append]
    by_cases cs : ss = []
    · rw [if_pos cs]; omega
    · rw [if_neg cs]
      have := h2 cs
      omega
  · rw [if_neg (show ¬ rws f (t2 T) ++ ss = [] from fun q => c (List.append_eq_nil_iff.mp q).1), if_neg c, List.map_append, List.map_append, List.sum_append]
    omega
theorem sum_c {α : Type} (l : List α) (F : α → Nat) (k : Nat) (h : ∀ x ∈ l, F x ≤ k) : (l.map F).sum ≤ k * l.length := by
  induction l with
  | nil => simp
  | cons x l ih =>
    rw [List.map_cons, List.sum_cons, List.length_cons, Nat.mul_add]
    have := ih (fun y hy => h y (List.mem_cons_of_mem _ hy))
    have := h x List.mem_cons_self
    omega
theorem pkN_len {c q : Nat} {xs : List Int64} (h : pkN S I f e c q = some xs) (hq : q ≤ e) : xs.length ≤ e - q := by
  have := pkL_N (S := S) (I := I) (f := f) (e := e) c q []
  rw [h] at this
  have := pkL_len _ _ _ _ this
  simp only [List.length_nil, List.nil_append] at this
  omega
theorem st_cJ (hS : SW S) (hN : SN S) (hB : LB S od sp) {r : Nat × Nat × Nat × Nat} {T T1 : TV (d + 1)} {g : Nat} (ev : fldS I e p = some r) (hg : rgt S m r.1 r.2.1 = some g) (h : stR1 S I sp m r T = some T1) : cJ S (js S od d) T1 g ≤ cJ S (js S od d) T g + 28 * (r.2.2.2 - p) := by
  obtain ⟨hgn, hgm, hkd⟩ := rgt_in hg
  obtain ⟨fb1, fb2, fb3, -⟩ := fldS_bd ev
  have hsk := (hS.2.2.2.2.1 g hgn).2.2.2.1
  have hM10 := hS.2.2.1
  have hE6 := hS.2.2.2.1
  have r01 := (hS.2.2.2.2.1 g hgn).2.2.2.2.2.2.1
  have hl := nm_len hS hN hgn
  have hpm := plain_m hS hgn
  by_cases hr : qr S g = 1
  · obtain ⟨-, h2⟩ := st_rows (f := g) hS ev hg h
    obtain ⟨hp, hnp⟩ := h2 rfl hr
    by_cases hpl : plain S g
    · obtain ⟨xs, px, ex⟩ := hp hpl
      have hx := pkN_len px fb2
      refine cJ_grow hS hN hgn hr ex (k := 27 * xs.length) ?_ (fun hne => ?_) (by omega)
      · rw [List.map_map, List.map_map]
        refine sum_c xs _ 27 (fun x _ => ?_)
        have := slT_pl (J := js S od d) (s := ((g, mnt S g x, [], emp d) : SV d)) hS hN hgn hpl
        show (slT S (js S od d) ((g, mnt S g x, [], emp d) : SV d)).length + 1 ≤ 27
        omega
      · have : xs ≠ [] := fun q => hne (by rw [q]; rfl)
        have : 1 ≤ xs.length := by
          cases xs with
          | nil => exact absurd rfl this
          | cons x l => rw [List.length_cons]; omega
        omega
    · obtain ⟨s, hs, ex⟩ := hnp hpl
      have k2 : r.2.1 = 2 := by
        rcases hkd with q | q
        · have := (wrK_plain hS hgn).mpr hpl; omega
        · exact q.2.2
      have f2 := fldS_2 ev k2
      have hsl : (slT S (js S od d) s).length ≤ 4 + 28 * (r.2.2.2 - r.2.2.1) := by
        by_cases cM : isM S g
        · rw [if_pos cM] at hs
          obtain ⟨T2, es, em⟩ := hs
          have := hB _ _ _ _ _ (by omega) fb2 em
          have := js_emp2 (S := S) (od := od) d (qk S g - 16)
          have e1 : slT S (js S od d) s = js S od d (qk S g - 16) T2 := by rw [es]; unfold slT; rw [if_pos cM]
          rw [e1]; omega
        · rw [if_neg cM] at hs
          have := slT_tx (J := js S od d) (s := s) hS (by rw [hs]; exact hgn) (by rw [hs]; exact hpl) (by rw [hs]; exact cM)
          have e2 : s.2.2.1 = cut I r.2.2.1 r.2.2.2 := by rw [hs]
          rw [e2, cut_len] at this
          omega
      refine cJ_grow hS hN hgn hr ex (k := 5 + 28 * (r.2.2.2 - r.2.2.1)) ?_ (fun _ => by omega) (by omega)
      show (slT S (js S od d) s).length + 1 + 0 ≤ _
      omega
  · rw [cJ_1 hr, cJ_1 hr]
    have one : ∀ s : SV d, s.1 = g → T1 = put S T s → (slT S (js S od d) s).length ≤ 28 * (r.2.2.2 - p) - 28 → 28 ≤ 28 * (r.2.2.2 - p) → (match hdS g (t1 T1) with | none => 0 | some s => (escT (jsn (qw S g))).length + 2 + (slT S (js S od d) s).length) ≤ (match hdS g (t1 T) with | none => 0 | some s => (escT (jsn (qw S g))).length + 2 + (slT S (js S od d) s).length) + 28 * (r.2.2.2 - p) := fun s hs hT hle h28 => by
      have := (put_hd (S := S) (f := g) (T := T) (s := s) (by rw [hs]; exact hr)).2
      have this' : hdS g (t1 (put S T s)) = if dps S s then none else some s := hs ▸ this
      rw [hT, this']
      by_cases c : dps S s
      · rw [if_pos c]; exact Nat.zero_le _
      · rw [if_neg c]
        show (escT (jsn (qw S g))).length + 2 + (slT S (js S od d) s).length ≤ _
        omega
    unfold stR1 at h
    rw [hg] at h
    change (if plain S g then _ else _) = some T1 at h
    by_cases hpl : plain S g
    · rw [if_pos hpl] at h
      have k2 : r.2.1 ≠ 2 := fun q => by
        rcases hkd with w | w
        · exact absurd hpl ((wrK_plain hS hgn).mp (by omega))
        · exact hr w.1
      rw [if_neg k2] at h
      cases ep : nmS S I g r.2.2.2 r.2.2.1 with
      | none => rw [ep] at h; cases h
      | some y =>
        rw [ep] at h
        cases h
        have nb := nmS_bd ep
        have := slT_pl (J := js S od d) (s := ((g, mnt S g y.2, [], emp d) : SV d)) hS hN hgn hpl
        exact one (g, mnt S g y.2, [], emp d) rfl rfl (by omega) (by omega)
    · rw [if_neg hpl] at h
      have k2 : r.2.1 = 2 := by
        rcases hkd with q | q
        · have := (wrK_plain hS hgn).mpr hpl; omega
        · exact q.2.2
      have f2 := fldS_2 ev k2
      by_cases cM : isM S g
      · rw [if_pos cM, if_neg hr] at h
        cases es : sp (qk S g - 16) r.2.2.1 r.2.2.2 (subT g T) with
        | none => rw [es] at h; cases h
        | some T2 =>
          rw [es] at h
          cases h
          have hb := hB _ _ _ _ _ (by omega) fb2 es
          have e1 : slT S (js S od d) ((g, 0, [], T2) : SV d) = js S od d (qk S g - 16) T2 := by unfold slT; rw [if_pos cM]
          unfold subT at hb
          cases eh : hdS g (t1 T) with
          | none =>
            rw [eh] at hb
            have hb' : (js S od d (qk S g - 16) T2).length ≤ (js S od d (qk S g - 16) (emp d)).length + 28 * (r.2.2.2 - r.2.2.1) := hb
            have := js_emp2 (S := S) (od := od) d (qk S g - 16)
            have := one (g, 0, [], T2) rfl rfl (by rw [e1]; omega) (by omega)
            rw [eh] at this
            exact this
          | some s0 =>
            rw [eh] at hb
            have hb' : (js S od d (qk S g - 16) T2).length ≤ (js S od d (qk S g - 16) s0.2.2.2).length + 28 * (r.2.2.2 - r.2.2.1) := hb
            have h0 := hdS_f eh
            have e0 : slT S (js S od d) s0 = js S od d (qk S g - 16) s0.2.2.2 := by unfold slT; rw [h0, if_pos cM]
            have := (put_hd (S := S) (f := g) (T := T) (s := ((g, 0, [], T2) : SV d)) hr).2
            have hp : hdS g (t1 (put S T ((g, 0, [], T2) : SV d))) = if dps S ((g, 0, [], T2) : SV d) then none else some (g, 0, [], T2) := this
            rw [hp, if_neg (show ¬ dps S ((g, 0, [], T2) : SV d) from fun w => w.1.1 cM)]
            show (escT (jsn (qw S g))).length + 2 + (slT S (js S od d) ((g, 0, [], T2) : SV d)).length ≤ (escT (jsn (qw S g))).length + 2 + (slT S (js S od d) s0).length + 28 * (r.2.2.2 - p)
            rw [e1, e0]
            omega
      · rw [if_neg cM] at h
        split at h
        · cases h
        · cases h
          have := slT_tx (J := js S od d) (s := ((g, 0, cut I r.2.2.1 r.2.2.2, emp d) : SV d)) hS hgn hpl cM
          have e2 : ((g, 0, cut I r.2.2.1 r.2.2.2, emp d) : SV d).2.2.1.length = r.2.2.2 - r.2.2.1 := cut_len _ _ _
          rw [e2] at this
          exact one (g, 0, cut I r.2.2.1 r.2.2.2, emp d) rfl rfl (by omega) (by omega)
theorem st_JL (hS : SW S) (hN : SN S) (hO : OD S od) (hm : m < S.1) (hB : LB S od sp) {r : Nat × Nat × Nat × Nat} {T T1 : TV (d + 1)} (ev : fldS I e p = some r) (h : stR1 S I sp m r T = some T1) : JL S od (d + 1) m T1 ≤ JL S od (d + 1) m T + 28 * (r.2.2.2 - p) := by
  cases er : rgt S m r.1 r.2.1 with
  | none =>
    unfold stR1 at h
    rw [er] at h
    cases h
    omega
  | some g =>
    have o3 := (hO m hm).2.1
    have nd : (od m).Nodup := (o3.imp (fun {a b} w q => by rw [q] at w; exact Nat.lt_irrefl _ w))
    refine sum_le1 (a := g) (fun f hf hfg => ?_) (st_cJ hS hN hB ev er h) nd
    have e1 := st_other hS er hfg h
    have e2 := (st_rows (f := f) hS ev er h).1 (fun q => hfg q.symm)
    by_cases hr : qr S f = 1
    · rw [cJ_2 hr, cJ_2 hr, e2]; exact Nat.le_refl _
    · rw [cJ_1 hr, cJ_1 hr, e1]
      by_cases c : goes S g f
      · rw [if_pos c]; exact Nat.zero_le _
      · rw [if_neg c]; exact Nat.le_refl _
theorem msgL_JL (hS : SW S) (hN : SN S) (hO : OD S od) (hm : m < S.1) (hB : LB S od sp) : ∀ (c p : Nat) (T T' : TV (d + 1)), p ≤ e → msgL S I sp m e c p T = some T' → JL S od (d + 1) m T' ≤ JL S od (d + 1) m T + 28 * (e - p)
  | 0, p, T, T', _, h => by cases h
  | c + 1, p, T, T', hp, h => by
    rw [msgL] at h
    split at h
    · cases h; omega
    · cases ev : fldS I e p with
      | none => rw [ev] at h; cases h
      | some r =>
        rw [ev] at h
        change ((stR1 S I sp m r T).bind _) = _ at h
        obtain ⟨b1, b2, b3, -⟩ := fldS_bd ev
        cases es : stR1 S I sp m r T with
        | none => rw [es] at h; cases h
        | some T1 =>
          rw [es] at h
          have w1 := st_JL hS hN hO hm hB ev es
          have w2 := msgL_JL hS hN hO hm hB c _ _ _ b3 h
          omega
theorem msgS_LB (hS : SW S) (hN : SN S) (hO : OD S od) : ∀ d, LB S od (msgS S I d)
  | 0 => fun m p e T T' _ _ h => by cases h
  | d + 1 => fun m p e T T' hm hp h => by
    have := msgL_JL hS hN hO hm (msgS_LB hS hN hO d) _ _ _ _ hp h
    rw [js_len, js_len]
    omega
/-- a message's text from its bytes -/
def toJ (S : SC) (od : Nat → List Nat) (I : Nat → Nat) (n m : Nat) : Option (List UInt8) := (msgS S I 8 m 0 n (emp 8)).map (js S od 8 m)
theorem toJ_len (hS : SW S) (hN : SN S) (hO : OD S od) (hm : m < S.1) {w : List UInt8} (h : toJ S od I n m = some w) : w.length ≤ 28 * n + 2 := by
  unfold toJ at h
  cases e : msgS S I 8 m 0 n (emp 8) with
  | none => rw [e] at h; cases h
  | some T =>
    rw [e] at h
    cases h
    have := msgS_LB hS hN hO 8 m 0 n _ _ hm (Nat.zero_le _) e
    have := js_emp2 (S := S) (od := od) 8 m
    omega
end Jo
