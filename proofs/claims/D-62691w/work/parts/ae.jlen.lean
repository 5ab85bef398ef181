set_option maxRecDepth 100000
/-! JSON OF THE WIRE: texts in trees are short; the text is not much longer than the bytes -/
section Jn
variable {S : SC} {I : Nat → Nat} {n d f m : Nat} {od : Nat → List Nat}
theorem TS_emp : ∀ d, TS d (emp d)
  | 0 => True.intro
  | _ + 1 => ⟨fun s hs => (by cases hs), fun s hs => (by cases hs)⟩
theorem TS.pt {T : TV (d + 1)} {s : SV d} (h : TS (d + 1) T) (h1 : s.2.2.1.length ≤ 1000) (h2 : TS d s.2.2.2) : TS (d + 1) (put S T s) := by
  have fm : ∀ x ∈ (t1 T).filter (fun t => !decide (goes S s.1 t.1)), x.2.2.1.length ≤ 1000 ∧ TS d x.2.2.2 := fun x hx => h.1 x (List.mem_filter.mp hx).1
  unfold put
  split
  · refine ⟨h.1, fun x hx => ?_⟩
    rcases List.mem_append.mp hx with w | w
    · exact h.2 x w
    · rw [List.mem_singleton.mp w]; exact ⟨h1, h2⟩
  · split
    · exact ⟨fm, h.2⟩
    · refine ⟨fun x hx => ?_, h.2⟩
      rcases List.mem_cons.mp hx with w | w
      · rw [w]; exact ⟨h1, h2⟩
      · exact fm x w
theorem TS.nus {f : Nat} : ∀ (xs : List Int64) (T : TV (d + 1)), TS (d + 1) T → TS (d + 1) (xs.foldl (nuT S f) T)
  | [], T, h => h
  | x :: xs, T, h => by
    rw [List.foldl_cons]
    exact TS.nus xs _ (h.pt (Nat.zero_le _) (TS_emp d))
theorem subT_TS {f : Nat} {T : TV (d + 1)} (h : TS (d + 1) T) : TS d (subT f T) := by
  unfold subT
  cases e : hdS f (t1 T) with
  | none => exact TS_emp d
  | some s =>
    refine (h.1 s ?_).2
    unfold hdS at e
    exact drp_mem _ _ (List.mem_of_mem_head? e)
def RS2 {d : Nat} (rec : Nat → Nat → Nat → TV d → Option (TV d)) : Prop := ∀ m p e T T', e ≤ 1000 → rec m p e T = some T' → TS d T → TS d T'
theorem stR1_TS {sp : Nat → Nat → Nat → TV d → Option (TV d)} (hR : RS2 sp) {m : Nat} {r : Nat × Nat × Nat × Nat} {T T' : TV (d + 1)} (h1 : r.2.2.2 ≤ 1000) (hT : TS (d + 1) T) (h : stR1 S I sp m r T = some T') : TS (d + 1) T' := by
  unfold stR1 at h
  cases er : rgt S m r.1 r.2.1 with
  | none => rw [er] at h; cases h; exact hT
  | some f =>
    rw [er] at h
    change (if plain S f then _ else _) = some T' at h
    split at h
    · split at h
      · cases ep : pkS S I f r.2.2.1 r.2.2.2 with
        | none => rw [ep] at h; cases h
        | some xs => rw [ep] at h; cases h; exact TS.nus xs T hT
      · cases ep : nmS S I f r.2.2.2 r.2.2.1 with
        | none => rw [ep] at h; cases h
        | some y => rw [ep] at h; cases h; exact hT.pt (Nat.zero_le _) (TS_emp d)
    · split at h
      · cases es : sp (qk S f - 16) r.2.2.1 r.2.2.2 (if qr S f = 1 then emp d else subT f T) with
        | none => rw [es] at h; cases h
        | some T1 =>
          rw [es] at h
          cases h
          refine hT.pt (Nat.zero_le _) (hR _ _ _ _ _ h1 es ?_)
          split
          · exact TS_emp d
          · exact subT_TS hT
      · split at h
        · cases h
        · cases h
          refine hT.pt ?_ (TS_emp d)
          show (cut I r.2.2.1 r.2.2.2).length ≤ 1000
          rw [cut_len]; omega
theorem msgL_TS {sp : Nat → Nat → Nat → TV d → Option (TV d)} (hR : RS2 sp) {m e : Nat} (he : e ≤ 1000) : ∀ (c p : Nat) (T T' : TV (d + 1)), msgL S I sp m e c p T = some T' → TS (d + 1) T → TS (d + 1) T'
  | 0, p, T, T', h, _ => by cases h
  | c + 1, p, T, T', h, hT => by
    rw [msgL] at h
    split at h
    · cases h; exact hT
    · cases ev : fldS I e p with
      | none => rw [ev] at h; cases h
      | some r =>
        rw [ev] at h
        change ((stR1 S I sp m r T).bind _) = _ at h
        obtain ⟨b1, b2, b3, -⟩ := fldS_bd ev
        cases es : stR1 S I sp m r T with
        | none => rw [es] at h; cases h
        | some T1 =>
          rw [es] at h
          exact msgL_TS hR he c _ _ _ h (stR1_TS hR (by omega) hT es)
theorem msgS_TS : ∀ d, RS2 (msgS S I d)
  | 0 => fun m p e T T' _ h _ => by cases h
  | d + 1 => fun m p e T T' he h hT => msgL_TS (msgS_TS d) he _ _ _ _ h hT
/-- what a field adds to the text -/
def cJ {d : Nat} (S : SC) (J : Nat → TV d → List UInt8) (T : TV (d + 1)) (f : Nat) : Nat := match mbT2 S J T f with
  | none => 0
  | some t => t.length + 1
def JL (S : SC) (od : Nat → List Nat) : (d : Nat) → Nat → TV d → Nat
  | 0, _, _ => 0
  | d + 1, m, T => ((od m).map (cJ S (js S od d) T)).sum
theorem cm_t (l : List (List UInt8)) : (cm true l).length = (l.map (fun x => x.length + 1)).sum := by
  induction l with
  | nil => rfl
  | cons x l ih =>
    show ([44] ++ (x ++ cm true l)).length = _
    rw [List.length_append, List.length_append, ih, List.map_cons, List.sum_cons]
    simp only [List.length_cons, List.length_nil]; omega
theorem cm_f (l : List (List UInt8)) : (cm false l).length = (l.map (fun x => x.length + 1)).sum - 1 := by
  cases l with
  | nil => rfl
  | cons x l =>
    show ([] ++ (x ++ cm true l)).length = _
    rw [List.nil_append, List.length_append, cm_t, List.map_cons, List.sum_cons]
    omega
theorem JL_fm {J : Nat → TV d → List UInt8} {T : TV (d + 1)} (l : List Nat) : ((l.filterMap (mbT2 S J T)).map (fun x => x.length + 1)).sum = (l.map (cJ S J T)).sum := by
  induction l with
  | nil => rfl
  | cons f l ih =>
    rw [List.map_cons, List.sum_cons]
    unfold cJ
    cases h : mbT2 S J T f with
    | none => rw [List.filterMap_cons_none h, ih]; show _ = 0 + _; unfold cJ; omega
    | some x => rw [List.filterMap_cons_some h, List.map_cons, List.sum_cons, ih]; rfl
theorem js_len (T : TV (d + 1)) : (js S od (d + 1) m T).length = 2 + (JL S od (d + 1) m T - 1) := by
  show (123 :: (cm false ((od m).filterMap (mbT2 S (js S od d) T)) ++ [125])).length = _
  rw [List.length_cons, List.length_append, cm_f, JL_fm]
  show _ = 2 + (((od m).map (cJ S (js S od d) T)).sum - 1)
  simp only [List.length_cons, List.length_nil]; omega
theorem JL_emp : JL S od (d + 1) m (emp (d + 1)) = 0 := by
  show ((od m).map (cJ S (js S od d) (emp (d + 1)))).sum = 0
  have : ∀ l : List Nat, (l.map (cJ S (js S od d) (emp (d + 1)))).sum = 0 := fun l => by
    induction l with
    | nil => rfl
    | cons f l ih =>
      rw [List.map_cons, List.sum_cons, ih]
      have e : mbT2 S (js S od d) (emp (d + 1)) f = none := by
        unfold mbT2 fldT
        have e1 : rws f (t2 (emp (d + 1))) = [] := rfl
        have e2 : hdS f (t1 (emp (d + 1))) = none := rfl
        rw [e1, e2]
        by_cases c : qr S f = 1
        · rw [if_pos c, if_pos rfl]; rfl
        · rw [if_neg c]; rfl
      unfold cJ
      rw [e]
  exact this _
theorem sum_le1 {l : List Nat} {F F' : Nat → Nat} {a k : Nat} (h : ∀ g ∈ l, g ≠ a → F' g ≤ F g) (ha : F' a ≤ F a + k) (hn : l.Nodup) : (l.map F').sum ≤ (l.map F).sum + k := by
  have all : ∀ l : List Nat, (∀ g ∈ l, F' g ≤ F g) → (l.map F').sum ≤ (l.map F).sum := fun l => by
    induction l with
    | nil => exact fun _ => Nat.le_refl _
    | cons b l ih =>
      intro q
      rw [List.map_cons, List.map_cons, List.sum_cons, List.sum_cons]
      have := ih (fun g hg => q g (List.mem_cons_of_mem _ hg))
      have := q b List.mem_cons_self
      omega
  induction l with
  | nil => simp
  | cons b l ih =>
    rw [List.nodup_cons] at hn
    rw [List.map_cons, List.map_cons, List.sum_cons, List.sum_cons]
    by_cases c : b = a
    · have e := all l (fun g hg => h g (List.mem_cons_of_mem _ hg) (fun q => hn.1 (by rw [c, ← q]; exact hg)))
      rw [c]; omega
    · have := h b List.mem_cons_self c
      have := ih (fun g hg => h g (List.mem_cons_of_mem _ hg)) hn.2
      omega
theorem nm_len (hS : SW S) (hN : SN S) (hf : f < nF_ S) : (escT (jsn (qw S f))).length ≤ 26 := by
  have h1 := (hS.2.2.2.2.1 f hf).2.2.2.2.2.2.2.2.1
  have h2 : (jsn (qw S f)).length ≤ (qw S f).length := jsL_len _ _
  have e : escT (jsn (qw S f)) = _ := escT_safe (jsL_safe (qw S f) false (hN.1 f hf))
  rw [e, List.length_cons, List.length_append]
  have h3 : (jsL false (qw S f)).length ≤ (qw S f).length := jsL_len _ _
  simp only [List.length_cons, List.length_nil]; omega
theorem nvT_len (hS : SW S) (hN : SN S) (x : Int64) : (nvT S f x).length ≤ 26 := by
  have s34 : (sxB 3).length ≤ 26 ∧ (sxB 4).length ≤ 26 := by decide +kernel
  unfold nvT
  split
  · split
    · exact s34.2
    · exact s34.1
  · split
    · have hv := vno_ok S (qk S f - 32) x
      cases e : vno S (qk S f - 32) x with
      | some v =>
        rw [e] at hv
        have := (hS.2.2.2.2.2.2.2.1 v hv.1).2.1
        show (escT (vw_ S v)).length ≤ 26
        rw [escT_safe (hN.2.1 v hv.1), List.length_cons, List.length_append]
        simp only [List.length_cons, List.length_nil]; omega
      | none => have := numT_len x false; show (numT x false).length ≤ 26; omega
    · split
      · have := numT_len x (decide (qk S f = 3 ∨ qk S f = 7))
        rw [List.length_cons, List.length_append]
        simp only [List.length_cons, List.length_nil]; omega
      · have := numT_len x false; omega
theorem slT_pl (hS : SW S) (hN : SN S) {J : Nat → TV d → List UInt8} {s : SV d} (hf : s.1 < nF_ S) (hpl : plain S s.1) : (slT S J s).length ≤ 26 := by
  have q := (plain_m hS hf).mp hpl
  unfold slT
  rw [if_neg q.2, if_neg (fun u => q.1 (Or.inl u)), if_neg (fun u => q.1 (Or.inr u))]
  exact nvT_len hS hN _
theorem slT_tx (hS : SW S) {J : Nat → TV d → List UInt8} {s : SV d} (hf : s.1 < nF_ S) (hpl : ¬ plain S s.1) (hM : ¬ isM S s.1) : (slT S J s).length ≤ 6 * s.2.2.1.length + 4 := by
  have hk : qk S s.1 = 9 ∨ qk S s.1 = 10 := by
    by_cases u : qk S s.1 = 9 ∨ qk S s.1 = 10
    · exact u
    · exact absurd ((plain_m hS hf).mpr ⟨u, hM⟩) hpl
  unfold slT
  rw [if_neg hM]
  split
  · have := escT_len s.2.2.1; omega
  · rw [if_pos (by omega)]
    have := b64_len _ s.2.2.1 (Nat.le_refl _)
    unfold b64T
    rw [List.length_cons, List.length_append]
    simp only [List.length_cons, List.length_nil]; omega
theorem cJ_1 {J : Nat → TV d → List UInt8} {T : TV (d + 1)} (hr : qr S f ≠ 1) : cJ S J T f = match hdS f (t1 T) with | none => 0 | some s => (escT (jsn (qw S f))).length + 2 + (slT S J s).length := by
  unfold cJ mbT2 fldT
  rw [if_neg hr]
  cases hdS f (t1 T) with
  | none => rfl
  | some s =>
    show (escT (jsn (qw S f)) ++ (58 :: slT S J s)).length + 1 = _
    rw [List.length_append, List.length_cons]; show _ = (escT (jsn (qw S f))).length + 2 + (slT S J s).length; omega
theorem cJ_2 {J : Nat → TV d → List UInt8} {T : TV (d + 1)} (hr : qr S f = 1) : cJ S J T f = if rws f (t2 T) = [] then 0 else (escT (jsn (qw S f))).length + 3 + (((rws f (t2 T)).map (slT S J)).map (fun x => x.length + 1)).sum := by
  by_cases c0 : rws f (t2 T) = []
  · have e : mbT2 S J T f = none := by unfold mbT2 fldT; rw [if_pos hr, if_pos c0]; rfl
    unfold cJ
    rw [e, if_pos c0]
  · have e : mbT2 S J T f = some (escT (jsn (qw S f)) ++ (58 :: (91 :: (cm false ((rws f (t2 T)).map (slT S J)) ++ [93])))) := by unfold mbT2 fldT; rw [if_pos hr, if_neg c0]; rfl
    unfold cJ
    rw [e, if_neg c0]
    show (escT (jsn (qw S f)) ++ (58 :: (91 :: (cm false ((rws f (t2 T)).map (slT S J)) ++ [93])))).length + 1 = _
    rw [List.length_append, List.length_cons, List.length_cons, List.length_append, cm_f]
    have : 1 ≤ (((rws f (t2 T)).map (slT S J)).map (fun x => x.length + 1)).sum := by
      cases h : rws f (t2 T) with
      | nil => exact absurd h c0
      | cons x l => rw [List.map_cons, List.map_cons, List.sum_cons]; omega
    simp only [List.length_cons, List.length_nil]; omega
end Jn
