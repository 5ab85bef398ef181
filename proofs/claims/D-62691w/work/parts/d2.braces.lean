set_option maxRecDepth 100000
/-! ROOM: commas and braces of what toJson writes -/
/-- how many commas -/
def kcb (w : List UInt8) : Nat := w.count 44 + w.count 123
section D2
variable {S : SC} {I : Nat → Nat} {n d f m p e : Nat} {od : Nat → List Nat} {sp : Nat → Nat → Nat → TV d → Option (TV d)}
theorem kc_appb (a b : List UInt8) : kcb (a ++ b) = kcb a + kcb b := by unfold kcb; rw [List.count_append, List.count_append]; omega
theorem kc_consb (x : UInt8) (l : List UInt8) (h : x ≠ 44 ∧ x ≠ 123) : kcb (x :: l) = kcb l := by
  unfold kcb
  rw [List.count_cons_of_ne (by intro q; exact h.1 q), List.count_cons_of_ne (by intro q; exact h.2 q)]
theorem kc_44b (l : List UInt8) : kcb (44 :: l) = kcb l + 1 := by
  unfold kcb
  rw [List.count_cons_self, List.count_cons_of_ne (by decide)]; omega
theorem kc_123b (l : List UInt8) : kcb (123 :: l) = kcb l + 1 := by
  unfold kcb
  rw [List.count_cons_self, List.count_cons_of_ne (by decide)]; omega
theorem kc_leb : ∀ l : List UInt8, kcb l ≤ l.length
  | [] => Nat.le_refl _
  | x :: l => by
    have ih := kc_leb l
    by_cases c : x = 44
    · rw [c, kc_44b, List.length_cons]; omega
    · by_cases c2 : x = 123
      · rw [c2, kc_123b, List.length_cons]; omega
      · rw [kc_consb _ _ ⟨c, c2⟩, List.length_cons]; omega
theorem kc_0b {w : List UInt8} (h : ∀ b ∈ w, b ≠ 44 ∧ b ≠ 123) : kcb w = 0 := by
  unfold kcb
  rw [List.count_eq_zero.mpr (fun q => (h 44 q).1 rfl), List.count_eq_zero.mpr (fun q => (h 123 q).2 rfl)]
theorem safe_44b {b : UInt8} (h : safe b) : b ≠ 44 ∧ b ≠ 123 := by
  obtain ⟨-, -, -, h4⟩ := h
  refine ⟨fun q => ?_, fun q => ?_⟩
  · have : b.toNat = 44 := by rw [q]; rfl
    omega
  · have : b.toNat = 123 := by rw [q]; rfl
    omega
theorem kc_esc_safeb {w : List UInt8} (h : ∀ b ∈ w, safe b) : kcb (escT w) = 0 := by
  rw [escT_safe h, kc_consb _ _ (by decide), kc_appb, kc_0b (fun b hb => safe_44b (h b hb))]
  decide
theorem of_44b {x : Nat} (h : 48 ≤ x) (h2 : x < 58) : UInt8.ofNat x ≠ 44 ∧ UInt8.ofNat x ≠ 123 := by
  refine ⟨fun q => ?_, fun q => ?_⟩
  · have e := congrArg UInt8.toNat q
    rw [tn_of (by omega)] at e
    have : (44 : UInt8).toNat = 44 := rfl
    omega
  · have e := congrArg UInt8.toNat q
    rw [tn_of (by omega)] at e
    have : (123 : UInt8).toNat = 123 := rfl
    omega
theorem decR_db : ∀ (k r : Nat), ∀ b ∈ decR k r, b ≠ 44 ∧ b ≠ 123
  | 0, r, b, hb => by cases hb
  | k + 1, r, b, hb => by
    rw [decR] at hb
    split at hb
    · rw [List.mem_singleton.mp hb]
      exact of_44b (by omega) (by omega)
    · rcases List.mem_append.mp hb with q | q
      · exact decR_db k _ b q
      · rw [List.mem_singleton.mp q]
        exact of_44b (by omega) (by omega)
theorem kc_numTb (x : Int64) (u : Bool) : kcb (numT x u) = 0 := by
  unfold numT dec
  split
  · exact kc_0b (decR_db _ _)
  · rw [kc_consb _ _ (by decide)]; exact kc_0b (decR_db _ _)
theorem s64_44b (k : Nat) (h : k < 64) : s64 k ≠ 44 ∧ s64 k ≠ 123 := by
  have F : ∀ k, k < 64 → s64 k ≠ 44 ∧ s64 k ≠ 123 := by decide +kernel
  exact F k h
theorem kc_grpb {n a b c : Nat} (ha : a < 256) (hb : b < 256) (hc : c < 256) : kcb (grp n a b c) = 0 := by
  refine kc_0b (fun x hx => ?_)
  unfold grp at hx
  simp only [List.mem_cons, List.not_mem_nil, or_false] at hx
  rcases hx with q | q | q | q
  · rw [q]; exact s64_44b _ (by omega)
  · rw [q]; exact s64_44b _ (by omega)
  · rw [q]
    split
    · decide
    · exact s64_44b _ (by omega)
  · rw [q]
    split
    · decide
    · exact s64_44b _ (by omega)
theorem kc_b64b : ∀ w : List UInt8, kcb (b64 w) = 0
  | [] => rfl
  | [a] => kc_grpb a.toNat_lt (by decide) (by decide)
  | [a, b] => kc_grpb a.toNat_lt b.toNat_lt (by decide)
  | a :: b :: c :: r => by
    rw [b64, kc_appb, kc_grpb a.toNat_lt b.toNat_lt c.toNat_lt, kc_b64b r]
theorem kc_hxb (k : Nat) (h : k < 16) : hxB k ≠ 44 ∧ hxB k ≠ 123 := by
  have F : ∀ k, k < 16 → hxB k ≠ 44 ∧ hxB k ≠ 123 := by decide +kernel
  exact F k h
theorem kc_escBb (b : UInt8) : kcb (escB b) ≤ 1 := by
  unfold escB
  have hb : b.toNat < 256 := b.toNat_lt
  split
  · rename_i q
    have : b ≠ 44 ∧ b ≠ 123 := ⟨fun w => by
      have : b.toNat = 44 := by rw [w]; rfl
      omega, fun w => by
      have : b.toNat = 123 := by rw [w]; rfl
      omega⟩
    rw [kc_consb _ _ (by decide), kc_consb _ _ this]
    exact Nat.zero_le _
  · split
    · exact kc_leb [b]
    · split
      · decide
      · split
        · decide
        · split
          · decide
          · split
            · decide
            · split
              · decide
              · rw [kc_consb _ _ (by decide), kc_consb _ _ (by decide), kc_consb _ _ (by decide), kc_consb _ _ (by decide), kc_consb _ _ (kc_hxb _ (by omega)), kc_consb _ _ (kc_hxb _ (by omega))]
                exact Nat.zero_le _
theorem kc_escTb (w : List UInt8) : kcb (escT w) ≤ w.length := by
  unfold escT
  rw [kc_consb _ _ (by decide), kc_appb]
  have h : ∀ w : List UInt8, kcb (w.flatMap escB) ≤ w.length := fun w => by
    induction w with
    | nil => exact Nat.le_refl _
    | cons b w ih =>
      rw [List.flatMap_cons, kc_appb, List.length_cons]
      have := kc_escBb b
      omega
  have := h w
  have e : kcb [34] = 0 := by decide
  omega
theorem kc_nmb (hN : SN S) (hf : f < nF_ S) : kcb (escT (jsn (qw S f))) = 0 := kc_esc_safeb (jsL_safe (qw S f) false (hN.1 f hf))
theorem kc_nvTb (hN : SN S) (x : Int64) : kcb (nvT S f x) = 0 := by
  have s34 : kcb (sxB 3) = 0 ∧ kcb (sxB 4) = 0 := by decide +kernel
  unfold nvT
  split
  · split
    · exact s34.2
    · exact s34.1
  · split
    · have hv := vno_ok S (qk S f - 32) x
      cases e : vno S (qk S f - 32) x with
      | some v =>
        rw [e] at hv
        exact kc_esc_safeb (hN.2.1 v hv.1)
      | none => exact kc_numTb x false
    · split
      · rw [kc_consb _ _ (by decide), kc_appb, kc_numTb]; decide
      · exact kc_numTb x false
theorem kc_plb (hS : SW S) (hN : SN S) {J : Nat → TV d → List UInt8} {s : SV d} (hf : s.1 < nF_ S) (hpl : plain S s.1) : kcb (slT S J s) = 0 := by
  have q := (plain_m hS hf).mp hpl
  unfold slT
  rw [if_neg q.2, if_neg (fun u => q.1 (Or.inl u)), if_neg (fun u => q.1 (Or.inr u))]
  exact kc_nvTb hN _
theorem kc_txb (hS : SW S) {J : Nat → TV d → List UInt8} {s : SV d} (hf : s.1 < nF_ S) (hpl : ¬ plain S s.1) (hM : ¬ isM S s.1) : kcb (slT S J s) ≤ s.2.2.1.length := by
  have hk : qk S s.1 = 9 ∨ qk S s.1 = 10 := by
    by_cases u : qk S s.1 = 9 ∨ qk S s.1 = 10
    · exact u
    · exact absurd ((plain_m hS hf).mpr ⟨u, hM⟩) hpl
  unfold slT
  rw [if_neg hM]
  split
  · exact kc_escTb s.2.2.1
  · rw [if_pos (by omega)]
    unfold b64T
    rw [kc_consb _ _ (by decide), kc_appb, kc_b64b]
    exact Nat.zero_le _
/-- commas that a field adds -/
def cKb {d : Nat} (S : SC) (J : Nat → TV d → List UInt8) (T : TV (d + 1)) (f : Nat) : Nat := match mbT2 S J T f with
  | none => 0
  | some t => kcb t + 1
def KLb (S : SC) (od : Nat → List Nat) : (d : Nat) → Nat → TV d → Nat
  | 0, _, _ => 0
  | d + 1, m, T => ((od m).map (cKb S (js S od d) T)).sum
theorem kc_cmtb (l : List (List UInt8)) : kcb (cm true l) = (l.map (fun x => kcb x + 1)).sum := by
  induction l with
  | nil => rfl
  | cons x l ih =>
    show kcb (44 :: (x ++ cm true l)) = _
    rw [kc_44b, kc_appb, ih, List.map_cons, List.sum_cons]; omega
theorem kc_cmfb (l : List (List UInt8)) : kcb (cm false l) = (l.map (fun x => kcb x + 1)).sum - 1 := by
  cases l with
  | nil => rfl
  | cons x l =>
    show kcb ([] ++ (x ++ cm true l)) = _
    rw [List.nil_append, kc_appb, kc_cmtb, List.map_cons, List.sum_cons]
    omega
theorem KL_fmb {J : Nat → TV d → List UInt8} {T : TV (d + 1)} (l : List Nat) : ((l.filterMap (mbT2 S J T)).map (fun x => kcb x + 1)).sum = (l.map (cKb S J T)).sum := by
  induction l with
  | nil => rfl
  | cons f l ih =>
    rw [List.map_cons, List.sum_cons]
    unfold cKb
    cases h : mbT2 S J T f with
    | none => rw [List.filterMap_cons_none h, ih]; show _ = 0 + _; unfold cKb; omega
    | some x => rw [List.filterMap_cons_some h, List.map_cons, List.sum_cons, ih]; rfl
theorem js_kcb (T : TV (d + 1)) : kcb (js S od (d + 1) m T) = KLb S od (d + 1) m T - 1 + 1 := by
  show kcb (123 :: (cm false ((od m).filterMap (mbT2 S (js S od d) T)) ++ [125])) = _
  rw [kc_123b, kc_appb, kc_cmfb, KL_fmb]
  show _ = ((od m).map (cKb S (js S od d) T)).sum - 1 + 1
  have : kcb [125] = 0 := by decide
  omega
theorem cK_1b (hN : SN S) (hf : f < nF_ S) {J : Nat → TV d → List UInt8} {T : TV (d + 1)} (hr : qr S f ≠ 1) : cKb S J T f = match hdS f (t1 T) with | none => 0 | some s => kcb (slT S J s) + 1 := by
  unfold cKb mbT2 fldT
  rw [if_neg hr]
  cases hdS f (t1 T) with
  | none => rfl
  | some s =>
    show kcb (escT (jsn (qw S f)) ++ (58 :: slT S J s)) + 1 = _
    rw [kc_appb, kc_consb _ _ (by decide), kc_nmb hN hf, Nat.zero_add]
theorem cK_2b (hN : SN S) (hf : f < nF_ S) {J : Nat → TV d → List UInt8} {T : TV (d + 1)} (hr : qr S f = 1) : cKb S J T f = (((rws f (t2 T)).map (slT S J)).map (fun x => kcb x + 1)).sum := by
  by_cases c0 : rws f (t2 T) = []
  · have e : mbT2 S J T f = none := by unfold mbT2 fldT; rw [if_pos hr, if_pos c0]; rfl
    unfold cKb
    rw [e, c0]; rfl
  · have e : mbT2 S J T f = some (escT (jsn (qw S f)) ++ (58 :: (91 :: (cm false ((rws f (t2 T)).map (slT S J)) ++ [93])))) := by unfold mbT2 fldT; rw [if_pos hr, if_neg c0]; rfl
    unfold cKb
    rw [e]
    show kcb (escT (jsn (qw S f)) ++ (58 :: (91 :: (cm false ((rws f (t2 T)).map (slT S J)) ++ [93])))) + 1 = _
    rw [kc_appb, kc_consb _ _ (by decide), kc_consb _ _ (by decide), kc_appb, kc_cmfb, kc_nmb hN hf]
    have h93 : kcb [93] = 0 := by decide
    have : 1 ≤ (((rws f (t2 T)).map (slT S J)).map (fun x => kcb x + 1)).sum := by
      cases h : rws f (t2 T) with
      | nil => exact absurd h c0
      | cons x l => rw [List.map_cons, List.map_cons, List.sum_cons]; omega
    omega
def LKb {d : Nat} (S : SC) (od : Nat → List Nat) (sp : Nat → Nat → Nat → TV d → Option (TV d)) : Prop := ∀ m p e T T', m < S.1 → p ≤ e → sp m p e T = some T' → kcb (js S od d m T') ≤ kcb (js S od d m T) + (e - p)
theorem kc_empb (d m : Nat) : kcb (js S od d m (emp d)) ≤ 1 := by
  cases d with
  | zero => exact Nat.zero_le _
  | succ d =>
    have h := js_len (S := S) (od := od) (m := m) (emp (d + 1))
    rw [JL_emp] at h
    have e : js S od (d + 1) m (emp (d + 1)) = 123 :: (cm false ((od m).filterMap (mbT2 S (js S od d) (emp (d + 1)))) ++ [125]) := rfl
    rw [e] at h ⊢
    rw [List.length_cons, List.length_append, List.length_singleton] at h
    have h0 : cm false ((od m).filterMap (mbT2 S (js S od d) (emp (d + 1)))) = [] := List.eq_nil_of_length_eq_zero (by omega)
    rw [h0]; decide
theorem cK_growb (hN : SN S) {J : Nat → TV d → List UInt8} {T T1 : TV (d + 1)} (hf : f < nF_ S) (hr : qr S f = 1) {ss : List (SV d)} {k : Nat} (h : rws f (t2 T1) = rws f (t2 T) ++ ss) (h1 : ((ss.map (slT S J)).map (fun x => kcb x + 1)).sum ≤ k) : cKb S J T1 f ≤ cKb S J T f + k := by
  rw [cK_2b hN hf hr, cK_2b hN hf hr, h, List.map_append, List.map_append, List.sum_append]
  omega
end D2
