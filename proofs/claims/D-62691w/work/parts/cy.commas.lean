set_option maxRecDepth 100000
/-! ROOM: commas of what toJson writes -/
/-- how many commas -/
def kc (w : List UInt8) : Nat := w.count 44
section Cy
variable {S : SC} {I : Nat → Nat} {n d f m p e : Nat} {od : Nat → List Nat} {sp : Nat → Nat → Nat → TV d → Option (TV d)}
theorem kc_app (a b : List UInt8) : kc (a ++ b) = kc a + kc b := List.count_append ..
theorem kc_cons (x : UInt8) (l : List UInt8) (h : x ≠ 44) : kc (x :: l) = kc l := by
  unfold kc
  rw [List.count_cons_of_ne (by intro q; exact h q)]
theorem kc_44 (l : List UInt8) : kc (44 :: l) = kc l + 1 := by
  unfold kc
  rw [List.count_cons_self]
theorem kc_le (l : List UInt8) : kc l ≤ l.length := List.count_le_length ..
theorem kc_0 {w : List UInt8} (h : ∀ b ∈ w, b ≠ 44) : kc w = 0 := by
  unfold kc
  exact List.count_eq_zero.mpr (fun q => h 44 q rfl)
theorem safe_44 {b : UInt8} (h : safe b) : b ≠ 44 := fun q => by
  have : b.toNat = 44 := by rw [q]; rfl
  obtain ⟨-, -, -, h4⟩ := h
  omega
theorem kc_esc_safe {w : List UInt8} (h : ∀ b ∈ w, safe b) : kc (escT w) = 0 := by
  rw [escT_safe h, kc_cons _ _ (by decide), kc_app, kc_0 (fun b hb => safe_44 (h b hb))]
  decide
theorem of_44 {x : Nat} (h : 48 ≤ x) (h2 : x < 256) : UInt8.ofNat x ≠ 44 := fun q => by
  have e := congrArg UInt8.toNat q
  rw [tn_of h2] at e
  have : (44 : UInt8).toNat = 44 := rfl
  omega
theorem decR_d : ∀ (k r : Nat), ∀ b ∈ decR k r, b ≠ 44
  | 0, r, b, hb => by cases hb
  | k + 1, r, b, hb => by
    rw [decR] at hb
    split at hb
    · rw [List.mem_singleton.mp hb]
      exact of_44 (by omega) (by omega)
    · rcases List.mem_append.mp hb with q | q
      · exact decR_d k _ b q
      · rw [List.mem_singleton.mp q]
        exact of_44 (by omega) (by omega)
theorem kc_numT (x : Int64) (u : Bool) : kc (numT x u) = 0 := by
  unfold numT dec
  split
  · exact kc_0 (decR_d _ _)
  · rw [kc_cons _ _ (by decide)]; exact kc_0 (decR_d _ _)
theorem s64_44 (k : Nat) (h : k < 64) : s64 k ≠ 44 := by
  have F : ∀ k, k < 64 → s64 k ≠ 44 := by decide +kernel
  exact F k h
theorem kc_grp {n a b c : Nat} (ha : a < 256) (hb : b < 256) (hc : c < 256) : kc (grp n a b c) = 0 := by
  refine kc_0 (fun x hx => ?_)
  unfold grp at hx
  simp only [List.mem_cons, List.not_mem_nil, or_false] at hx
  rcases hx with q | q | q | q
  · rw [q]; exact s64_44 _ (by omega)
  · rw [q]; exact s64_44 _ (by omega)
  · rw [q]
    split
    · decide
    · exact s64_44 _ (by omega)
  · rw [q]
    split
    · decide
    · exact s64_44 _ (by omega)
theorem kc_b64 : ∀ w : List UInt8, kc (b64 w) = 0
  | [] => rfl
  | [a] => kc_grp a.toNat_lt (by decide) (by decide)
  | [a, b] => kc_grp a.toNat_lt b.toNat_lt (by decide)
  | a :: b :: c :: r => by
    rw [b64, kc_app, kc_grp a.toNat_lt b.toNat_lt c.toNat_lt, kc_b64 r]
theorem kc_hx (k : Nat) (h : k < 16) : hxB k ≠ 44 := by
  have F : ∀ k, k < 16 → hxB k ≠ 44 := by decide +kernel
  exact F k h
theorem kc_escB (b : UInt8) : kc (escB b) ≤ 1 := by
  unfold escB
  have hb : b.toNat < 256 := b.toNat_lt
  split
  · rename_i q
    have : b ≠ 44 := fun w => by
      have : b.toNat = 44 := by rw [w]; rfl
      omega
    rw [kc_cons _ _ (by decide), kc_cons _ _ this]
    exact Nat.zero_le _
  · split
    · exact kc_le [b]
    · split
      · decide
      · split
        · decide
        · split
          · decide
          · split
            · decide
            · split
              · decide
              · rw [kc_cons _ _ (by decide), kc_cons _ _ (by decide), kc_cons _ _ (by decide), kc_cons _ _ (by decide), kc_cons _ _ (kc_hx _ (by omega)), kc_cons _ _ (kc_hx _ (by omega))]
                exact Nat.zero_le _
theorem kc_escT (w : List UInt8) : kc (escT w) ≤ w.length := by
  unfold escT
  rw [kc_cons _ _ (by decide), kc_app]
  have h : ∀ w : List UInt8, kc (w.flatMap escB) ≤ w.length := fun w => by
    induction w with
    | nil => exact Nat.le_refl _
    | cons b w ih =>
      rw [List.flatMap_cons, kc_app, List.length_cons]
      have := kc_escB b
      omega
  have := h w
  have e : kc [34] = 0 := by decide
  omega
theorem kc_nm (hN : SN S) (hf : f < nF_ S) : kc (escT (jsn (qw S f))) = 0 := kc_esc_safe (jsL_safe (qw S f) false (hN.1 f hf))
theorem kc_nvT (hN : SN S) (x : Int64) : kc (nvT S f x) = 0 := by
  have s34 : kc (sxB 3) = 0 ∧ kc (sxB 4) = 0 := by decide +kernel
  unfold nvT
  split
  · split
    · exact s34.2
    · exact s34.1
  · split
    · have hv := vno_ok S (qk S f - 32) x
      cases e : vno S (qk S f - 32) x with
      | some v =>
        rw [e] at hv
        exact kc_esc_safe (hN.2.1 v hv.1)
      | none => exact kc_numT x false
    · split
      · rw [kc_cons _ _ (by decide), kc_app, kc_numT]; decide
      · exact kc_numT x false
theorem kc_pl (hS : SW S) (hN : SN S) {J : Nat → TV d → List UInt8} {s : SV d} (hf : s.1 < nF_ S) (hpl : plain S s.1) : kc (slT S J s) = 0 := by
  have q := (plain_m hS hf).mp hpl
  unfold slT
  rw [if_neg q.2, if_neg (fun u => q.1 (Or.inl u)), if_neg (fun u => q.1 (Or.inr u))]
  exact kc_nvT hN _
theorem kc_tx (hS : SW S) {J : Nat → TV d → List UInt8} {s : SV d} (hf : s.1 < nF_ S) (hpl : ¬ plain S s.1) (hM : ¬ isM S s.1) : kc (slT S J s) ≤ s.2.2.1.length := by
  have hk : qk S s.1 = 9 ∨ qk S s.1 = 10 := by
    by_cases u : qk S s.1 = 9 ∨ qk S s.1 = 10
    · exact u
    · exact absurd ((plain_m hS hf).mpr ⟨u, hM⟩) hpl
  unfold slT
  rw [if_neg hM]
  split
  · exact kc_escT s.2.2.1
  · rw [if_pos (by omega)]
    unfold b64T
    rw [kc_cons _ _ (by decide), kc_app, kc_b64]
    exact Nat.zero_le _
/-- commas that a field adds -/
def cK {d : Nat} (S : SC) (J : Nat → TV d → List UInt8) (T : TV (d + 1)) (f : Nat) : Nat := match mbT2 S J T f with
  | none => 0
  | some t => kc t + 1
def KL (S : SC) (od : Nat → List Nat) : (d : Nat) → Nat → TV d → Nat
  | 0, _, _ => 0
  | d + 1, m, T => ((od m).map (cK S (js S od d) T)).sum
theorem kc_cmt (l : List (List UInt8)) : kc (cm true l) = (l.map (fun x => kc x + 1)).sum := by
  induction l with
  | nil => rfl
  | cons x l ih =>
    show kc (44 :: (x ++ cm true l)) = _
    rw [kc_44, kc_app, ih, List.map_cons, List.sum_cons]; omega
theorem kc_cmf (l : List (List UInt8)) : kc (cm false l) = (l.map (fun x => kc x + 1)).sum - 1 := by
  cases l with
  | nil => rfl
  | cons x l =>
    show kc ([] ++ (x ++ cm true l)) = _
    rw [List.nil_append, kc_app, kc_cmt, List.map_cons, List.sum_cons]
    omega
theorem KL_fm {J : Nat → TV d → List UInt8} {T : TV (d + 1)} (l : List Nat) : ((l.filterMap (mbT2 S J T)).map (fun x => kc x + 1)).sum = (l.map (cK S J T)).sum := by
  induction l with
  | nil => rfl
  | cons f l ih =>
    rw [List.map_cons, List.sum_cons]
    unfold cK
    cases h : mbT2 S J T f with
    | none => rw [List.filterMap_cons_none h, ih]; show _ = 0 + _; unfold cK; omega
    | some x => rw [List.filterMap_cons_some h, List.map_cons, List.sum_cons, ih]; rfl
theorem js_kc (T : TV (d + 1)) : kc (js S od (d + 1) m T) = KL S od (d + 1) m T - 1 := by
  show kc (123 :: (cm false ((od m).filterMap (mbT2 S (js S od d) T)) ++ [125])) = _
  rw [kc_cons _ _ (by decide), kc_app, kc_cmf, KL_fm]
  show _ = ((od m).map (cK S (js S od d) T)).sum - 1
  have : kc [125] = 0 := by decide
  omega
theorem cK_1 (hN : SN S) (hf : f < nF_ S) {J : Nat → TV d → List UInt8} {T : TV (d + 1)} (hr : qr S f ≠ 1) : cK S J T f = match hdS f (t1 T) with | none => 0 | some s => kc (slT S J s) + 1 := by
  unfold cK mbT2 fldT
  rw [if_neg hr]
  cases hdS f (t1 T) with
  | none => rfl
  | some s =>
    show kc (escT (jsn (qw S f)) ++ (58 :: slT S J s)) + 1 = _
    rw [kc_app, kc_cons _ _ (by decide), kc_nm hN hf, Nat.zero_add]
theorem cK_2 (hN : SN S) (hf : f < nF_ S) {J : Nat → TV d → List UInt8} {T : TV (d + 1)} (hr : qr S f = 1) : cK S J T f = (((rws f (t2 T)).map (slT S J)).map (fun x => kc x + 1)).sum := by
  by_cases c0 : rws f (t2 T) = []
  · have e : mbT2 S J T f = none := by unfold mbT2 fldT; rw [if_pos hr, if_pos c0]; rfl
    unfold cK
    rw [e, c0]; rfl
  · have e : mbT2 S J T f = some (escT (jsn (qw S f)) ++ (58 :: (91 :: (cm false ((rws f (t2 T)).map (slT S J)) ++ [93])))) := by unfold mbT2 fldT; rw [if_pos hr, if_neg c0]; rfl
    unfold cK
    rw [e]
    show kc (escT (jsn (qw S f)) ++ (58 :: (91 :: (cm false ((rws f (t2 T)).map (slT S J)) ++ [93])))) + 1 = _
    rw [kc_app, kc_cons _ _ (by decide), kc_cons _ _ (by decide), kc_app, kc_cmf, kc_nm hN hf]
    have h93 : kc [93] = 0 := by decide
    have : 1 ≤ (((rws f (t2 T)).map (slT S J)).map (fun x => kc x + 1)).sum := by
      cases h : rws f (t2 T) with
      | nil => exact absurd h c0
      | cons x l => rw [List.map_cons, List.map_cons, List.sum_cons]; omega
    omega
def LK {d : Nat} (S : SC) (od : Nat → List Nat) (sp : Nat → Nat → Nat → TV d → Option (TV d)) : Prop := ∀ m p e T T', m < S.1 → p ≤ e → sp m p e T = some T' → kc (js S od d m T') ≤ kc (js S od d m T) + (e - p)
theorem kc_emp (d m : Nat) : kc (js S od d m (emp d)) = 0 := by
  cases d with
  | zero => rfl
  | succ d =>
    have h := js_len (S := S) (od := od) (m := m) (emp (d + 1))
    rw [JL_emp] at h
    have e : js S od (d + 1) m (emp (d + 1)) = 123 :: (cm false ((od m).filterMap (mbT2 S (js S od d) (emp (d + 1)))) ++ [125]) := rfl
    rw [e] at h ⊢
    rw [List.length_cons, List.length_append, List.length_singleton] at h
    have h0 : cm false ((od m).filterMap (mbT2 S (js S od d) (emp (d + 1)))) = [] := List.eq_nil_of_length_eq_zero (by omega)
    rw [h0]; decide
theorem cK_grow (hN : SN S) {J : Nat → TV d → List UInt8} {T T1 : TV (d + 1)} (hf : f < nF_ S) (hr : qr S f = 1) {ss : List (SV d)} {k : Nat} (h : rws f (t2 T1) = rws f (t2 T) ++ ss) (h1 : ((ss.map (slT S J)).map (fun x => kc x + 1)).sum ≤ k) : cK S J T1 f ≤ cK S J T f + k := by
  rw [cK_2 hN hf hr, cK_2 hN hf hr, h, List.map_append, List.map_append, List.sum_append]
  omega
end Cy
