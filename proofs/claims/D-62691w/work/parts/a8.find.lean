set_option maxRecDepth 100000
/-! JSON OF THE WIRE: how the reference finds a field's value among parts -/
def PA (τ : TT) (k : Nat) (ps : List (Nat × Nat)) : Prop := ∀ i, i < ps.length → tA τ 43 (k + i) = ((ps.getD i (0, 0)).1 : Int) ∧ tA τ 44 (k + i) = ((ps.getD i (0, 0)).2 : Int)
def PB (n : Nat) (ps : List (Nat × Nat)) : Prop := ∀ x ∈ ps, x.1 ≤ x.2 ∧ x.2 ≤ n
def PL (ps : List (Nat × Nat)) : Nat := (ps.map (fun x => x.2 - x.1)).sum
/-- parts read one behind the other -/
def prS (S : SC) (I : Nat → Nat) (d m : Nat) : List (Nat × Nat) → TV d → Option (TV d)
  | [], T => some T
  | x :: ps, T => (msgS S I d m x.1 x.2 T).bind fun T' => prS S I d m ps T'
theorem prS_snoc {S : SC} {I : Nat → Nat} {d m : Nat} : ∀ (ps : List (Nat × Nat)) (x : Nat × Nat) (T : TV d), prS S I d m (ps ++ [x]) T = (prS S I d m ps T).bind fun T' => msgS S I d m x.1 x.2 T'
  | [], x, T => by
    show ((msgS S I d m x.1 x.2 T).bind fun T' => some T') = msgS S I d m x.1 x.2 T
    cases msgS S I d m x.1 x.2 T <;> rfl
  | y :: ps, x, T => by
    show ((msgS S I d m y.1 y.2 T).bind fun T' => prS S I d m (ps ++ [x]) T') = Option.bind (Option.bind (msgS S I d m y.1 y.2 T) fun T' => prS S I d m ps T') _
    cases msgS S I d m y.1 y.2 T with
    | none => rfl
    | some T1 => exact prS_snoc ps x T1
theorem PL_snoc (ps : List (Nat × Nat)) (x : Nat × Nat) : PL (ps ++ [x]) = PL ps + (x.2 - x.1) := by
  unfold PL
  rw [List.map_append, List.sum_append]; rfl
/-- a field's value, as it was found so far -/
def FI (S : SC) (I : Nat → Nat) (n d f base dn : Nat) (τ : TT) (T : TV (d + 1)) : Prop := ∃ q, tI τ 45 = ((base + q : Nat) : Int) ∧ 2 * q ≤ dn ∧ ((tI τ 52 = 0 ∧ hdS f (t1 T) = none ∧ q = 0) ∨ (tI τ 52 = 1 ∧ ∃ s : SV d, s.1 = f ∧ hdS f (t1 T) = (if dps S s then none else some s) ∧ (if plain S f then tJ τ 55 = s.2.1 ∧ s.2.2.1 = [] ∧ q = 0 else if isM S f then s.2.1 = 0 ∧ s.2.2.1 = [] ∧ ∃ ps : List (Nat × Nat), ps.length = q ∧ ps ≠ [] ∧ PA τ base ps ∧ PB n ps ∧ 2 * q + PL ps ≤ dn ∧ prS S I d (qk S f - 16) ps (emp d) = some s.2.2.2 else s.2.1 = 0 ∧ ∃ p e : Nat, p ≤ e ∧ e ≤ n ∧ tI τ 53 = (p : Int) ∧ tI τ 54 = (e : Int) ∧ s.2.2.1 = cut I p e)))
abbrev KF : List Nat := [43, 44, 45, 46, 47, 48, 49, 50, 51, 52, 53, 54, 55]
/-- parts below a place are as they were -/
def Lo (base : Nat) (τ τ' : TT) : Prop := ∀ i, i < base → tA τ' 43 i = tA τ 43 i ∧ tA τ' 44 i = tA τ 44 i
theorem Lo.refl (base : Nat) (τ : TT) : Lo base τ τ := fun _ _ => ⟨rfl, rfl⟩
theorem Lo.tr {base : Nat} {τ τ1 τ2 : TT} (h : Lo base τ τ1) (g : Lo base τ1 τ2) : Lo base τ τ2 := fun i hi => ⟨(g i hi).1.trans (h i hi).1, (g i hi).2.trans (h i hi).2⟩
theorem Lo.tf {base : Nat} {l : List Nat} {τ τ' : TT} (f : TF l τ τ') (h1 : 43 ∉ l) (h2 : 44 ∉ l) : Lo base τ τ' := fun i _ => ⟨by rw [(f 43 h1).2.2], by rw [(f 44 h2).2.2]⟩
theorem PA.lo {k b : Nat} {ps : List (Nat × Nat)} {τ τ' : TT} (h : PA τ k ps) (g : Lo b τ τ') (hb : k + ps.length ≤ b) : PA τ' k ps := fun i hi => by
  obtain ⟨g1, g2⟩ := g (k + i) (by omega)
  rw [g1, g2]; exact h i hi
theorem FI.tf {S : SC} {I : Nat → Nat} {n d f base dn dn' : Nat} {τ τ' : TT} {T : TV (d + 1)} (h : FI S I n d f base dn τ T) {l : List Nat} (g : TF l τ τ') (h43 : 43 ∉ l) (h44 : 44 ∉ l) (h45 : 45 ∉ l) (h52 : 52 ∉ l) (h53 : 53 ∉ l) (h54 : 54 ∉ l) (h55 : 55 ∉ l) (hd : dn ≤ dn') : FI S I n d f base dn' τ' T := by
  obtain ⟨q, q1, q2, q3⟩ := h
  refine ⟨q, by rw [(g 45 h45).1]; exact q1, by omega, ?_⟩
  rcases q3 with ⟨r1, r2, r3⟩ | ⟨r1, s, r2, r3, r4⟩
  · exact Or.inl ⟨by rw [(g 52 h52).1]; exact r1, r2, r3⟩
  · refine Or.inr ⟨by rw [(g 52 h52).1]; exact r1, s, r2, r3, ?_⟩
    by_cases c : plain S f
    · rw [if_pos c] at r4 ⊢
      exact ⟨by rw [(g 55 h55).2.1]; exact r4.1, r4.2⟩
    · rw [if_neg c] at r4 ⊢
      by_cases cm : isM S f
      · rw [if_pos cm] at r4 ⊢
        obtain ⟨u1, u2, ps, u3, u4, u5, u6, u7, u8⟩ := r4
        exact ⟨u1, u2, ps, u3, u4, u5.lo (Lo.tf (base := base + ps.length) g h43 h44) (Nat.le_refl _), u6, by omega, u8⟩
      · rw [if_neg cm] at r4 ⊢
        obtain ⟨u1, p, e, u2, u3, u4, u5, u6⟩ := r4
        exact ⟨u1, p, e, u2, u3, by rw [(g 53 h53).1]; exact u4, by rw [(g 54 h54).1]; exact u5, u6⟩
section Pf
variable {S : SC} {I : Nat → Nat} {n d f m : Nat}
theorem hdS_flt {g : Nat} : ∀ (l : List (SV d)), hdS f (l.filter (fun t => !decide (goes S g t.1))) = if goes S g f then none else hdS f l
  | [] => by cases Classical.em (goes S g f) with
    | inl c => rw [if_pos c]; rfl
    | inr c => rw [if_neg c]; rfl
  | t :: l => by
    rw [hdS_cons]
    by_cases c : goes S g t.1
    · rw [List.filter_cons_of_neg (by simp only [decide_eq_true c]; decide), hdS_flt l]
      by_cases cf : t.1 = f
      · rw [cf] at c
        rw [if_pos c, if_pos c]
      · rw [if_neg cf]
    · rw [List.filter_cons_of_pos (by simp only [decide_eq_false c]; decide), hdS_cons, hdS_flt l]
      by_cases cf : t.1 = f
      · rw [cf] at c
        rw [if_pos cf, if_neg c, if_pos cf]
      · rw [if_neg cf, if_neg cf]
/-- what a value does to another field, and to its own -/
theorem put_hd {T : TV (d + 1)} {s : SV d} (hr : qr S s.1 ≠ 1) : (f ≠ s.1 → hdS f (t1 (put S T s)) = if goes S s.1 f then none else hdS f (t1 T)) ∧ hdS s.1 (t1 (put S T s)) = if dps S s then none else some s := by
  have e : t1 (put S T s) = if dps S s then (t1 T).filter (fun t => !decide (goes S s.1 t.1)) else s :: (t1 T).filter (fun t => !decide (goes S s.1 t.1)) := by
    rw [t1_put, if_neg hr]
  rw [e]
  refine ⟨fun hf => ?_, ?_⟩
  · by_cases c : dps S s
    · rw [if_pos c]; exact hdS_flt _
    · rw [if_neg c, hdS_cons, if_neg (fun q => hf q.symm)]; exact hdS_flt _
  · by_cases c : dps S s
    · rw [if_pos c, if_pos c, hdS_flt, if_pos (Or.inl rfl)]
    · rw [if_neg c, if_neg c, hdS_cons, if_pos rfl]
theorem put_t1r {T : TV (d + 1)} {s : SV d} (hr : qr S s.1 = 1) : t1 (put S T s) = t1 T := by rw [t1_put, if_pos hr]
theorem nus_t1 {g : Nat} (hr : qr S g = 1) : ∀ (xs : List Int64) (T : TV (d + 1)), t1 (xs.foldl (nuT S g) T) = t1 T
  | [], T => rfl
  | x :: xs, T => by
    rw [List.foldl_cons, nus_t1 hr xs]
    exact put_t1r (s := (g, mnt S g x, [], emp d)) hr
/-- a record of another field -/
theorem st_other (hS : SW S) {sp : Nat → Nat → Nat → TV d → Option (TV d)} {r : Nat × Nat × Nat × Nat} {T T1 : TV (d + 1)} {g : Nat} (hg : rgt S m r.1 r.2.1 = some g) (hfg : f ≠ g) (h : stR1 S I sp m r T = some T1) : hdS f (t1 T1) = if goes S g f then none else hdS f (t1 T) := by
  obtain ⟨hgn, hgm, hkd⟩ := rgt_in hg
  have hrep := (hS.2.2.2.2.1 g hgn).2.2.2.2.2.2.2.2.2
  have rep : qr S g = 1 → ∀ X : TV (d + 1), t1 X = t1 T → hdS f (t1 X) = if goes S g f then none else hdS f (t1 T) := fun hr X hX => by
    rw [hX, if_neg (by
      rintro (q | q)
      · exact hfg q
      · have := hrep hr; omega)]
  have one : ∀ s : SV d, s.1 = g → hdS f (t1 (put S T s)) = if goes S g f then none else hdS f (t1 T) := fun s hs => by
    by_cases hr : qr S g = 1
    · exact rep hr _ (put_t1r (by rw [hs]; exact hr))
    · have := (put_hd (S := S) (f := f) (T := T) (s := s) (by rw [hs]; exact hr)).1 (by rw [hs]; exact hfg)
      rw [hs] at this
      exact this
  unfold stR1 at h
  rw [hg] at h
  change (if plain S g then _ else _) = some T1 at h
  split at h
  · split at h
    · rename_i hpl k2
      have hr : qr S g = 1 := by
        rcases hkd with q | q
        · exact absurd hpl ((wrK_plain hS hgn).mp (by omega))
        · exact q.1
      cases ep : pkS S I g r.2.2.1 r.2.2.2 with
      | none => rw [ep] at h; cases h
      | some xs => rw [ep] at h; cases h; exact rep hr _ (nus_t1 hr xs T)
    · cases ep : nmS S I g r.2.2.2 r.2.2.1 with
      | none => rw [ep] at h; cases h
      | some y => rw [ep] at h; cases h; exact one _ rfl
  · split at h
    · cases es : sp (qk S g - 16) r.2.2.1 r.2.2.2 (if qr S g = 1 then emp d else subT g T) with
      | none => rw [es] at h; cases h
      | some T2 => rw [es] at h; cases h; exact one _ rfl
    · split at h
      · cases h
      · cases h; exact one _ rfl
theorem fldS_2 {e p : Nat} {r : Nat × Nat × Nat × Nat} (h : fldS I e p = some r) (hk : r.2.1 = 2) : p + 2 ≤ r.2.2.1 := by
  rw [fldS_eq] at h
  cases ev : vrS I e p with
  | none => rw [ev] at h; cases h
  | some t =>
    rw [ev] at h
    have tb := vrS_bd ev
    change (if un t.2 / 8 = 0 ∨ 536870911 < un t.2 / 8 then none else (bodS I e (un t.2 % 8) t.1).map fun q => (un t.2 / 8, un t.2 % 8, q.1, q.2)) = some r at h
    split at h
    · cases h
    · cases eb : bodS I e (un t.2 % 8) t.1 with
      | none => rw [eb] at h; cases h
      | some l =>
        rw [eb] at h
        cases h
        have lb := bodS_bd eb
        have := lb.2.2.2 hk
        show p + 2 ≤ l.1
        omega
end Pf
