set_option maxRecDepth 100000
/-! THE WIRE, READ: bounds of trees; records behind their tags -/
def TP : (d : Nat) → TV d → Nat → Prop
  | 0, _, _ => True
  | d + 1, T, k => (t1 T).length ≤ k ∧ (t2 T).length ≤ k ∧ (∀ s ∈ t1 T, TP d s.2.2.2 k) ∧ ∀ s ∈ t2 T, TP d s.2.2.2 k
theorem TP.mono : ∀ {d : Nat} {T : TV d} {k k' : Nat}, TP d T k → k ≤ k' → TP d T k'
  | 0, T, k, k', _, _ => True.intro
  | d + 1, T, k, k', h, hk => ⟨Nat.le_trans h.1 hk, Nat.le_trans h.2.1 hk, fun s hs => (h.2.2.1 s hs).mono hk, fun s hs => (h.2.2.2 s hs).mono hk⟩
theorem TP_emp : ∀ (d k : Nat), TP d (emp d) k
  | 0, _ => True.intro
  | _ + 1, k => ⟨Nat.zero_le _, Nat.zero_le _, fun s hs => (by cases hs), fun s hs => (by cases hs)⟩
theorem TP.z : ∀ {d : Nat} {T : TV d} {k : Nat}, TP d T k → k ≤ 1000 → TZ d T
  | 0, T, k, _, _ => True.intro
  | d + 1, T, k, h, hk => ⟨Nat.le_trans h.1 hk, Nat.le_trans h.2.1 hk, fun s hs => (h.2.2.1 s hs).z hk, fun s hs => (h.2.2.2 s hs).z hk⟩
section Tp
variable {S : SC} {I : Nat → Nat} {d : Nat}
theorem TP.pt {T : TV (d + 1)} {s : SV d} {k : Nat} (h : TP (d + 1) T k) (hs : TP d s.2.2.2 (k + 1)) : TP (d + 1) (put S T s) (k + 1) := by
  obtain ⟨h1, h2, h3, h4⟩ := h
  have m3 : ∀ s ∈ t1 T, TP d s.2.2.2 (k + 1) := fun x hx => (h3 x hx).mono (Nat.le_succ _)
  have m4 : ∀ s ∈ t2 T, TP d s.2.2.2 (k + 1) := fun x hx => (h4 x hx).mono (Nat.le_succ _)
  have fl := List.length_filter_le (fun t : SV d => !decide (goes S s.1 t.1)) (t1 T)
  have fm : ∀ x ∈ (t1 T).filter (fun t => !decide (goes S s.1 t.1)), TP d x.2.2.2 (k + 1) := fun x hx => m3 x (List.mem_filter.mp hx).1
  unfold put
  split
  · refine ⟨by show (t1 T).length ≤ _; omega, by show (t2 T ++ [s]).length ≤ _; rw [List.length_append]; simp only [List.length_cons, List.length_nil]; omega, m3, fun x hx => ?_⟩
    rcases List.mem_append.mp hx with w | w
    · exact m4 x w
    · rw [List.mem_singleton.mp w]; exact hs
  · split
    · exact ⟨by show ((t1 T).filter _).length ≤ _; omega, by show (t2 T).length ≤ _; omega, fm, m4⟩
    · refine ⟨by show (s :: (t1 T).filter _).length ≤ _; rw [List.length_cons]; omega, by show (t2 T).length ≤ _; omega, fun x hx => ?_, m4⟩
      rcases List.mem_cons.mp hx with w | w
      · rw [w]; exact hs
      · exact fm x w
theorem TP.nus {f : Nat} : ∀ (xs : List Int64) (T : TV (d + 1)) (k : Nat), TP (d + 1) T k → TP (d + 1) (xs.foldl (nuT S f) T) (k + xs.length)
  | [], T, k, h => h
  | x :: xs, T, k, h => by
    rw [List.foldl_cons, List.length_cons, show k + (xs.length + 1) = (k + 1) + xs.length by omega]
    exact TP.nus xs _ (k + 1) (h.pt (TP_emp d _))
theorem pkL_len {f e : Nat} : ∀ (c p : Nat) (acc xs : List Int64), pkL S I f e c p acc = some xs → xs.length + p ≤ acc.length + max p e
  | 0, p, acc, xs, h => by cases h
  | c + 1, p, acc, xs, h => by
    rw [pkL] at h
    split at h
    · cases h; omega
    · cases ev : nmS S I f e p with
      | none => rw [ev] at h; cases h
      | some r =>
        rw [ev] at h
        have rb := nmS_bd ev
        have := pkL_len c _ _ _ h
        rw [List.length_append] at this
        simp only [List.length_cons, List.length_nil] at this
        omega
theorem subT_TP {f k : Nat} {T : TV (d + 1)} (h : TP (d + 1) T k) : TP d (subT f T) k := by
  unfold subT
  cases e : hdS f (t1 T) with
  | none => exact TP_emp d k
  | some s =>
    refine h.2.2.1 s ?_
    unfold hdS at e
    exact drp_mem _ _ (List.mem_of_mem_head? e)
def RT {d : Nat} (rec : Nat → Nat → Nat → TV d → Option (TV d)) : Prop := ∀ m p e T T', p ≤ e → rec m p e T = some T' → TP d T p → TP d T' e
theorem stR1_TP {sp : Nat → Nat → Nat → TV d → Option (TV d)} (hR : RT sp) {m p : Nat} {r : Nat × Nat × Nat × Nat} {T T' : TV (d + 1)} (h1 : p < r.2.2.1) (h2 : r.2.2.1 ≤ r.2.2.2) (hT : TP (d + 1) T p) (h : stR1 S I sp m r T = some T') : TP (d + 1) T' r.2.2.2 := by
  unfold stR1 at h
  cases er : rgt S m r.1 r.2.1 with
  | none => rw [er] at h; cases h; exact hT.mono (by omega)
  | some f =>
    rw [er] at h
    change (if plain S f then _ else _) = some T' at h
    split at h
    · split at h
      · cases ep : pkS S I f r.2.2.1 r.2.2.2 with
        | none => rw [ep] at h; cases h
        | some xs =>
          rw [ep] at h
          cases h
          have := pkL_len _ _ _ _ ep
          simp only [List.length_nil] at this
          exact (TP.nus xs T p hT).mono (by omega)
      · cases ep : nmS S I f r.2.2.2 r.2.2.1 with
        | none => rw [ep] at h; cases h
        | some y =>
          rw [ep] at h
          cases h
          exact (hT.pt (TP_emp d _)).mono (by omega)
    · split at h
      · cases es : sp (qk S f - 16) r.2.2.1 r.2.2.2 (if qr S f = 1 then emp d else subT f T) with
        | none => rw [es] at h; cases h
        | some T1 =>
          rw [es] at h
          cases h
          have q : TP d (if qr S f = 1 then emp d else subT f T) r.2.2.1 := by
            split
            · exact TP_emp d _
            · exact (subT_TP hT).mono (by omega)
          have := hR _ _ _ _ _ h2 es q
          have h3 : TP (d + 1) T (r.2.2.2 - 1) := hT.mono (by omega)
          have h4 := h3.pt (S := S) (s := (f, (0 : Int64), ([] : List UInt8), T1)) (this.mono (by omega))
          exact h4.mono (by omega)
      · split at h
        · cases h
        · cases h
          exact (hT.pt (TP_emp d _)).mono (by omega)
theorem msgL_TP {sp : Nat → Nat → Nat → TV d → Option (TV d)} (hR : RT sp) {m e : Nat} : ∀ (c p : Nat) (T T' : TV (d + 1)), p ≤ e → msgL S I sp m e c p T = some T' → TP (d + 1) T p → TP (d + 1) T' e
  | 0, p, T, T', _, h, _ => by cases h
  | c + 1, p, T, T', hp, h, hT => by
    rw [msgL] at h
    split at h
    · cases h; exact hT.mono hp
    · cases ev : fldS I e p with
      | none => rw [ev] at h; cases h
      | some r =>
        rw [ev] at h
        change ((stR1 S I sp m r T).bind _) = _ at h
        obtain ⟨b1, b2, b3, -⟩ := fldS_bd ev
        cases es : stR1 S I sp m r T with
        | none => rw [es] at h; cases h
        | some T1 =>
          rw [es] at h
          exact msgL_TP hR c _ _ _ b3 h (stR1_TP hR b1 b2 hT es)
theorem msgS_TP : ∀ d, RT (msgS S I d)
  | 0 => fun m p e T T' _ h _ => by cases h
  | d + 1 => fun m p e T T' hp h hT => msgL_TP (msgS_TP d) _ _ _ _ hp h hT
end Tp
/-- a record's value behind its tag: where it begins and ends -/
def bodS (I : Nat → Nat) (e kd p : Nat) : Option (Nat × Nat) := if kd = 0 then (vrS I e p).map (fun r => (p, r.1)) else if kd = 2 then lnS I e p else if kd = 1 ∨ kd = 5 then (if e < p + (if kd = 1 then 8 else 4) then none else some (p, p + (if kd = 1 then 8 else 4))) else none
theorem fldS_eq (I : Nat → Nat) (e p : Nat) : fldS I e p = (vrS I e p).bind fun t => if un t.2 / 8 = 0 ∨ 536870911 < un t.2 / 8 then none else (bodS I e (un t.2 % 8) t.1).map fun q => (un t.2 / 8, un t.2 % 8, q.1, q.2) := by
  unfold fldS
  cases vrS I e p with
  | none => rfl
  | some t =>
    show (if _ then none else _) = (if _ then none else _)
    by_cases c : un t.2 / 8 = 0 ∨ 536870911 < un t.2 / 8
    · rw [if_pos c, if_pos c]
    · rw [if_neg c, if_neg c]
      unfold bodS
      by_cases c0 : un t.2 % 8 = 0
      · rw [if_pos c0, if_pos c0, c0]
        cases vrS I e t.1 <;> rfl
      · rw [if_neg c0, if_neg c0]
        by_cases c2 : un t.2 % 8 = 2
        · rw [if_pos c2, if_pos c2, c2]
        · rw [if_neg c2, if_neg c2]
          by_cases c1 : un t.2 % 8 = 1 ∨ un t.2 % 8 = 5
          · rw [if_pos c1, if_pos c1]
            by_cases ce : e < t.1 + (if un t.2 % 8 = 1 then 8 else 4)
            · rw [if_pos ce, if_pos ce]; rfl
            · rw [if_neg ce, if_neg ce]; rfl
          · rw [if_neg c1, if_neg c1]; rfl
theorem bodS_bd {I : Nat → Nat} {e kd p : Nat} {q : Nat × Nat} (h : bodS I e kd p = some q) : p ≤ q.1 ∧ q.1 ≤ q.2 ∧ q.2 ≤ e ∧ (kd = 2 → p < q.1) := by
  unfold bodS at h
  split at h
  · cases ev : vrS I e p with
    | none => rw [ev] at h; cases h
    | some r => rw [ev] at h; cases h; have := vrS_bd ev; exact ⟨Nat.le_refl _, by simp only; omega, by simp only; omega, fun q => by omega⟩
  · split at h
    · have := lnS_bd h; exact ⟨by omega, by omega, by omega, fun _ => by omega⟩
    · obtain ⟨w, hw⟩ : ∃ w, w = (if kd = 1 then 8 else 4) := ⟨_, rfl⟩
      rw [← hw] at h
      split at h
      · split at h
        · cases h
        · cases h; exact ⟨Nat.le_refl _, by simp only; omega, by simp only; omega, fun q => by omega⟩
      · cases h
/-- a record, behind its tag -/
def tkS {d : Nat} (S : SC) (I : Nat → Nat) (sp : Nat → Nat → Nat → TV d → Option (TV d)) (m e k kd q : Nat) (T : TV (d + 1)) : Option (TV (d + 1) × Nat) := (bodS I e kd q).bind fun l => (stR1 S I sp m (k, kd, l.1, l.2) T).map fun T' => (T', l.2)
/-- what reading into a value leaves -/
def RK (S : SC) (fa ma : Nat → Nat) (a b : Nat) (I : Nat → Nat) (n v m d : Nat) (F : Nat → Prop) (σ : ST) (p0 : Nat) (o : Option (TV (d + 1) × Nat)) (u : Bool) (σ' : ST) : Prop := FR (fun x => x = a ∨ F x) σ σ' ∧ (match o with | some x => u = true ∧ ∃ F', WRd σ' a b I n x.2 ∧ HV S fa ma (d + 1) σ' v m x.1 F' ∧ (∀ y, F' y → F y ∨ (sZ σ ≤ y ∧ y < sZ σ')) ∧ (∀ y, F y → F' y) ∧ sS σ' ≤ sS σ + 8 * (x.2 - p0) ∧ sC σ' ≤ sC σ + 5 * (x.2 - p0) | none => u = false ∧ sS σ' ≤ sS σ + (8 * (n - p0) + 40) ∧ sC σ' ≤ sC σ + (5 * (n - p0) + 40))
section Sk
variable {σ : ST} {a b n p e : Nat} {I : Nat → Nat}
theorem WRd.skip (h : WRd σ a b I n p) (he : e ≤ n) {kd : Nat} (hk : kd = 0 ∨ kd = 1 ∨ kd = 2 ∨ kd = 5) {x y : Int} (hx : x = (kd : Int)) (hy : y = (e : Int)) : Rn (·.2) σ (fun bb => wr_skip bb a x y σ) (fun r => match bodS I e kd p with | some q => r = (some (), pI σ 177 a (q.2 : Int)) | none => ∃ j : Nat, j ≤ n ∧ r = (none, nX (pI σ 177 a (j : Int)))) := by
  subst hx
  unfold wr_skip bodS
  refine Rn_gd (by omega) ?_
  have fx : ∀ (w : Nat) (u : Int), w ≤ 8 → u = (w : Int) → Rn (·.2) σ (fun bb => gd (sc σ a = 12) (Option.bind (wr_fixed bb a u y σ) (tB (fun z => (none, z)) fun y12 σ13 => some ((some (), σ13))))) (fun r => match (if e < p + w then none else some (p, p + w) : Option (Nat × Nat)) with | some q => r = (some (), pI σ 177 a (q.2 : Int)) | none => ∃ j : Nat, j ≤ n ∧ r = (none, nX (pI σ 177 a (j : Int)))) := fun w u hw hu => by
    refine Rn_gd h.1 ?_
    refine Rn_tB (h.fixed he hw hu hy) (fun σ' _ hr => ⟨rfl, ?_⟩) (fun y σ' _ hr => ?_)
    · unfold fxS at hr
      by_cases c : e < p + w
      · rw [if_pos c] at hr ⊢
        obtain ⟨j, j1, j2⟩ := hr; cases j2; exact ⟨j, j1, rfl⟩
      · rw [if_neg c] at hr; cases hr
    · unfold fxS at hr
      by_cases c : e < p + w
      · rw [if_pos c] at hr
        obtain ⟨j, j1, j2⟩ := hr; cases j2
      · rw [if_neg c] at hr ⊢
        cases hr; exact Rn_some (Le.refl _) rfl
  by_cases c0 : kd = 0
  · rw [if_pos c0]
    refine Rn_pos (by omega) ?_
    refine Rn_gd h.1 ?_
    refine Rn_tB (h.varint he hy) (fun σ' _ hr => ⟨rfl, ?_⟩) (fun y σ' _ hr => ?_)
    · cases ev : vrS I e p with
      | none => rw [ev] at hr; obtain ⟨j, j1, j2⟩ := hr; cases j2; exact ⟨j, j1, rfl⟩
      | some q => rw [ev] at hr; cases hr
    · cases ev : vrS I e p with
      | none => rw [ev] at hr; obtain ⟨j, j1, j2⟩ := hr; cases j2
      | some q => rw [ev] at hr; cases hr; exact Rn_some (Le.refl _) rfl
  · rw [if_neg c0]
    refine Rn_neg (by omega) ?_
    by_cases c1 : kd = 1
    · rw [if_neg (by omega), if_pos (Or.inl c1), if_pos c1]
      refine Rn_pos (by omega) ?_
      exact fx 8 8 (by omega) rfl
    · refine Rn_neg (by omega) ?_
      by_cases c5 : kd = 5
      · rw [if_neg (by omega), if_pos (Or.inr c5), if_neg c1]
        refine Rn_pos (by omega) ?_
        exact fx 4 4 (by omega) rfl
      · refine Rn_neg (by omega) ?_
        rw [if_pos (by omega)]
        refine Rn_gd h.1 ?_
        refine Rn_tB (h.length he hy) (fun σ' _ hr => ⟨rfl, ?_⟩) (fun y σ' _ hr => ?_)
        · cases ev : lnS I e p with
          | none => rw [ev] at hr; obtain ⟨j, j1, j2⟩ := hr; cases j2; exact ⟨j, j1, rfl⟩
          | some q => rw [ev] at hr; cases hr
        · cases ev : lnS I e p with
          | none => rw [ev] at hr; obtain ⟨j, j1, j2⟩ := hr; cases j2
          | some q =>
            rw [ev] at hr
            cases hr
            have qb := lnS_bd ev
            have h1 : sc (pI σ 177 a (q.1 : Int)) a = 12 := h.1
            refine Rn_eq (fun bb => by rw [gd_pos h1, nm_eq, pI_pI]) ?_
            exact Rn_some (σ := pI σ 177 a (q.1 : Int)) ⟨Nat.le_refl _, Nat.le_refl _, Nat.le_refl _⟩ rfl
end Sk
