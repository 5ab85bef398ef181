set_option maxRecDepth 100000
/-! VALUES: others of a oneof; the steps of the system's reader of objects -/
section Ot
variable {z : Nat} {S : SC} {fa ma ea : Nat → Nat} {od : Nat → List Nat} {σ : ST} {v f : Nat}
theorem other_L {d : Nat} {hv : Nat → Nat → TV d → (Nat → Prop) → Prop} (hS : SW S) (hH : HSc z σ S fa ma ea od) (hf : f < nF_ S) : ∀ (la : List Nat) (T : List (SV d)) (F : Nat → Prop) (n : Nat) (w : Int) (o : Option Nat), HL S fa hv σ la T F → chain σ o la → la.length < n → (w = 0 ∨ w = 1) → vlu_hasOther_L7 (some (fa f)) σ n w o = some (if w = 1 ∨ (0 ≤ qo S f ∧ ∃ s ∈ T, s.1 ≠ f ∧ qo S s.1 = qo S f) then 1 else 0)
  | [], [], F, n, w, o, _, hc, hn, hw => by
    obtain ⟨n, rfl⟩ : ∃ m, n = m + 1 := ⟨n - 1, by simp at hn; omega⟩
    rw [vlu_hasOther_L7, if_pos (show o = none from hc), gd_pos (by exact hw)]
    rcases hw with e | e
    · rw [if_neg (by
        rintro (q | ⟨-, s, hs, -⟩)
        · omega
        · cases hs), e]
    · rw [if_pos (Or.inl e), e]
  | [], _ :: _, F, n, w, o, h, _, _, _ => h.elim
  | _ :: _, [], F, n, w, o, h, _, _, _ => h.elim
  | s :: la, t :: T, F, n, w, o, h, hc, hn, hw => by
    obtain ⟨n, rfl⟩ : ∃ m, n = m + 1 := ⟨n - 1, by simp only [List.length_cons] at hn; omega⟩
    obtain ⟨h1, h2, Fn, F2, h3, h4, h5, h6, h7, h8, h9⟩ := h
    obtain ⟨e, hc2⟩ : o = some s ∧ chain σ (sR σ 196 s) la := hc
    subst e
    have hg := h3.2.1
    have s192 : sR σ 192 s = some (fa t.1) := h3.2.2.1
    have sf : sc σ (fa f) = 9 := (hH.2.1 f hf).2.1
    have sg : sc σ (fa t.1) = 9 := (hH.2.1 t.1 hg).2.1
    have of' : sI σ 133 (fa f) = qo S f := (hH.2.1 f hf).2.2.2.2.2.2.2.1
    have og : sI σ 133 (fa t.1) = qo S t.1 := (hH.2.1 t.1 hg).2.2.2.2.2.2.2.1
    have bf := (hS.2.2.2.2.1 f hf).2.2.2.2
    have bg := (hS.2.2.2.2.1 t.1 hg).2.2.2.2
    have inj : (some (fa t.1) = some (fa f)) ↔ t.1 = f := ⟨fun q => hH.2.2.1 _ _ hg hf (Option.some.inj q), fun q => by rw [q]⟩
    rw [vlu_hasOther_L7, if_neg (by simp)]
    have ih := fun w' hw' => other_L hS hH hf la T F2 n w' (sR σ 196 s) h4 hc2 (by simp only [List.length_cons] at hn; omega) hw'
    by_cases c1 : w = 1
    · rw [gd_pos (by omega), if_neg (by omega), bind_some', bind_some', gd_pos h3.1, nm_eq, ih 1 (Or.inr rfl), if_pos (Or.inl rfl), if_pos (Or.inl c1)]
    · rw [gd_pos (by omega), if_pos (by omega), bind_some', gd_pos sf, of', gd_pos (by omega), gd_pos (by exact fun _ => by simp), show ad (some s) = s from rfl, gd_pos (by exact fun _ => h3.1), gd_pos (by exact fun _ => by simp), gd_pos (by exact fun _ => h3.1), s192, gd_pos (by exact fun _ => by simp), show ad (some (fa t.1)) = fa t.1 from rfl, gd_pos (by exact fun _ => sg), og, gd_pos (by omega)]
      by_cases c2 : 0 ≤ qo S f ∧ t.1 ≠ f ∧ qo S t.1 = qo S f
      · rw [if_neg (by
          rintro ((q | q) | q)
          · omega
          · exact c2.2.1 (inj.mp q)
          · exact q c2.2.2), bind_some', bind_some', gd_pos h3.1, nm_eq, ih 1 (Or.inr rfl), if_pos (Or.inl rfl), if_pos (Or.inr ⟨c2.1, t, List.mem_cons_self, c2.2⟩)]
      · rw [if_pos (by
          by_cases q1 : qo S f < 0
          · exact Or.inl (Or.inl q1)
          · by_cases q2 : t.1 = f
            · exact Or.inl (Or.inr (inj.mpr q2))
            · exact Or.inr (fun q3 => c2 ⟨by omega, q2, q3⟩)), bind_some', bind_some', gd_pos h3.1, nm_eq, ih 0 (Or.inl rfl)]
        by_cases r : 0 ≤ qo S f ∧ ∃ s ∈ T, s.1 ≠ f ∧ qo S s.1 = qo S f
        · obtain ⟨r1, s', r2, r3⟩ := r
          rw [if_pos (Or.inr ⟨r1, s', r2, r3⟩), if_pos (Or.inr ⟨r1, s', List.mem_cons_of_mem _ r2, r3⟩)]
        · rw [if_neg (by
            rintro (q | q)
            · omega
            · exact r q), if_neg (by
            rintro (q | ⟨q1, s', q2, q3⟩)
            · exact c1 q
            · rcases List.mem_cons.mp q2 with u | u
              · rw [u] at q3; exact c2 ⟨q1, q3⟩
              · exact r ⟨q1, s', u, q3⟩)]
theorem vlu_hasOther_eq {d m : Nat} {T : TV (d + 1)} {F : Nat → Prop} (hS : SW S) (hH : HSc z σ S fa ma ea od) (hf : f < nF_ S) (hV : HV S fa ma (d + 1) σ v m T F) (hlen : (t1 T).length < 1000) : vlu_hasOther v (some (fa f)) σ = some (if hasO S T f = true then 1 else 0) := by
  obtain ⟨h1, h2, h3, h4, la, lb, F1, F2, c1, c2, c3, c4, -⟩ := hV
  obtain ⟨-, -, e1⟩ := HL_mem la _ F1 c4
  unfold vlu_hasOther
  rw [gd_pos h1, nm_eq, other_L hS hH hf la _ F1 FU 0 (sR σ 161 v) c4 c1 (by rw [e1]; exact FU_gt (by omega)) (Or.inl rfl)]
  have e : hasO S T f = true ↔ (0 ≤ qo S f ∧ ∃ s ∈ t1 T, s.1 ≠ f ∧ qo S s.1 = qo S f) := by
    unfold hasO
    rw [Bool.and_eq_true, decide_eq_true_iff, List.any_eq_true]
    constructor
    · rintro ⟨q1, s, q2, q3⟩
      exact ⟨q1, s, q2, of_decide_eq_true q3⟩
    · rintro ⟨q1, s, q2, q3⟩
      exact ⟨q1, s, q2, decide_eq_true q3⟩
  by_cases c : hasO S T f = true
  · rw [if_pos c, if_pos (Or.inr (e.mp c))]
  · rw [if_neg c, if_neg (by
      rintro (q | q)
      · omega
      · exact c (e.mpr q))]
end Ot
/-- what is not spent of 8 slots a char, by what was read -/
def dV {d : Nat} (S : SC) (rc : TV d → Nat) (s : SV d) : Nat := if isM S s.1 then rc s.2.2.2 - 1 else if qk S s.1 = 9 ∨ qk S s.1 = 10 then 0 else 8 * lcx s.2.1 - 5
def runs {d : Nat} : List (SV d) → Nat
  | [] => 0
  | [_] => 1
  | s :: t :: l => (if s.1 = t.1 then 0 else 1) + runs (t :: l)
def dM (S : SC) : (d : Nat) → TV d → Nat
  | 0, _ => 0
  | d + 1, T => ((t1 T).map (fun s => 40 + dV S (dM S d) s)).sum + ((t2 T).map (fun s => 8 + dV S (dM S d) s)).sum + 48 * runs (t2 T)
def dL {d : Nat} (S : SC) (ss : List (SV d)) : Nat := (ss.map (fun s => 8 + dV S (dM S d) s)).sum
section Dsc
variable {S : SC} {d : Nat}
theorem runs_cons (s : SV d) (l : List (SV d)) : runs (s :: l) ≤ runs l + 1 ∧ runs l ≤ runs (s :: l) := by
  cases l with
  | nil => exact ⟨Nat.le_refl _, Nat.zero_le _⟩
  | cons t l =>
    show (if s.1 = t.1 then 0 else 1) + runs (t :: l) ≤ _ ∧ _ ≤ (if s.1 = t.1 then 0 else 1) + runs (t :: l)
    split <;> omega
theorem runs_all {f : Nat} : ∀ (l : List (SV d)), (∀ s, s ∈ l → s.1 = f) → runs l ≤ 1
  | [], _ => Nat.zero_le _
  | [s], _ => Nat.le_refl _
  | s :: t :: l, h => by
    show (if s.1 = t.1 then 0 else 1) + runs (t :: l) ≤ 1
    rw [if_pos (by rw [h s List.mem_cons_self, h t (List.mem_cons_of_mem _ List.mem_cons_self)]), Nat.zero_add]
    exact runs_all (t :: l) (fun x hx => h x (List.mem_cons_of_mem _ hx))
theorem runs_app : ∀ (a b : List (SV d)), runs (a ++ b) ≤ runs a + runs b
  | [], b => by show runs b ≤ 0 + runs b; omega
  | [s], b => by
    have := (runs_cons s b).1
    show runs (s :: b) ≤ 1 + runs b
    omega
  | s :: t :: l, b => by
    show (if s.1 = t.1 then 0 else 1) + runs (t :: (l ++ b)) ≤ (if s.1 = t.1 then 0 else 1) + runs (t :: l) + runs b
    have := runs_app (t :: l) b
    have e : (t :: l) ++ b = t :: (l ++ b) := rfl
    rw [e] at this
    omega
theorem sum_fil {α : Type} (g : α → Nat) (P : α → Bool) : ∀ (l : List α), ((l.filter P).map g).sum ≤ (l.map g).sum
  | [] => Nat.le_refl _
  | x :: l => by
    rw [List.filter_cons]
    have := sum_fil g P l
    split
    · rw [List.map_cons, List.map_cons, List.sum_cons, List.sum_cons]; omega
    · rw [List.map_cons, List.sum_cons]; omega
theorem dM_emp : dM S (d + 1) (emp (d + 1)) = 0 := rfl
/-- a single value more -/
theorem dM_put {T : TV (d + 1)} {s : SV d} (hr : qr S s.1 ≠ 1) : dM S (d + 1) (put S T s) ≤ dM S (d + 1) T + 40 + dV S (dM S d) s := by
  unfold put
  rw [if_neg hr]
  have := sum_fil (fun s => 40 + dV S (dM S d) s) (fun t => !decide (goes S s.1 t.1)) (t1 T)
  split
  · show ((((t1 T).filter _).map _).sum) + ((t2 T).map _).sum + 48 * runs (t2 T) ≤ ((t1 T).map _).sum + ((t2 T).map _).sum + 48 * runs (t2 T) + 40 + _
    omega
  · show (((s :: (t1 T).filter _).map (fun s => 40 + dV S (dM S d) s)).sum) + ((t2 T).map _).sum + 48 * runs (t2 T) ≤ ((t1 T).map (fun s => 40 + dV S (dM S d) s)).sum + ((t2 T).map _).sum + 48 * runs (t2 T) + 40 + _
    rw [List.map_cons, List.sum_cons]
    omega
theorem fold_t {f : Nat} (hr : qr S f = 1) : ∀ (ss : List (SV d)) (T : TV (d + 1)), (∀ s ∈ ss, s.1 = f) → t1 (ss.foldl (put S) T) = t1 T ∧ t2 (ss.foldl (put S) T) = t2 T ++ ss
  | [], T, _ => ⟨rfl, by show t2 T = t2 T ++ []; rw [List.append_nil]⟩
  | s :: ss, T, h => by
    have e : put S T s = mk (t1 T) (t2 T ++ [s]) := by unfold put; rw [if_pos (by rw [h s List.mem_cons_self]; exact hr)]
    obtain ⟨i1, i2⟩ := fold_t hr ss (put S T s) (fun x hx => h x (List.mem_cons_of_mem _ hx))
    rw [List.foldl_cons, i1, i2, e]
    refine ⟨rfl, ?_⟩
    show (t2 T ++ [s]) ++ ss = _
    rw [List.append_assoc]; rfl
/-- a row more -/
theorem dM_fold {f : Nat} (hr : qr S f = 1) {ss : List (SV d)} {T : TV (d + 1)} (h : ∀ s ∈ ss, s.1 = f) : dM S (d + 1) (ss.foldl (put S) T) ≤ dM S (d + 1) T + dL S ss + 48 := by
  obtain ⟨e1, e2⟩ := fold_t hr ss T h
  have r1 := runs_app (t2 T) ss
  have r2 := runs_all ss h
  show ((t1 (ss.foldl (put S) T)).map _).sum + ((t2 (ss.foldl (put S) T)).map _).sum + 48 * runs (t2 (ss.foldl (put S) T)) ≤ ((t1 T).map _).sum + ((t2 T).map _).sum + 48 * runs (t2 T) + dL S ss + 48
  rw [e1, e2, List.map_append, List.sum_append]
  unfold dL
  omega
end Dsc
/-- the system's reader of messages of a depth: what it makes and what it costs -/
def cO (e p : Nat) : Nat := 7 * (e - p) - 10
def RS (z : Nat) (S : SC) (fa ma ea : Nat → Nat) (od : Nat → List Nat) (a b ra wa : Nat) (I : Nat → Nat) (n d : Nat) (rec : Nat × Nat → Option Nat → Option Nat → Int → ST → Option (Option (Option Nat) × ST)) (dp : Int) (sp : Nat → Nat → Option (Nat × TV d)) : Prop := ∀ (m p : Nat) (σ : ST), m < S.1 → p ≤ n → HSc z σ S fa ma ea od → JRd σ a b ra wa I n p → Rn (·.2) σ (fun bb => rec bb (some a) (some (ma m)) dp σ) (fun r => match sp m (bl I n p) with | some e => ∃ σ' va F c, r = (some (some va), σ') ∧ JRd σ' a b ra wa I n e.1 ∧ HV S fa ma d σ' va m e.2 F ∧ (∀ x, F x → sZ σ ≤ x ∧ x < sZ σ') ∧ JG σ σ' a ra wa c (5 * (e.1 - p) - 5) ∧ (c + dM S d e.2 + 4 ≤ 8 * (e.1 - p) ∧ c + 5 ≤ 8 * (e.1 - p)) ∧ p + 2 ≤ e.1 | none => ∃ σ', r = (none, σ') ∧ JG σ σ' a ra wa (8 * (n + 1 - p) + 10000) (5 * (n + 1 - p) + 400))
