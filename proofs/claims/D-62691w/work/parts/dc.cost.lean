set_option maxRecDepth 100000
/-! ROOM: what toWire costs, by the chars it reads -/
/-- what a field saves of 8 slots a char -/
def dF {d : Nat} (S : SC) (T : TV (d + 1)) (f : Nat) : Nat := if qr S f = 1 then (if rws f (t2 T) = [] then 0 else 48 + dL S (rws f (t2 T))) else match hdS f (t1 T) with | none => 0 | some s => 40 + dV S (dM S d) s
section Dc
variable {S : SC} {d : Nat} {od : Nat → List Nat}
theorem sum_hd {g : SV d → Nat} {l : List Nat} (hl : l.Nodup) : ∀ (L : List (SV d)), (l.map (fun f => match hdS f L with | none => 0 | some s => g s)).sum ≤ (L.map g).sum
  | [] => by
    have : ∀ l : List Nat, (l.map (fun f => match hdS f ([] : List (SV d)) with | none => 0 | some s => g s)).sum = 0 := fun l => by
      induction l with
      | nil => rfl
      | cons x l ih => rw [List.map_cons, List.sum_cons, ih]; rfl
    rw [this]; exact Nat.zero_le _
  | x :: L => by
    have ih := sum_hd (g := g) hl L
    have h1 := sum_one (l := l) (F := fun f => match hdS f L with | none => 0 | some s => g s) (F' := fun f => match hdS f (x :: L) with | none => 0 | some s => g s) (a := x.1) (fun f hf => by
      show (match hdS f (x :: L) with | none => 0 | some s => g s) = _
      rw [hdS_cons, if_neg (fun e => hf e.symm)]) hl
    have e : (match hdS x.1 (x :: L) with | none => 0 | some s => g s) = g x := by rw [hdS_cons, if_pos rfl]
    rw [List.map_cons, List.sum_cons]
    have h1 : _ ≤ _ + (match hdS x.1 (x :: L) with | none => 0 | some s => g s) := h1
    rw [e] at h1
    omega
theorem rws_cons {f : Nat} (x : SV d) (L : List (SV d)) : rws f (x :: L) = if x.1 = f then x :: rws f L else rws f L := by
  unfold rws
  rw [List.filter_cons]
  by_cases c : x.1 = f
  · rw [if_pos c, if_pos (decide_eq_true c)]
  · rw [if_neg c, if_neg (by simp [c])]
theorem sum_rw {g : SV d → Nat} {l : List Nat} (hl : l.Nodup) : ∀ (L : List (SV d)), (l.map (fun f => ((rws f L).map g).sum)).sum ≤ (L.map g).sum
  | [] => by
    have : ∀ l : List Nat, (l.map (fun f => ((rws f ([] : List (SV d))).map g).sum)).sum = 0 := fun l => by
      induction l with
      | nil => rfl
      | cons x l ih => rw [List.map_cons, List.sum_cons, ih]; rfl
    rw [this]; exact Nat.zero_le _
  | x :: L => by
    have ih := sum_rw (g := g) hl L
    have h1 := sum_le1 (l := l) (F := fun f => ((rws f L).map g).sum) (F' := fun f => ((rws f (x :: L)).map g).sum) (a := x.1) (k := g x) (fun f _ hf => by
      show ((rws f (x :: L)).map g).sum ≤ ((rws f L).map g).sum
      rw [rws_cons, if_neg (fun e => hf e.symm)]; exact Nat.le_refl _) (by
      show ((rws x.1 (x :: L)).map g).sum ≤ ((rws x.1 L).map g).sum + g x
      rw [rws_cons, if_pos rfl, List.map_cons, List.sum_cons]; omega) hl
    rw [List.map_cons, List.sum_cons]
    omega
theorem sum_run {l : List Nat} (hl : l.Nodup) : ∀ (L : List (SV d)), (l.map (fun f => if rws f L = [] then 0 else 1)).sum ≤ runs L
  | [] => by
    have : ∀ l : List Nat, (l.map (fun f => if rws f ([] : List (SV d)) = [] then 0 else 1)).sum = 0 := fun l => by
      induction l with
      | nil => rfl
      | cons x l ih => rw [List.map_cons, List.sum_cons, ih]; rfl
    rw [this]; exact Nat.zero_le _
  | [x] => by
    have ih := sum_run hl ([] : List (SV d))
    have h1 := sum_le1 (l := l) (F := fun f => if rws f ([] : List (SV d)) = [] then 0 else 1) (F' := fun f => if rws f [x] = [] then 0 else 1) (a := x.1) (k := 1) (fun f _ hf => by
      have e1 : rws f [x] = rws f ([] : List (SV d)) := by rw [rws_cons, if_neg (fun e => hf e.symm)]
      show (if rws f [x] = [] then 0 else 1) ≤ (if rws f ([] : List (SV d)) = [] then 0 else 1)
      rw [e1]; exact Nat.le_refl _) (by
      show (if rws x.1 [x] = [] then 0 else 1) ≤ (if rws x.1 ([] : List (SV d)) = [] then 0 else 1) + 1
      split <;> omega) hl
    show _ ≤ 1
    have : runs ([] : List (SV d)) = 0 := rfl
    omega
  | x :: t :: L => by
    have ih := sum_run hl (t :: L)
    by_cases c : x.1 = t.1
    · have e : ∀ f, (if rws f (x :: t :: L) = [] then 0 else 1) = (if rws f (t :: L) = [] then 0 else 1) := fun f => by
        by_cases c1 : x.1 = f
        · have n1 : rws f (x :: t :: L) ≠ [] := by rw [rws_cons x, if_pos c1]; simp
          have n2 : rws f (t :: L) ≠ [] := by rw [rws_cons t, if_pos (by rw [← c]; exact c1)]; simp
          rw [if_neg n1, if_neg n2]
        · rw [rws_cons x, if_neg c1]
      have e2 : (l.map (fun f => if rws f (x :: t :: L) = [] then 0 else 1)) = (l.map (fun f => if rws f (t :: L) = [] then 0 else 1)) := List.map_congr_left (fun f _ => e f)
      rw [e2]
      show _ ≤ (if x.1 = t.1 then 0 else 1) + runs (t :: L)
      omega
    · have h1 := sum_le1 (l := l) (F := fun f => if rws f (t :: L) = [] then 0 else 1) (F' := fun f => if rws f (x :: t :: L) = [] then 0 else 1) (a := x.1) (k := 1) (fun f _ hf => by
        have e1 : rws f (x :: t :: L) = rws f (t :: L) := by rw [rws_cons x, if_neg (fun e => hf e.symm)]
        show (if rws f (x :: t :: L) = [] then 0 else 1) ≤ (if rws f (t :: L) = [] then 0 else 1)
        rw [e1]; exact Nat.le_refl _) (by
        show (if rws x.1 (x :: t :: L) = [] then 0 else 1) ≤ (if rws x.1 (t :: L) = [] then 0 else 1) + 1
        split <;> omega) hl
      show _ ≤ (if x.1 = t.1 then 0 else 1) + runs (t :: L)
      rw [if_neg c]
      omega
theorem sum_3 {F A B C : Nat → Nat} : ∀ (l : List Nat), (∀ f, F f ≤ A f + B f + 48 * C f) → (l.map F).sum ≤ (l.map A).sum + (l.map B).sum + 48 * (l.map C).sum
  | [], _ => Nat.zero_le _
  | x :: l, h => by
    have := h x
    have := sum_3 l h
    simp only [List.map_cons, List.sum_cons]
    omega
/-- what fields save, a message saves -/
theorem dF_sum {l : List Nat} (hl : l.Nodup) (T : TV (d + 1)) : (l.map (dF S T)).sum ≤ dM S (d + 1) T := by
  have h1 := sum_hd (g := fun s => 40 + dV S (dM S d) s) hl (t1 T)
  have h2 := sum_rw (g := fun s => 8 + dV S (dM S d) s) hl (t2 T)
  have h3 := sum_run hl (t2 T)
  have h4 := sum_3 (F := dF S T) (A := fun f => match hdS f (t1 T) with | none => 0 | some s => 40 + dV S (dM S d) s) (B := fun f => ((rws f (t2 T)).map (fun s => 8 + dV S (dM S d) s)).sum) (C := fun f => if rws f (t2 T) = [] then 0 else 1) l (fun f => by
    unfold dF
    split
    · show (if rws f (t2 T) = [] then 0 else 48 + dL S (rws f (t2 T))) ≤ _ + dL S (rws f (t2 T)) + 48 * (if rws f (t2 T) = [] then 0 else 1)
      split <;> omega
    · show (match hdS f (t1 T) with | none => 0 | some s => 40 + dV S (dM S d) s) ≤ (match hdS f (t1 T) with | none => 0 | some s => 40 + dV S (dM S d) s) + _ + _
      omega)
  show _ ≤ ((t1 T).map (fun s => 40 + dV S (dM S d) s)).sum + ((t2 T).map (fun s => 8 + dV S (dM S d) s)).sum + 48 * runs (t2 T)
  omega
theorem f_dM (hS : SW S) {rc pc : Nat → TV d → Nat} (ih : ∀ m T, m < S.1 → 8 * rc m T ≤ pc m T + dM S d T + 4) {T : TV (d + 1)} {f : Nat} (hf : f < nF_ S) : 8 * fW S (lcF S) 5 6 1 rc T f ≤ fP S 5 8 pc T f + dF S T f := by
  have hpm := plain_m hS hf
  have hsk := (hS.2.2.2.2.1 f hf).2.2.2.1
  have one : ∀ s : SV d, s.1 = f → 8 * vW S (lcF S) rc s ≤ pV S 5 8 pc s + dV S (dM S d) s := fun s hs => by
    unfold vW pV dV
    rw [hs]
    by_cases c : isM S f
    · rw [if_pos c, if_pos c, if_pos c]
      have := ih (qk S f - 16) s.2.2.2 (by omega)
      omega
    · rw [if_neg c, if_neg c, if_neg c]
      unfold lcF
      by_cases hpl : plain S f
      · have := lcx_or s.2.1
        rw [if_pos hpl, if_pos hpl, if_neg (fun q => (hpm.mp hpl).1 q)]
        omega
      · rw [if_neg hpl, if_neg hpl]
        omega
  by_cases hr : qr S f = 1
  · rw [fW_rep hr]
    unfold fP dF
    rw [if_pos hr, if_pos hr]
    by_cases c0 : rws f (t2 T) = []
    · rw [if_pos c0, if_pos c0]; exact Nat.zero_le _
    · rw [if_neg c0, if_neg c0]
      have hall : ∀ s, s ∈ rws f (t2 T) → s.1 = f := fun s hs => of_decide_eq_true (List.mem_filter.mp hs).2
      have : ∀ l : List (SV d), (∀ s, s ∈ l → s.1 = f) → 8 * eW S (lcF S) 1 rc l ≤ (l.map (pV S 5 8 pc)).sum + dL S l := fun l => by
        induction l with
        | nil => intro _; exact Nat.zero_le _
        | cons x l ih2 =>
          intro q
          have e1 : eW S (lcF S) 1 rc (x :: l) = (1 + vW S (lcF S) rc x) + eW S (lcF S) 1 rc l := rfl
          have e2 : dL S (x :: l) = (8 + dV S (dM S d) x) + dL S l := rfl
          have := one x (q x List.mem_cons_self)
          have := ih2 (fun s hs => q s (List.mem_cons_of_mem _ hs))
          rw [e1, e2, List.map_cons, List.sum_cons]
          omega
      have := this _ hall
      omega
  · rw [fW_hd hr]
    unfold fP dF
    rw [if_neg hr, if_neg hr]
    cases hh : hdS f (t1 T) with
    | none => exact Nat.zero_le _
    | some s =>
      have := one s (hdS_f' hh)
      show 8 * (5 + vW S (lcF S) rc s) ≤ pV S 5 8 pc s + (40 + dV S (dM S d) s)
      omega
/-- what reading costs, by the chars -/
theorem o_dM (hS : SW S) (hO : OD S od) : ∀ (d m : Nat) (T : TV d), m < S.1 → 8 * oW S od (lcF S) 5 6 1 1 d m T ≤ oP S od 5 4 8 d m T + dM S d T + 4
  | 0, m, T, _ => by show 8 * 1 ≤ 4 + 0 + 4; omega
  | d + 1, m, T, hm => by
    have h1 := dF_sum (S := S) (hO.nd hm) T
    have h2 : 8 * sW2 S od (lcF S) 5 6 1 (oW S od (lcF S) 5 6 1 1 d) m T ≤ ((od m).map (fP S 5 8 (oP S od 5 4 8 d) T)).sum + ((od m).map (dF S T)).sum := by
      unfold sW2
      have : ∀ l : List Nat, (∀ f, f ∈ l → f < nF_ S) → 8 * (l.map (fW S (lcF S) 5 6 1 (oW S od (lcF S) 5 6 1 1 d) T)).sum ≤ (l.map (fP S 5 8 (oP S od 5 4 8 d) T)).sum + (l.map (dF S T)).sum := fun l => by
        induction l with
        | nil => intro _; exact Nat.zero_le _
        | cons f l ih2 =>
          intro q
          have := f_dM hS (rc := oW S od (lcF S) 5 6 1 1 d) (pc := oP S od 5 4 8 d) (fun m T hm => o_dM hS hO d m T hm) (T := T) (q f List.mem_cons_self)
          have := ih2 (fun g hg => q g (List.mem_cons_of_mem _ hg))
          simp only [List.map_cons, List.sum_cons]
          omega
      exact this _ (fun f hf => (((hO m hm).1 f).mp hf).1)
    rw [oW, oP]
    omega
end Dc
