set_option maxRecDepth 100000
/-! ROOM: how long a message is, by what it weighs -/
/-- what is known of weights and lengths -/
def LT (S : SC) (th : Nat → Int64 → List UInt8 → Nat) (A B cM cR cE cO e1 e2 : Nat) : Prop :=
  (∀ f x o, f < nF_ S → plain S f → qr S f ≠ 1 → A * (5 + (numE S f x).length) + e1 ≤ B * (cM + th f x o)) ∧
  (∀ f x o, f < nF_ S → plain S f → qr S f = 1 → A * (numE S f x).length ≤ B * (cE + th f x o)) ∧
  (∀ f x o, f < nF_ S → ¬ plain S f → ¬ isM S f → A * (7 + o.length) ≤ B * (cE + th f x o) ∧ A * (7 + o.length) + e2 ≤ B * (cM + th f x o)) ∧
  A * 7 + e2 ≤ B * (cM + cO) ∧ A * 7 ≤ B * (cE + cO) + e1 ∧ A * 6 ≤ B * (cE + cO) ∧ A * 7 + e2 ≤ B * cR ∧ e1 ≤ e2 ∧ e2 ≤ 2 * e1
/-- how long a message is -/
def LBx (A B e1 e2 l s : Nat) : Prop := l = 0 ∨ (A * l + e1 ≤ B * s ∧ (A * l + e2 ≤ B * s ∨ l ≤ 15))
section D6
variable {S : SC} {d : Nat} {od : Nat → List Nat} {th : Nat → Int64 → List UInt8 → Nat} {A B cM cR cE cO e1 e2 : Nat}
theorem LBx.add {l s l' s' : Nat} (h2 : e2 ≤ 2 * e1) (h : LBx A B e1 e2 l s) (g : LBx A B e1 e2 l' s') : LBx A B e1 e2 (l + l') (s + s') := by
  unfold LBx at *
  rw [Nat.mul_add, Nat.mul_add]
  rcases h with h | ⟨h1, h⟩
  · subst h
    rcases g with g | ⟨g1, g⟩
    · left; omega
    · right
      rw [Nat.mul_zero, Nat.zero_add, Nat.zero_add]
      exact ⟨by omega, by rcases g with g | g; left; omega; right; exact g⟩
  · rcases g with g | ⟨g1, g⟩
    · subst g
      right
      rw [Nat.mul_zero, Nat.add_zero, Nat.add_zero]
      exact ⟨by omega, by rcases h with h | h; left; omega; right; exact h⟩
    · right
      exact ⟨by omega, Or.inl (by omega)⟩
theorem LBx.sum (h2 : e2 ≤ 2 * e1) {F G : Nat → Nat} : ∀ (l : List Nat), (∀ x, x ∈ l → LBx A B e1 e2 (F x) (G x)) → LBx A B e1 e2 (l.map F).sum (l.map G).sum
  | [], _ => Or.inl rfl
  | x :: l, q => by
    rw [List.map_cons, List.map_cons, List.sum_cons, List.sum_cons]
    exact LBx.add h2 (q x List.mem_cons_self) (LBx.sum h2 l (fun y hy => q y (List.mem_cons_of_mem _ hy)))
theorem pk_sum {f : Nat} : ∀ (l : List (SV d)), (pkE S f l).length = (l.map (fun s => (numE S f s.2.1).length)).sum
  | [] => rfl
  | s :: l => by
    have e : pkE S f (s :: l) = numE S f s.2.1 ++ pkE S f l := rfl
    rw [e, List.length_append, pk_sum l, List.map_cons, List.sum_cons]
theorem fl_sum {en : Nat → TV d → List UInt8} : ∀ (l : List (SV d)), (l.flatMap (slE S en)).length = (l.map (fun s => (slE S en s).length)).sum
  | [] => rfl
  | s :: l => by
    rw [List.flatMap_cons, List.length_append, fl_sum l, List.map_cons, List.sum_cons]
theorem sumAB {F G : SV d → Nat} : ∀ (l : List (SV d)), (∀ x, x ∈ l → A * F x ≤ B * G x) → A * (l.map F).sum ≤ B * (l.map G).sum
  | [], _ => by simp
  | x :: l, q => by
    rw [List.map_cons, List.map_cons, List.sum_cons, List.sum_cons, Nat.mul_add, Nat.mul_add]
    have := q x List.mem_cons_self
    have := sumAB l (fun y hy => q y (List.mem_cons_of_mem _ hy))
    omega
/-- lengths in one byte -/
theorem lenE_0 {b : List UInt8} (h : b.length = 0) : (lenE b).length ≤ 1 := by
  unfold lenE
  rw [h]
  decide +kernel
theorem f_LB (hS : SW S) (hT : LT S th A B cM cR cE cO e1 e2) {en : Nat → TV d → List UInt8} {rs rc : Nat → TV d → Nat} (hc : ∀ m T, m < S.1 → rc m T = cO + rs m T) (hA : 0 < A) {N : Nat} (hB : B * (N + cE) ≤ 16000 * A) (ih : ∀ m T, m < S.1 → rs m T ≤ N → LBx A B e1 e2 (en m T).length (rs m T)) {T : TV (d + 1)} {f : Nat} (hf : f < nF_ S) (hw0 : fW S th cM cR cE rc T f ≤ N) : LBx A B e1 e2 (encF S en T f).length (fW S th cM cR cE rc T f) := by
  obtain ⟨h1, h2, h3, h4, h5, h6, h7, h8, h9⟩ := hT
  have hpm := plain_m hS hf
  have hsk := (hS.2.2.2.2.1 f hf).2.2.2.1
  have hq := (hS.2.2.2.2.1 f hf).2.2.1
  have hw := wrK_rg S f
  have ht := tagE_len S f hq hw
  have ht2 := tagE_len S f hq (k := 2) (by omega)
  have mul5 : ∀ {a b : Nat}, a ≤ b → A * a ≤ A * b := fun h => Nat.mul_le_mul_left _ h
  have cap : ∀ {l y : Nat}, A * l ≤ B * y → y ≤ N + cE → l < 16384 := fun {l y} h1 h2 => by
    have : B * y ≤ B * (N + cE) := Nat.mul_le_mul_left _ h2
    have : A * l ≤ A * 16000 := by rw [Nat.mul_comm A 16000]; omega
    have := Nat.le_of_mul_le_mul_left this hA
    omega
  -- a message in a slot
  have msg : ∀ s : SV d, s.1 = f → isM S f → vW S th rc s ≤ N → A * (slE S en s).length ≤ B * (cE + vW S th rc s) ∧ A * (slE S en s).length + e2 ≤ B * (cM + vW S th rc s) := by
    intro s hs c hl
    have hnp : ¬ plain S f := fun q => (hpm.mp q).2 c
    have eb : bdE S en s = en (qk S f - 16) s.2.2.2 := by unfold bdE; rw [hs, if_pos c]
    have ev : vW S th rc s = cO + rs (qk S f - 16) s.2.2.2 := by unfold vW; rw [hs, if_pos c, hc _ _ (by omega)]
    have el : (slE S en s).length = (tagE S f (wrK S f)).length + ((lenE (en (qk S f - 16) s.2.2.2)).length + (en (qk S f - 16) s.2.2.2).length) := by
      unfold slE
      rw [eb, hs, if_neg hnp, List.length_append, List.length_append]
    rw [ev] at hl
    rw [el, ev]
    have q := ih (qk S f - 16) s.2.2.2 (by omega) (by omega)
    have hll := lenE_len (b := en (qk S f - 16) s.2.2.2) (by
      rcases q with q | ⟨q1, -⟩
      · omega
      · exact cap (show A * (en (qk S f - 16) s.2.2.2).length ≤ B * rs (qk S f - 16) s.2.2.2 by omega) (by omega))
    rw [← Nat.add_assoc cE, ← Nat.add_assoc cM, Nat.mul_add B (cE + cO), Nat.mul_add B (cM + cO)]
    rcases q with q | ⟨q1, -⟩
    · have h0 := lenE_0 (b := en (qk S f - 16) s.2.2.2) q
      have := mul5 (show (tagE S f (wrK S f)).length + ((lenE (en (qk S f - 16) s.2.2.2)).length + (en (qk S f - 16) s.2.2.2).length) ≤ 6 by omega)
      have := mul5 (show 6 ≤ 7 by omega)
      exact ⟨by omega, by omega⟩
    · have := mul5 (show (tagE S f (wrK S f)).length + ((lenE (en (qk S f - 16) s.2.2.2)).length + (en (qk S f - 16) s.2.2.2).length) ≤ 7 + (en (qk S f - 16) s.2.2.2).length by omega)
      rw [Nat.mul_add A 7] at this
      exact ⟨by omega, by omega⟩
  have str : ∀ s : SV d, s.1 = f → ¬ isM S f → ¬ plain S f → vW S th rc s ≤ N → A * (slE S en s).length ≤ B * (cE + vW S th rc s) ∧ A * (slE S en s).length + e2 ≤ B * (cM + vW S th rc s) := by
    intro s hs c hnp hl
    have eb : bdE S en s = s.2.2.1 := by unfold bdE; rw [hs, if_neg c]
    have ev : vW S th rc s = th f s.2.1 s.2.2.1 := by unfold vW; rw [hs, if_neg c]
    have el : (slE S en s).length = (tagE S f (wrK S f)).length + ((lenE s.2.2.1).length + s.2.2.1.length) := by
      unfold slE
      rw [eb, hs, if_neg hnp, List.length_append, List.length_append]
    rw [ev] at hl
    rw [el, ev]
    have q := h3 f s.2.1 s.2.2.1 hf hnp c
    have hll := lenE_len (b := s.2.2.1) (by
      have := cap q.1 (by omega)
      omega)
    have := mul5 (show (tagE S f (wrK S f)).length + ((lenE s.2.2.1).length + s.2.2.1.length) ≤ 7 + s.2.2.1.length by omega)
    exact ⟨by omega, by omega⟩
  by_cases hr : qr S f = 1
  · rw [encF_rep hr]
    rw [fW_rep hr] at hw0 ⊢
    by_cases c0 : rws f (t2 T) = []
    · rw [if_pos c0, if_pos c0]; exact Or.inl rfl
    · rw [if_neg c0] at hw0
      rw [if_neg c0, if_neg c0]
      have hall : ∀ s, s ∈ rws f (t2 T) → s.1 = f := fun s hs => of_decide_eq_true (List.mem_filter.mp hs).2
      obtain ⟨L, hL⟩ : ∃ L, L = rws f (t2 T) := ⟨_, rfl⟩
      rw [← hL] at hall c0 hw0 ⊢
      right
      by_cases hpl : plain S f
      · rw [if_pos hpl]
        have hnm : ¬ isM S f := fun q => (hpm.mp hpl).2 q
        rw [List.length_append, List.length_append]
        have e3 : A * (pkE S f L).length ≤ B * eW S th cE rc L := by
          rw [pk_sum]
          unfold eW
          refine sumAB L (fun s hs => ?_)
          have : vW S th rc s = th f s.2.1 s.2.2.1 := by unfold vW; rw [hall s hs, if_neg hnm]
          rw [this]
          exact h2 f s.2.1 s.2.2.1 hf hpl hr
        have hll := lenE_len (b := pkE S f L) (cap e3 (by omega))
        have := mul5 (show (tagE S f 2).length + ((lenE (pkE S f L)).length + (pkE S f L).length) ≤ 7 + (pkE S f L).length by omega)
        rw [Nat.mul_add A 7] at this
        rw [Nat.mul_add B]
        exact ⟨by omega, Or.inl (by omega)⟩
      · rw [if_neg hpl]
        have e3 : A * (L.flatMap (slE S en)).length ≤ B * eW S th cE rc L := by
          have hm : ∀ s, s ∈ L → vW S th rc s ≤ N := fun s hs => by
            have := mem_sum (G := fun s => cE + vW S th rc s) hs
            have : cR + (L.map (fun s => cE + vW S th rc s)).sum ≤ N := hw0
            omega
          rw [fl_sum]
          unfold eW
          refine sumAB L (fun s hs => ?_)
          by_cases c : isM S f
          · exact (msg s (hall s hs) c (hm s hs)).1
          · exact (str s (hall s hs) c hpl (hm s hs)).1
        rw [Nat.mul_add B]
        exact ⟨by omega, Or.inl (by omega)⟩
  · rw [encF_hd hr]
    rw [fW_hd hr] at hw0 ⊢
    cases hh : hdS f (t1 T) with
    | none => exact Or.inl rfl
    | some s =>
      rw [hh] at hw0
      have hs1 := hdS_f' hh
      show LBx A B e1 e2 (slE S en s).length (cM + vW S th rc s)
      have hl : vW S th rc s ≤ N := by
        have : cM + vW S th rc s ≤ N := hw0
        omega
      right
      by_cases c : isM S f
      · have := (msg s hs1 c hl).2
        exact ⟨by omega, Or.inl this⟩
      · by_cases hpl : plain S f
        · have ev : vW S th rc s = th f s.2.1 s.2.2.1 := by unfold vW; rw [hs1, if_neg c]
          have el : (slE S en s).length = (tagE S f (wrK S f)).length + (numE S f s.2.1).length := by
            unfold slE
            rw [hs1, if_pos hpl, List.length_append]
          have h10 := numE_len S f s.2.1
          rw [ev, el]
          have := h1 f s.2.1 s.2.2.1 hf hpl hr
          have := mul5 (show (tagE S f (wrK S f)).length + (numE S f s.2.1).length ≤ 5 + (numE S f s.2.1).length by omega)
          exact ⟨by omega, Or.inr (by omega)⟩
        · have := (str s hs1 c hpl hl).2
          exact ⟨by omega, Or.inl this⟩
/-- a message's length by its weight -/
theorem o_LB (hS : SW S) (hO : OD S od) (hT : LT S th A B cM cR cE cO e1 e2) (hA : 0 < A) {N : Nat} (hB : B * (N + cE) ≤ 16000 * A) : ∀ (d m : Nat) (T : TV (d + 1)), m < S.1 → sW2 S od th cM cR cE (oW S od th cM cR cE cO d) m T ≤ N → LBx A B e1 e2 (enc S od (d + 1) m T).length (sW2 S od th cM cR cE (oW S od th cM cR cE cO d) m T)
  | d, m, T, hm, hl => by
    rw [enc_sum]
    unfold sumE sW2 at *
    refine LBx.sum hT.2.2.2.2.2.2.2.2 (od m) (fun f hf => ?_)
    have hfn : f < nF_ S := (((hO m hm).1 f).mp hf).1
    have hlf := mem_sumN (G := fW S th cM cR cE (oW S od th cM cR cE cO d) T) hf
    cases d with
    | zero => exact f_LB hS hT (rs := fun _ _ => 0) (rc := oW S od th cM cR cE cO 0) (fun m T hm => rfl) hA hB (fun m T _ _ => Or.inl rfl) hfn (by omega)
    | succ d => exact f_LB hS hT (rs := fun m T => sW2 S od th cM cR cE (oW S od th cM cR cE cO d) m T) (rc := oW S od th cM cR cE cO (d + 1)) (fun m T hm => rfl) hA hB (fun m T hm hl => o_LB hS hO hT hA hB d m T hm hl) hfn (by omega)
/-- rows by weights -/
theorem LBx.row {l s : Nat} (hA : 0 < A) {N : Nat} (hB : B * N ≤ 4096 * A) (hs : s ≤ N) (h : LBx A B e1 e2 l s) : l ≤ max 15 ((B * s - e2) / A) ∧ max 15 ((B * s - e2) / A) ≤ 4096 := by
  have h2 : (B * s - e2) / A ≤ 4096 := by
    have : B * s ≤ B * N := Nat.mul_le_mul_left _ hs
    have : (B * s - e2) / A ≤ (4096 * A) / A := Nat.div_le_div_right (by omega)
    rw [Nat.mul_div_cancel _ hA] at this
    exact this
  refine ⟨?_, by omega⟩
  rcases h with h | ⟨h1, h | h⟩
  · omega
  · have : l ≤ (B * s - e2) / A := by
      rw [Nat.le_div_iff_mul_le hA, Nat.mul_comm]; omega
    omega
  · omega
end D6
