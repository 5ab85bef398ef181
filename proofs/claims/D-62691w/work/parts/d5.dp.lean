set_option maxRecDepth 100000
/-! ROOM: what rows cost, by what a message weighs: one induction for all tables -/
def SUP (k : Nat → Nat) : Prop := ∀ a b, k a + k b ≤ k (a + b)
/-- what reading a value cost; a5: a slot, a4: a message, aS: a char of a text -/
def pV {d : Nat} (S : SC) (a5 aS : Nat) (rc : Nat → TV d → Nat) (s : SV d) : Nat := if isM S s.1 then a5 + rc (qk S s.1 - 16) s.2.2.2 else if plain S s.1 then a5 else aS * (s.2.2.1.length + 2)
def fP {d : Nat} (S : SC) (a5 aS : Nat) (rc : Nat → TV d → Nat) (T : TV (d + 1)) (f : Nat) : Nat := if qr S f = 1 then ((rws f (t2 T)).map (pV S a5 aS rc)).sum else match hdS f (t1 T) with | none => 0 | some s => pV S a5 aS rc s
def oP (S : SC) (od : Nat → List Nat) (a5 a4 aS : Nat) : (d : Nat) → Nat → TV d → Nat
  | 0, _, _ => a4
  | d + 1, m, T => a4 + ((od m).map (fP S a5 aS (oP S od a5 a4 aS d) T)).sum
section D5
variable {S : SC} {d : Nat} {od : Nat → List Nat} {th : Nat → Int64 → List UInt8 → Nat} {cM cR cE cO a5 a4 aS N : Nat} {r rO : Nat → Nat} {ka ep : Nat → Nat → Nat}
theorem SUP.sum {k : Nat → Nat} (h : SUP k) {F G : Nat → Nat} : ∀ (l : List Nat), (∀ x, x ∈ l → F x ≤ k (G x)) → (l.map F).sum ≤ k ((l.map G).sum)
  | [], _ => Nat.zero_le _
  | x :: l, q => by
    rw [List.map_cons, List.map_cons, List.sum_cons, List.sum_cons]
    have := q x List.mem_cons_self
    have := SUP.sum h l (fun y hy => q y (List.mem_cons_of_mem _ hy))
    have := h (G x) ((l.map G).sum)
    omega
theorem SUP.sumV {k : Nat → Nat} (h : SUP k) {F G : SV d → Nat} : ∀ (l : List (SV d)), (∀ x, x ∈ l → F x ≤ k (G x)) → (l.map F).sum ≤ k ((l.map G).sum)
  | [], _ => Nat.zero_le _
  | x :: l, q => by
    rw [List.map_cons, List.map_cons, List.sum_cons, List.sum_cons]
    have := q x List.mem_cons_self
    have := SUP.sumV h l (fun y hy => q y (List.mem_cons_of_mem _ hy))
    have := h (G x) ((l.map G).sum)
    omega
theorem SUP.mono {k : Nat → Nat} (h : SUP k) {a b : Nat} (q : a ≤ b) : k a ≤ k b := by
  have := h a (b - a)
  rw [show a + (b - a) = b by omega] at this
  omega
/-- what the tables must do -/
def DT (S : SC) (th : Nat → Int64 → List UInt8 → Nat) (cM cR cE cO a5 a4 aS N : Nat) (r rO : Nat → Nat) (ka ep : Nat → Nat → Nat) : Prop :=
  (∀ d, d < 8 → SUP (ka d) ∧ SUP (ep d)) ∧
  (∀ d y, d < 8 → cR + y ≤ N → ep d y ≤ ka d (cR + y) ∧ (1 ≤ y → aS * y ≤ ka d (cR + y))) ∧
  (∀ d', d' < 8 → ∀ (d f : Nat) (ss : List (SV d)), f < nF_ S → plain S f → qr S f = 1 → (∀ s, s ∈ ss → s.1 = f) → ss ≠ [] → cR + (ss.map (fun s => cE + th s.1 s.2.1 s.2.2.1)).sum ≤ N → r (pkE S f ss).length + a5 * ss.length ≤ ka d' (cR + (ss.map (fun s => cE + th s.1 s.2.1 s.2.2.1)).sum)) ∧
  (∀ d' f x o, d' < 8 → f < nF_ S → ¬ plain S f → ¬ isM S f → aS * (o.length + 2) ≤ aS * (cE + th f x o) ∧ 1 ≤ cE + th f x o ∧ (cM + th f x o ≤ N → aS * (o.length + 2) ≤ ka d' (cM + th f x o))) ∧
  (∀ d' f x o, d' < 8 → f < nF_ S → plain S f → cM + th f x o ≤ N → a5 ≤ ka d' (cM + th f x o)) ∧
  (a5 + a4 ≤ ka 0 (cM + cO) ∧ a5 + a4 ≤ ep 0 (cE + cO)) ∧
  (∀ d s, d < 7 → (cM + (cO + s) ≤ N → a5 + (rO s + a4 + ka d s) ≤ ka (d + 1) (cM + (cO + s))) ∧ (cE + (cO + s) ≤ N → a5 + (rO s + a4 + ka d s) ≤ ep (d + 1) (cE + (cO + s))))
theorem sumC {l : List Nat} {F G : Nat → Nat} : (l.map F).sum + (l.map G).sum = (l.map (fun x => F x + G x)).sum := by
  induction l with
  | nil => rfl
  | cons x l ih => simp only [List.map_cons, List.sum_cons]; omega
theorem sumCV {l : List (SV d)} {F G : SV d → Nat} : (l.map F).sum + (l.map G).sum = (l.map (fun x => F x + G x)).sum := by
  induction l with
  | nil => rfl
  | cons x l ih => simp only [List.map_cons, List.sum_cons]; omega
theorem mem_sum {l : List (SV d)} {G : SV d → Nat} {x : SV d} (h : x ∈ l) : G x ≤ (l.map G).sum := by
  induction l with
  | nil => cases h
  | cons y l ih =>
    rw [List.map_cons, List.sum_cons]
    rcases List.mem_cons.mp h with q | q
    · rw [q]; omega
    · have := ih q; omega
theorem mem_sumN {l : List Nat} {G : Nat → Nat} {x : Nat} (h : x ∈ l) : G x ≤ (l.map G).sum := by
  induction l with
  | nil => cases h
  | cons y l ih =>
    rw [List.map_cons, List.sum_cons]
    rcases List.mem_cons.mp h with q | q
    · rw [q]; omega
    · have := ih q; omega
theorem fC_hd {cn : Nat → TV d → Nat} {T : TV (d + 1)} {f : Nat} (hr : qr S f ≠ 1) : fC r S cn T f = match hdS f (t1 T) with | none => 0 | some s => slC S cn s := by
  unfold fC hdS
  rw [if_neg hr]
  cases drp f (t1 T) <;> rfl
theorem hdS_f' {f : Nat} : ∀ {l : List (SV d)} {s : SV d}, hdS f l = some s → s.1 = f
  | [], s, h => by cases h
  | x :: l, s, h => by
    rw [hdS_cons] at h
    by_cases c : x.1 = f
    · rw [if_pos c] at h; cases h; exact c
    · rw [if_neg c] at h; exact hdS_f' h
/-- a field: rows and slots -/
theorem f_DP (hS : SW S) (h : DT S th cM cR cE cO a5 a4 aS N r rO ka ep) {d' : Nat} (hd : d' < 8) {cn pn rc : Nat → TV d → Nat} (ih : ∀ m T, m < S.1 → (cM + rc m T ≤ N → a5 + (cn m T + pn m T) ≤ ka d' (cM + rc m T)) ∧ (cE + rc m T ≤ N → a5 + (cn m T + pn m T) ≤ ep d' (cE + rc m T))) {T : TV (d + 1)} {f : Nat} (hf : f < nF_ S) (hw : fW S th cM cR cE rc T f ≤ N) : fC r S cn T f + fP S a5 aS pn T f ≤ ka d' (fW S th cM cR cE rc T f) := by
  obtain ⟨k1, k2, k3, k4, k5, k6, k7⟩ := h
  have hpm := plain_m hS hf
  have hsk := (hS.2.2.2.2.1 f hf).2.2.2.1
  unfold fP
  by_cases hr : qr S f = 1
  · rw [if_pos hr]
    rw [fW_rep hr] at hw ⊢
    unfold fC
    rw [if_pos hr]
    by_cases c0 : rws f (t2 T) = []
    · rw [if_pos c0, if_pos c0, c0]; exact Nat.zero_le _
    · rw [if_neg c0] at hw
      rw [if_neg c0, if_neg c0]
      have hall : ∀ s, s ∈ rws f (t2 T) → s.1 = f := fun s hs => of_decide_eq_true (List.mem_filter.mp hs).2
      obtain ⟨L, hL⟩ : ∃ L, L = rws f (t2 T) := ⟨_, rfl⟩
      rw [← hL] at hall c0 hw ⊢
      by_cases hpl : plain S f
      · rw [if_pos hpl]
        have hnm : ¬ isM S f := fun q => plain_nm f q hpl
        have e1 : (L.map (pV S a5 aS pn)).sum = a5 * L.length := by
          have : ∀ l : List (SV d), (∀ s, s ∈ l → s.1 = f) → (l.map (pV S a5 aS pn)).sum = a5 * l.length := fun l => by
            induction l with
            | nil => intro _; rfl
            | cons x l ih2 =>
              intro q
              have hx := q x List.mem_cons_self
              have : pV S a5 aS pn x = a5 := by unfold pV; rw [hx, if_neg hnm, if_pos hpl]
              rw [List.map_cons, List.sum_cons, this, ih2 (fun s hs => q s (List.mem_cons_of_mem _ hs)), List.length_cons, Nat.mul_add]; omega
          exact this L hall
        have e2 : eW S th cE rc L = (L.map (fun s => cE + th s.1 s.2.1 s.2.2.1)).sum := by
          unfold eW
          congr 1
          refine List.map_congr_left (fun s hs => ?_)
          unfold vW
          rw [hall s hs, if_neg hnm]
        rw [e1, e2]
        rw [e2] at hw
        exact k3 d' hd d f L hf hpl hr hall c0 (by omega)
      · rw [if_neg hpl, sumCV]
        by_cases c : isM S f
        · refine Nat.le_trans (SUP.sumV (k1 d' hd).2 (G := fun s => cE + vW S th rc s) L (fun s hs => ?_)) (k2 d' _ hd hw).1
          have hsw := mem_sum (G := fun s => cE + vW S th rc s) hs
          have hs1 := hall s hs
          have hvw : cE + vW S th rc s ≤ N := by
            have : cR + (L.map (fun s => cE + vW S th rc s)).sum ≤ N := hw
            omega
          unfold slC pV vW at *
          rw [hs1] at hvw ⊢
          rw [if_pos c] at hvw
          rw [if_pos c, if_pos c, if_pos c]
          have := (ih (qk S f - 16) s.2.2.2 (by omega)).2 hvw
          omega
        · have e1 : (L.map (fun s => slC S cn s + pV S a5 aS pn s)).sum ≤ aS * eW S th cE rc L := by
            have : ∀ l : List (SV d), (∀ s, s ∈ l → s.1 = f) → (l.map (fun s => slC S cn s + pV S a5 aS pn s)).sum ≤ aS * eW S th cE rc l := fun l => by
              induction l with
              | nil => intro _; exact Nat.zero_le _
              | cons x l ih2 =>
                intro q
                have hx := q x List.mem_cons_self
                have e3 : eW S th cE rc (x :: l) = (cE + vW S th rc x) + eW S th cE rc l := rfl
                have e4 : slC S cn x + pV S a5 aS pn x = aS * (x.2.2.1.length + 2) := by unfold slC pV; rw [hx, if_neg c, if_neg c, if_neg hpl, Nat.zero_add]
                have e5 : vW S th rc x = th f x.2.1 x.2.2.1 := by unfold vW; rw [hx, if_neg c]
                rw [List.map_cons, List.sum_cons, e3, e4, e5, Nat.mul_add aS (cE + th f x.2.1 x.2.2.1)]
                have := ih2 (fun s hs => q s (List.mem_cons_of_mem _ hs))
                have := (k4 d' f x.2.1 x.2.2.1 hd hf hpl c).1
                omega
            exact this L hall
          have e2 : 1 ≤ eW S th cE rc L := by
            cases L with
            | nil => exact absurd rfl c0
            | cons x l =>
              have e3 : eW S th cE rc (x :: l) = (cE + vW S th rc x) + eW S th cE rc l := rfl
              have e5 : vW S th rc x = th f x.2.1 x.2.2.1 := by unfold vW; rw [hall x List.mem_cons_self, if_neg c]
              have := (k4 d' f x.2.1 x.2.2.1 hd hf hpl c).2.1
              rw [e3, e5]; omega
          exact Nat.le_trans e1 ((k2 d' _ hd hw).2 e2)
  · rw [if_neg hr, fC_hd hr]
    rw [fW_hd hr] at hw ⊢
    cases hh : hdS f (t1 T) with
    | none => exact Nat.zero_le _
    | some s =>
      rw [hh] at hw
      have hs1 := hdS_f' hh
      show slC S cn s + pV S a5 aS pn s ≤ ka d' (cM + vW S th rc s)
      have hvw : cM + vW S th rc s ≤ N := hw
      unfold slC pV vW at *
      rw [hs1] at hvw ⊢
      by_cases c : isM S f
      · rw [if_pos c] at hvw
        rw [if_pos c, if_pos c, if_pos c]
        have := (ih (qk S f - 16) s.2.2.2 (by omega)).1 hvw
        omega
      · rw [if_neg c] at hvw
        rw [if_neg c, if_neg c, if_neg c]
        by_cases hpl : plain S f
        · rw [if_pos hpl]
          have := k5 d' f s.2.1 s.2.2.1 hd hf hpl hvw
          omega
        · rw [if_neg hpl]
          have := (k4 d' f s.2.1 s.2.2.1 hd hf hpl c).2.2 hvw
          omega
/-- a message: rows and slots -/
theorem o_DP (hS : SW S) (hO : OD S od) (h : DT S th cM cR cE cO a5 a4 aS N r rO ka ep) (hr : ∀ (d m : Nat) (T : TV (d + 1)), m < S.1 → sW2 S od th cM cR cE (oW S od th cM cR cE cO d) m T ≤ N → r (enc S od (d + 1) m T).length ≤ rO (sW2 S od th cM cR cE (oW S od th cM cR cE cO d) m T)) : ∀ (d : Nat), d < 8 → ∀ (m : Nat) (T : TV (d + 1)), m < S.1 → sW2 S od th cM cR cE (oW S od th cM cR cE cO d) m T ≤ N → wc r S od (d + 1) m T + oP S od a5 a4 aS (d + 1) m T ≤ rO (sW2 S od th cM cR cE (oW S od th cM cR cE cO d) m T) + a4 + ka d (sW2 S od th cM cR cE (oW S od th cM cR cE cO d) m T)
  | d, hd, m, T, hm, hN => by
    have ih : ∀ m (T : TV d), m < S.1 → (cM + oW S od th cM cR cE cO d m T ≤ N → a5 + (wc r S od d m T + oP S od a5 a4 aS d m T) ≤ ka d (cM + oW S od th cM cR cE cO d m T)) ∧ (cE + oW S od th cM cR cE cO d m T ≤ N → a5 + (wc r S od d m T + oP S od a5 a4 aS d m T) ≤ ep d (cE + oW S od th cM cR cE cO d m T)) := by
      cases d with
      | zero =>
        have k6 := h.2.2.2.2.2.1
        exact fun m T _ => ⟨fun _ => by show a5 + (0 + a4) ≤ ka 0 (cM + cO); omega, fun _ => by show a5 + (0 + a4) ≤ ep 0 (cE + cO); omega⟩
      | succ d =>
        intro m T hm
        have k7 := h.2.2.2.2.2.2 d (sW2 S od th cM cR cE (oW S od th cM cR cE cO d) m T) (by omega)
        have q : sW2 S od th cM cR cE (oW S od th cM cR cE cO d) m T ≤ N → _ := o_DP hS hO h hr d (by omega) m T hm
        refine ⟨fun hN => ?_, fun hN => ?_⟩
        · rw [oW] at hN ⊢
          have := q (by omega)
          have := k7.1 hN
          omega
        · rw [oW] at hN ⊢
          have := q (by omega)
          have := k7.2 hN
          omega
    have h1 := hr d m T hm hN
    have h2 : ((od m).map (fun f => fC r S (wc r S od d) T f + fP S a5 aS (oP S od a5 a4 aS d) T f)).sum ≤ ka d (sW2 S od th cM cR cE (oW S od th cM cR cE cO d) m T) := by
      refine SUP.sum (h.1 d hd).1 (od m) (fun f hf => ?_)
      have hfn : f < nF_ S := (((hO m hm).1 f).mp hf).1
      refine f_DP hS h hd ih hfn ?_
      have := mem_sumN (G := fW S th cM cR cE (oW S od th cM cR cE cO d) T) hf
      unfold sW2 at hN
      omega
    have e3 := sumC (l := od m) (F := fC r S (wc r S od d) T) (G := fP S a5 aS (oP S od a5 a4 aS d) T)
    rw [wc, oP]
    omega
end D5
