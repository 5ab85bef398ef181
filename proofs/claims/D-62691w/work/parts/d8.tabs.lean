set_option maxRecDepth 100000
/-! ROOM: tables and what is looked at in them -/
noncomputable def chkA (v : Nat) (l : List Nat) : List Nat → Bool := @List.rec Nat (fun _ => List Nat → Bool) (fun _ => true) (fun x _ ih s => @List.rec Nat (fun _ => Bool) true (fun y s' _ => @Bool.rec (fun _ => Bool) false (ih s') (Nat.ble (Nat.add v x) y)) s) l
/-- a table grows at least as sums do -/
noncomputable def chkB (l : List Nat) : List Nat → Bool := @List.rec Nat (fun _ => List Nat → Bool) (fun _ => true) (fun v r ih s => @Bool.rec (fun _ => Bool) false (ih (s.drop 2)) (chkA v (v :: r) s)) l
/-- rows of n bytes, at most 4096 -/
def rwq (l : Nat) : Nat := cond (Nat.ble l 128) (cond (Nat.ble l 16) (cond (Nat.ble l 8) 10 26) (cond (Nat.ble l 32) 58 (cond (Nat.ble l 64) 122 250))) (cond (Nat.ble l 1024) (cond (Nat.ble l 256) 506 (cond (Nat.ble l 512) 1018 2042)) (cond (Nat.ble l 2048) 4090 8186))
/-- p (s) + rows + c ≤ q (s) + c' for all s -/
noncomputable def chkC (A B e c c' : Nat) (l : List Nat) : Nat → List Nat → Bool := @List.rec Nat (fun _ => Nat → List Nat → Bool) (fun _ _ => true) (fun x _ ih k s => @List.rec Nat (fun _ => Bool) true (fun y s' _ => @Bool.rec (fun _ => Bool) false (ih (Nat.succ k) s') (Nat.ble (Nat.add (Nat.add x c) (rwq (Nat.max 15 (Nat.div (Nat.sub (Nat.mul B k) e) A)))) (Nat.add y c'))) s) l
noncomputable def chkD (c' : Nat) (l : List Nat) : List Nat → Bool := @List.rec Nat (fun _ => List Nat → Bool) (fun _ => true) (fun x _ ih s => @List.rec Nat (fun _ => Bool) true (fun y s' _ => @Bool.rec (fun _ => Bool) false (ih s') (Nat.ble x (Nat.add y c'))) s) l
/-- no value is more than 300 times its place -/
noncomputable def chkE (l : List Nat) : Nat → Bool := @List.rec Nat (fun _ => Nat → Bool) (fun _ => true) (fun x _ ih k => @Bool.rec (fun _ => Bool) false (ih (Nat.succ k)) (Nat.ble x (Nat.mul 300 k))) l
noncomputable def chkF (A B c' : Nat) (l : List Nat) : Nat → Bool := @List.rec Nat (fun _ => Nat → Bool) (fun _ => true) (fun x _ ih k => @Bool.rec (fun _ => Bool) false (ih (Nat.succ k)) (Nat.ble (rwq (Nat.div (Nat.mul B k) A)) (Nat.add x c'))) l
noncomputable def chkG (a la c : Nat) (l : List Nat) : Nat → Bool := @List.rec Nat (fun _ => Nat → Bool) (fun _ => true) (fun x _ ih k => @Bool.rec (fun _ => Bool) false (ih (Nat.succ k)) (Nat.ble (Nat.mul a k) (Nat.add x (Nat.div (Nat.mul la (Nat.add c k)) 2)))) l
section D8
theorem chkA_ok (v : Nat) : ∀ (l s : List Nat), chkA v l s = true → ∀ i, i < l.length → i < s.length → v + l.getD i 0 ≤ s.getD i 0
  | [], s, _, i, hi, _ => by simp at hi
  | x :: l, [], _, i, _, hs => by simp at hs
  | x :: l, y :: s, h, i, hi, hs => by
    have e : chkA v (x :: l) (y :: s) = @Bool.rec (fun _ => Bool) false (chkA v l s) (Nat.ble (Nat.add v x) y) := rfl
    rw [e] at h
    cases hb : Nat.ble (Nat.add v x) y with
    | false => rw [hb] at h; cases h
    | true =>
      rw [hb] at h
      have h : chkA v l s = true := h
      cases i with
      | zero => exact Nat.le_of_ble_eq_true hb
      | succ i => exact chkA_ok v l s h i (by simpa using hi) (by simpa using hs)
theorem chkB_ok : ∀ (l s : List Nat), chkB l s = true → ∀ k i, k + i < l.length → 2 * k + i < s.length → l.getD k 0 + l.getD (k + i) 0 ≤ s.getD (2 * k + i) 0
  | [], s, _, k, i, hi, _ => by simp at hi
  | x :: l, s, h, k, i, hi, hs => by
    have e : chkB (x :: l) s = @Bool.rec (fun _ => Bool) false (chkB l (s.drop 2)) (chkA x (x :: l) s) := rfl
    rw [e] at h
    cases hb : chkA x (x :: l) s with
    | false => rw [hb] at h; cases h
    | true =>
      rw [hb] at h
      have h : chkB l (s.drop 2) = true := h
      cases k with
      | zero =>
        have := chkA_ok x (x :: l) s hb i (by omega) (by omega)
        simpa using this
      | succ k =>
        have := chkB_ok l (s.drop 2) h k i (by simp at hi; omega) (by rw [List.length_drop]; omega)
        have e1 : (x :: l).getD (k + 1) 0 = l.getD k 0 := by simp
        have e2 : (x :: l).getD (k + 1 + i) 0 = l.getD (k + i) 0 := by
          rw [show k + 1 + i = (k + i) + 1 by omega]; simp
        have e3 : s.getD (2 * (k + 1) + i) 0 = (s.drop 2).getD (2 * k + i) 0 := by
          rw [List.getD_eq_getElem?_getD, List.getD_eq_getElem?_getD, List.getElem?_drop]
          congr 2; omega
        rw [e1, e2, e3]; exact this
theorem chkC_ok (A B e c c' : Nat) : ∀ (l : List Nat) (k : Nat) (s : List Nat), chkC A B e c c' l k s = true → ∀ i, i < l.length → i < s.length → l.getD i 0 + c + rwq (max 15 ((B * (k + i) - e) / A)) ≤ s.getD i 0 + c'
  | [], k, s, _, i, hi, _ => by simp at hi
  | x :: l, k, [], _, i, _, hs => by simp at hs
  | x :: l, k, y :: s, h, i, hi, hs => by
    have e0 : chkC A B e c c' (x :: l) k (y :: s) = @Bool.rec (fun _ => Bool) false (chkC A B e c c' l (Nat.succ k) s) (Nat.ble (Nat.add (Nat.add x c) (rwq (Nat.max 15 (Nat.div (Nat.sub (Nat.mul B k) e) A)))) (Nat.add y c')) := rfl
    rw [e0] at h
    cases hb : Nat.ble (Nat.add (Nat.add x c) (rwq (Nat.max 15 (Nat.div (Nat.sub (Nat.mul B k) e) A)))) (Nat.add y c') with
    | false => rw [hb] at h; cases h
    | true =>
      rw [hb] at h
      cases i with
      | zero => exact Nat.le_of_ble_eq_true hb
      | succ i =>
        have := chkC_ok A B e c c' l (Nat.succ k) s h i (by simpa using hi) (by simpa using hs)
        rw [show k + (i + 1) = Nat.succ k + i by omega]
        simpa using this
theorem chkD_ok (c' : Nat) : ∀ (l s : List Nat), chkD c' l s = true → ∀ i, i < l.length → i < s.length → l.getD i 0 ≤ s.getD i 0 + c'
  | [], s, _, i, hi, _ => by simp at hi
  | x :: l, [], _, i, _, hs => by simp at hs
  | x :: l, y :: s, h, i, hi, hs => by
    have e0 : chkD c' (x :: l) (y :: s) = @Bool.rec (fun _ => Bool) false (chkD c' l s) (Nat.ble x (Nat.add y c')) := rfl
    rw [e0] at h
    cases hb : Nat.ble x (Nat.add y c') with
    | false => rw [hb] at h; cases h
    | true =>
      rw [hb] at h
      cases i with
      | zero => exact Nat.le_of_ble_eq_true hb
      | succ i => simpa using chkD_ok c' l s h i (by simpa using hi) (by simpa using hs)
theorem chkE_ok : ∀ (l : List Nat) (k : Nat), chkE l k = true → ∀ i, i < l.length → l.getD i 0 ≤ 300 * (k + i)
  | [], k, _, i, hi => by simp at hi
  | x :: l, k, h, i, hi => by
    have e0 : chkE (x :: l) k = @Bool.rec (fun _ => Bool) false (chkE l (Nat.succ k)) (Nat.ble x (Nat.mul 300 k)) := rfl
    rw [e0] at h
    cases hb : Nat.ble x (Nat.mul 300 k) with
    | false => rw [hb] at h; cases h
    | true =>
      rw [hb] at h
      cases i with
      | zero => exact Nat.le_of_ble_eq_true hb
      | succ i =>
        have := chkE_ok l (Nat.succ k) h i (by simpa using hi)
        rw [show k + (i + 1) = Nat.succ k + i by omega]
        simpa using this
theorem chkF_ok (A B c' : Nat) : ∀ (l : List Nat) (k : Nat), chkF A B c' l k = true → ∀ i, i < l.length → rwq (B * (k + i) / A) ≤ l.getD i 0 + c'
  | [], k, _, i, hi => by simp at hi
  | x :: l, k, h, i, hi => by
    have e0 : chkF A B c' (x :: l) k = @Bool.rec (fun _ => Bool) false (chkF A B c' l (Nat.succ k)) (Nat.ble (rwq (Nat.div (Nat.mul B k) A)) (Nat.add x c')) := rfl
    rw [e0] at h
    cases hb : Nat.ble (rwq (Nat.div (Nat.mul B k) A)) (Nat.add x c') with
    | false => rw [hb] at h; cases h
    | true =>
      rw [hb] at h
      cases i with
      | zero => exact Nat.le_of_ble_eq_true hb
      | succ i =>
        have := chkF_ok A B c' l (Nat.succ k) h i (by simpa using hi)
        rw [show k + (i + 1) = Nat.succ k + i by omega]
        simpa using this
theorem chkG_ok (a la c : Nat) : ∀ (l : List Nat) (k : Nat), chkG a la c l k = true → ∀ i, i < l.length → a * (k + i) ≤ l.getD i 0 + la * (c + (k + i)) / 2
  | [], k, _, i, hi => by simp at hi
  | x :: l, k, h, i, hi => by
    have e0 : chkG a la c (x :: l) k = @Bool.rec (fun _ => Bool) false (chkG a la c l (Nat.succ k)) (Nat.ble (Nat.mul a k) (Nat.add x (Nat.div (Nat.mul la (Nat.add c k)) 2))) := rfl
    rw [e0] at h
    cases hb : Nat.ble (Nat.mul a k) (Nat.add x (Nat.div (Nat.mul la (Nat.add c k)) 2)) with
    | false => rw [hb] at h; cases h
    | true =>
      rw [hb] at h
      cases i with
      | zero => exact Nat.le_of_ble_eq_true hb
      | succ i =>
        have := chkG_ok a la c l (Nat.succ k) h i (by simpa using hi)
        rw [show k + (i + 1) = Nat.succ k + i by omega]
        simpa using this
/-- a table as a function; la: what every place adds, in halves -/
def kf (l : List Nat) (la n : Nat) : Nat := if n < l.length then l.getD n 0 + la * n / 2 else 400 * n
theorem kf_sup {l : List Nat} {la : Nat} (hla : la ≤ 200) (h : chkB l l = true) (hE : chkE l 0 = true) : SUP (kf l la) := by
  have half : ∀ a b, la * a / 2 + la * b / 2 ≤ la * (a + b) / 2 := fun a b => by rw [Nat.mul_add]; omega
  have big : ∀ a, kf l la a ≤ 400 * a := fun a => by
    unfold kf
    split
    · rename_i q
      have := chkE_ok l 0 hE a q
      have : la * a ≤ 200 * a := Nat.mul_le_mul_right _ hla
      omega
    · exact Nat.le_refl _
  have key : ∀ k i, kf l la k + kf l la (k + i) ≤ kf l la (k + (k + i)) := fun k i => by
    by_cases c : 2 * k + i < l.length
    · have := chkB_ok l l h k i (by omega) c
      unfold kf
      rw [if_pos (by omega), if_pos (by omega), if_pos (by omega), show k + (k + i) = 2 * k + i by omega]
      have h2 := half k (k + i)
      rw [show k + (k + i) = 2 * k + i by omega] at h2
      omega
    · have b1 := big k
      have b2 := big (k + i)
      have e : kf l la (k + (k + i)) = 400 * (k + (k + i)) := by unfold kf; rw [if_neg (by omega)]
      omega
  intro a b
  rcases Nat.le_total a b with q | q
  · have := key a (b - a)
    rw [show a + (b - a) = b by omega] at this
    exact this
  · have := key b (a - b)
    rw [show b + (a - b) = a by omega] at this
    rw [Nat.add_comm a b]; omega
theorem cpF_pow : ∀ l, l = 0 ∨ ∃ i, cpF l = 8 * 2 ^ i
  | 0 => Or.inl rfl
  | l + 1 => by
    right
    rw [cpF]
    by_cases c : l = cpF l
    · rw [if_pos c]
      rcases cpF_pow l with q | ⟨i, q⟩
      · exact ⟨0, by rw [q]; rfl⟩
      · refine ⟨i + 1, ?_⟩
        have hp : 0 < 2 ^ i := Nat.two_pow_pos i
        rw [Nat.pow_succ]
        omega
    · rw [if_neg c]
      rcases cpF_pow l with q | q
      · exact absurd (by rw [q]; rfl) c
      · exact q
theorem cpF_cap (j : Nat) : ∀ l, l ≤ 8 * 2 ^ j → cpF l ≤ 8 * 2 ^ j
  | 0, _ => Nat.zero_le _
  | l + 1, h => by
    have hp : 0 < 2 ^ j := Nat.two_pow_pos j
    rw [cpF]
    by_cases c : l = cpF l
    · rw [if_pos c]
      rcases cpF_pow l with q | ⟨i, q⟩
      · rw [q]; show 8 ≤ _; omega
      · have hi : 0 < 2 ^ i := Nat.two_pow_pos i
        have lt : i < j := by
          refine Classical.byContradiction (fun w => ?_)
          have : 2 ^ j ≤ 2 ^ i := Nat.pow_le_pow_right (by decide) (by omega)
          omega
        have : 2 ^ (i + 1) ≤ 2 ^ j := Nat.pow_le_pow_right (by decide) lt
        rw [Nat.pow_succ] at this
        omega
    · rw [if_neg c]
      exact cpF_cap j l (by omega)
theorem rw_cap {l c : Nat} (j : Nat) (hc : 8 * 2 ^ j = c) (h : l ≤ c) : rwS l ≤ 2 * c - 6 := by
  have := cpF_cap j l (by omega)
  have hp : 0 < 2 ^ j := Nat.two_pow_pos j
  unfold rwS rp
  omega
/-- rows by the table of capacities -/
theorem rwS_q {l k : Nat} (h : l ≤ k) (hk : k ≤ 4096) : rwS l ≤ rwq k := by
  have B : ∀ c, Nat.ble k c = true → l ≤ c := fun c q => Nat.le_trans h (Nat.le_of_ble_eq_true q)
  unfold rwq
  cases h1 : Nat.ble k 128 with
  | true =>
    cases h2 : Nat.ble k 16 with
    | true =>
      cases h3 : Nat.ble k 8 with
      | true => exact rw_cap 0 (c := 8) rfl (B _ h3)
      | false => exact rw_cap 1 (c := 16) rfl (B _ h2)
    | false =>
      cases h3 : Nat.ble k 32 with
      | true => exact rw_cap 2 (c := 32) rfl (B _ h3)
      | false =>
        cases h4 : Nat.ble k 64 with
        | true => exact rw_cap 3 (c := 64) rfl (B _ h4)
        | false => exact rw_cap 4 (c := 128) rfl (B _ h1)
  | false =>
    cases h2 : Nat.ble k 1024 with
    | true =>
      cases h3 : Nat.ble k 256 with
      | true => exact rw_cap 5 (c := 256) rfl (B _ h3)
      | false =>
        cases h4 : Nat.ble k 512 with
        | true => exact rw_cap 6 (c := 512) rfl (B _ h4)
        | false => exact rw_cap 7 (c := 1024) rfl (B _ h2)
    | false =>
      cases h3 : Nat.ble k 2048 with
      | true => exact rw_cap 8 (c := 2048) rfl (B _ h3)
      | false => exact rw_cap 9 (c := 4096) rfl (by omega)
theorem getD_drop (l : List Nat) (c i : Nat) : (l.drop c).getD i 0 = l.getD (c + i) 0 := by
  rw [List.getD_eq_getElem?_getD, List.getD_eq_getElem?_getD, List.getElem?_drop]
theorem kf_in {l : List Nat} {la n : Nat} (h : n < l.length) : kf l la n = l.getD n 0 + la * n / 2 := by
  unfold kf; rw [if_pos h]
/-- one step of the tables -/
def TS1 (A B e cM cR cE cO a5 a4 aS la N : Nat) (k ep : List Nat) : Prop := k.length = N + 1 ∧ ep.length = N + 1 ∧ chkB k k = true ∧ chkB ep ep = true ∧ chkE k 0 = true ∧ chkE ep 0 = true ∧ chkD (la * cR / 2) ep (k.drop cR) = true ∧ chkF A B (la * cR / 2) (k.drop (cR + 2)) 2 = true ∧ chkG aS la cR (k.drop (cR + 1)) 1 = true ∧ chkG aS la cM (k.drop (cM + 2)) 2 = true ∧ a5 ≤ kf k la (cM + 1)
def TS2 (A B e cM cE cO a5 a4 la : Nat) (k k' ep' : List Nat) : Prop := chkC A B e (a5 + a4) (la * (cM + cO) / 2) k 0 (k'.drop (cM + cO)) = true ∧ chkC A B e (a5 + a4) (la * (cE + cO) / 2) k 0 (ep'.drop (cE + cO)) = true
variable {S : SC} {th : Nat → Int64 → List UInt8 → Nat} {A B e cM cR cE cO a5 a4 aS la N : Nat} {tk te : Nat → List Nat}
/-- the tables do what they must -/
theorem DT_tab (hA : 0 < A) (hla : la ≤ 200) (h1 : ∀ d, d < 8 → TS1 A B e cM cR cE cO a5 a4 aS la N (tk d) (te d)) (h2 : ∀ d, d < 7 → TS2 A B e cM cE cO a5 a4 la (tk d) (tk (d + 1)) (te (d + 1))) (h3 : a5 + a4 ≤ kf (tk 0) la (cM + cO) ∧ a5 + a4 ≤ kf (te 0) la (cE + cO)) (hBN : B * N ≤ 4096 * A)
    (t1 : ∀ f x o, f < nF_ S → plain S f → 1 ≤ th f x o ∧ (qr S f = 1 → A * (numE S f x).length ≤ B * (cE + th f x o) ∧ 2 ≤ cE + th f x o ∧ 2 * a5 ≤ la * (cE + th f x o)))
    (t2 : ∀ f x o, f < nF_ S → ¬ plain S f → ¬ isM S f → o.length + 2 ≤ th f x o) : DT S th cM cR cE cO a5 a4 aS N rwS (fun s => rwq (max 15 ((B * s - e) / A))) (fun d => kf (tk d) la) (fun d => kf (te d) la) := by
  have half : ∀ a b, la * a / 2 + la * b / 2 ≤ la * (a + b) / 2 := fun a b => by rw [Nat.mul_add]; omega
  have sup : ∀ d, d < 8 → SUP (kf (tk d) la) ∧ SUP (kf (te d) la) := fun d hd => by
    obtain ⟨q1, q2, q3, q4, q5, q6, -⟩ := h1 d hd
    exact ⟨kf_sup hla q3 q5, kf_sup hla q4 q6⟩
  refine ⟨sup, fun d y hd hy => ⟨?_, fun y1 => ?_⟩, fun d' hd d f ss hf hpl hr hall hne hN => ?_, fun d' f x o hd hf hnp hM => ⟨?_, ?_, fun hN => ?_⟩, fun d' f x o hd hf hpl hN => ?_, h3, fun d s hd => ⟨fun hN => ?_, fun hN => ?_⟩⟩
  · obtain ⟨q1, q2, q3, q4, q5, q6, q7, -⟩ := h1 d hd
    have := chkD_ok _ _ _ q7 y (by omega) (by rw [List.length_drop]; omega)
    rw [getD_drop] at this
    show kf (te d) la y ≤ kf (tk d) la (cR + y)
    rw [kf_in (by omega), kf_in (by omega)]
    have := half cR y
    omega
  · obtain ⟨q1, q2, q3, q4, q5, q6, q7, q8, q9, -⟩ := h1 d hd
    have := chkG_ok _ _ _ _ _ q9 (y - 1) (by rw [List.length_drop]; omega)
    rw [getD_drop, show 1 + (y - 1) = y by omega, show cR + 1 + (y - 1) = cR + y by omega] at this
    show _ ≤ kf (tk d) la (cR + y)
    rw [kf_in (by omega)]
    exact this
  · obtain ⟨q1, q2, q3, q4, q5, q6, q7, q8, -⟩ := h1 d' hd
    obtain ⟨y, hy⟩ : ∃ y, y = (ss.map (fun s => cE + th s.1 s.2.1 s.2.2.1)).sum := ⟨_, rfl⟩
    rw [← hy] at hN ⊢
    have l1 : A * (pkE S f ss).length ≤ B * y := by
      rw [pk_sum, hy]
      exact sumAB ss (fun s hs => by rw [hall s hs]; exact ((t1 f s.2.1 s.2.2.1 hf hpl).2 hr).1)
    have l2 : 2 * (a5 * ss.length) ≤ la * y ∧ 2 * ss.length ≤ y := by
      rw [hy]
      have : ∀ l : List (SV d), (∀ s, s ∈ l → s.1 = f) → 2 * (a5 * l.length) ≤ la * (l.map (fun s => cE + th s.1 s.2.1 s.2.2.1)).sum ∧ 2 * l.length ≤ (l.map (fun s => cE + th s.1 s.2.1 s.2.2.1)).sum := fun l => by
        induction l with
        | nil => intro _; simp
        | cons x l ih =>
          intro q
          have hx := q x List.mem_cons_self
          obtain ⟨i1, i2⟩ := ih (fun s hs => q s (List.mem_cons_of_mem _ hs))
          have w := (t1 f x.2.1 x.2.2.1 hf hpl).2 hr
          rw [List.map_cons, List.sum_cons, List.length_cons, hx, Nat.mul_add la (cE + th f x.2.1 x.2.2.1), Nat.mul_add a5]
          omega
      exact this ss hall
    have y2 : 2 ≤ y := by
      have : 1 ≤ ss.length := List.length_pos_iff.mpr hne
      omega
    have hk : (pkE S f ss).length ≤ B * y / A := by
      rw [Nat.le_div_iff_mul_le hA, Nat.mul_comm]; exact l1
    have hb : B * y / A ≤ 4096 := by
      have : B * y ≤ B * N := Nat.mul_le_mul_left _ (by omega)
      refine Nat.le_trans (Nat.div_le_div_right (Nat.le_trans this hBN)) ?_
      rw [Nat.mul_div_cancel _ hA]; exact Nat.le_refl _
    have r1 := rwS_q hk hb
    have r2 := chkF_ok _ _ _ _ _ q8 (y - 2) (by rw [List.length_drop]; omega)
    rw [getD_drop, show 2 + (y - 2) = y by omega, show cR + 2 + (y - 2) = cR + y by omega] at r2
    show _ ≤ kf (tk d') la (cR + y)
    rw [kf_in (by omega)]
    have := half cR y
    omega
  · have := t2 f x o hf hnp hM
    exact Nat.mul_le_mul_left _ (by omega)
  · have := t2 f x o hf hnp hM
    omega
  · obtain ⟨q1, q2, q3, q4, q5, q6, q7, q8, q9, qA, -⟩ := h1 d' hd
    have t := t2 f x o hf hnp hM
    have := chkG_ok _ _ _ _ _ qA (th f x o - 2) (by rw [List.length_drop]; omega)
    rw [getD_drop, show 2 + (th f x o - 2) = th f x o by omega, show cM + 2 + (th f x o - 2) = cM + th f x o by omega] at this
    show _ ≤ kf (tk d') la (cM + th f x o)
    rw [kf_in (by omega)]
    have : aS * (o.length + 2) ≤ aS * th f x o := Nat.mul_le_mul_left _ t
    omega
  · obtain ⟨q1, q2, q3, q4, q5, q6, q7, q8, q9, qA, qB⟩ := h1 d' hd
    have t := (t1 f x o hf hpl).1
    exact Nat.le_trans qB ((sup d' hd).1.mono (by omega))
  · obtain ⟨p1, -⟩ := h1 d (by omega)
    obtain ⟨p2, p3, -⟩ := h1 (d + 1) (by omega)
    have := chkC_ok _ _ _ _ _ _ _ _ (h2 d hd).1 s (by omega) (by rw [List.length_drop]; omega)
    rw [getD_drop, Nat.zero_add] at this
    show _ + (rwq (max 15 ((B * s - e) / A)) + a4 + kf (tk d) la s) ≤ kf (tk (d + 1)) la (cM + (cO + s))
    rw [← Nat.add_assoc cM, kf_in (by omega), kf_in (by omega)]
    have := half (cM + cO) s
    omega
  · obtain ⟨p1, -⟩ := h1 d (by omega)
    obtain ⟨p2, p3, -⟩ := h1 (d + 1) (by omega)
    have := chkC_ok _ _ _ _ _ _ _ _ (h2 d hd).2 s (by omega) (by rw [List.length_drop]; omega)
    rw [getD_drop, Nat.zero_add] at this
    show _ + (rwq (max 15 ((B * s - e) / A)) + a4 + kf (tk d) la s) ≤ kf (te (d + 1)) la (cE + (cO + s))
    rw [← Nat.add_assoc cE, kf_in (by omega), kf_in (by omega)]
    have := half (cE + cO) s
    omega
end D8
