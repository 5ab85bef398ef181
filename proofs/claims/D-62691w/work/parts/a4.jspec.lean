set_option maxRecDepth 100000
/-! JSON, WRITTEN: the text of a message; values, as the system writes them -/
/-- the value of an enum with a number -/
def vno (S : SC) (e : Nat) (x : Int64) : Option Nat := (List.range (nV_ S)).find? (fun v => decide (ve S v = e ∧ lN (vn S v) = x))
def VO (S : SC) (e : Nat) (x : Int64) (o : Option Nat) : Prop := match o with
  | some v => v < nV_ S ∧ ve S v = e ∧ lN (vn S v) = x
  | none => ∀ v, v < nV_ S → ve S v = e → lN (vn S v) ≠ x
theorem vno_ok (S : SC) (e : Nat) (x : Int64) : VO S e x (vno S e x) := by
  cases h : vno S e x with
  | none => exact fun v hv he hx => List.find?_eq_none.mp h v (List.mem_range.mpr hv) (decide_eq_true ⟨he, hx⟩)
  | some v =>
    have q1 := List.find?_some h
    exact ⟨List.mem_range.mp (List.mem_of_find?_eq_some h), (of_decide_eq_true q1).1, (of_decide_eq_true q1).2⟩
theorem VO.uniq {S : SC} (hS : SW S) {e : Nat} {x : Int64} {o o' : Option Nat} (h : VO S e x o) (h' : VO S e x o') : o = o' := by
  have hb : ∀ v, v < nV_ S → vn S v < 1000000000 := fun v hv => (hS.2.2.2.2.2.2.2.1 v hv).2.2
  cases o with
  | none =>
    cases o' with
    | none => rfl
    | some v => exact absurd h'.2.2 (h v h'.1 h'.2.1)
  | some v =>
    cases o' with
    | none => exact absurd h.2.2 (h' v h.1 h.2.1)
    | some u =>
      by_cases c : v = u
      · rw [c]
      · have h1 := hb v h.1
        have h2 := hb u h'.1
        have q := h.2.2.trans h'.2.2.symm
        rw [lN_inj (by show _ < 18446744073709551616; omega) (by show _ < 18446744073709551616; omega)] at q
        exact absurd q (hS.2.2.2.2.2.2.2.2 v u h.1 h'.1 c (h.2.1.trans h'.2.1.symm)).2
/-- the text of a number of a field -/
def nvT (S : SC) (f : Nat) (x : Int64) : List UInt8 := if qk S f = 8 then (if x = 0 then sxB 4 else sxB 3) else if 32 ≤ qk S f then (match vno S (qk S f - 32) x with | some v => escT (vw_ S v) | none => numT x false) else if qk S f = 1 ∨ qk S f = 3 ∨ qk S f = 5 ∨ qk S f = 7 then 34 :: (numT x (decide (qk S f = 3 ∨ qk S f = 7)) ++ [34]) else numT x false
def slT {d : Nat} (S : SC) (js : Nat → TV d → List UInt8) (s : SV d) : List UInt8 := if isM S s.1 then js (qk S s.1 - 16) s.2.2.2 else if qk S s.1 = 9 then escT s.2.2.1 else if qk S s.1 = 10 then b64T s.2.2.1 else nvT S s.1 s.2.1
/-- one behind the other, with commas -/
def cm : Bool → List (List UInt8) → List UInt8
  | _, [] => []
  | b, x :: xs => (if b = true then [44] else []) ++ (x ++ cm true xs)
theorem cm_app : ∀ (b : Bool) (l r : List (List UInt8)), cm b (l ++ r) = cm b l ++ cm (b || !l.isEmpty) r
  | b, [], r => by cases b <;> rfl
  | b, x :: l, r => by
    show (if b = true then [44] else []) ++ (x ++ cm true (l ++ r)) = (if b = true then [44] else []) ++ (x ++ cm true l) ++ cm (b || true) r
    rw [cm_app true l r, Bool.or_true, Bool.true_or]
    simp only [List.append_assoc]
def fldT {d : Nat} (S : SC) (js : Nat → TV d → List UInt8) (T : TV (d + 1)) (f : Nat) : Option (List UInt8) := if qr S f = 1 then (if rws f (t2 T) = [] then none else some (91 :: (cm false ((rws f (t2 T)).map (slT S js)) ++ [93]))) else (hdS f (t1 T)).map (slT S js)
def mbT2 {d : Nat} (S : SC) (js : Nat → TV d → List UInt8) (T : TV (d + 1)) (f : Nat) : Option (List UInt8) := (fldT S js T f).map fun t => escT (jsn (qw S f)) ++ (58 :: t)
def js (S : SC) (od : Nat → List Nat) : (d : Nat) → Nat → TV d → List UInt8
  | 0, _, _ => []
  | d + 1, m, T => 123 :: (cm false ((od m).filterMap (mbT2 S (js S od d) T)) ++ [125])
/-- texts in a tree are short -/
def TS : (d : Nat) → TV d → Prop
  | 0, _ => True
  | d + 1, T => (∀ s ∈ t1 T, s.2.2.1.length ≤ 1000 ∧ TS d s.2.2.2) ∧ ∀ s ∈ t2 T, s.2.2.1.length ≤ 1000 ∧ TS d s.2.2.2
/-- a row that no name of the schema lies in -/
def NR (a : Nat) (σ : ST) (S : SC) (fa ea : Nat → Nat) : Prop := (∀ f, f < nF_ S → sR σ 129 (fa f) ≠ some a ∧ sR σ 130 (fa f) ≠ some a) ∧ ∀ e nl j, e < S.2.1 → sR σ 114 (ea e) = some nl → j < (vls S e).length → (sA σ nl).getD j 0 ≠ a
def HSn (a z : Nat) (σ : ST) (S : SC) (fa ma ea : Nat → Nat) (od : Nat → List Nat) : Prop := HSc z σ S fa ma ea od ∧ NR a σ S fa ea
theorem HSn.frA {a z : Nat} {σ σ' : ST} {S : SC} {fa ma ea : Nat → Nat} {od : Nat → List Nat} (h : HSn a z σ S fa ma ea od) (ha : sc σ a = 4) (hF : FR (fun b => b = a) σ σ') : HSn a z σ' S fa ma ea od := by
  obtain ⟨⟨h1, h2, h3, h4, h5, h6⟩, n1, n2⟩ := h
  have sm : ∀ x, x < z → x ≠ a → SameB σ σ' x ∧ sc σ' x = sc σ x := fun x hx hn => ⟨(hF.2 x (by omega)).2 hn, (hF.2 x (by omega)).1⟩
  have ne : ∀ (x k : Nat), sc σ x = k → k ≠ 4 → x ≠ a := fun x k hk hn e => hn (by rw [← hk, e]; exact ha)
  have rw0 : ∀ (x y : Option Nat) (w : List UInt8), y = x → x ≠ some a → Rw0 z σ x w → Rw0 z σ' y w := fun x y w e hn q => by
    obtain ⟨b, a1, a2, a3, a4⟩ := q
    have hb : b ≠ a := fun u => hn (by rw [a1, u])
    exact ⟨b, by rw [e]; exact a1, a2, by rw [(sm b a2 hb).2]; exact a3, by rw [(sm b a2 hb).1.1]; exact a4⟩
  have sI' : ∀ k x, x < z → x ≠ a → sI σ' k x = sI σ k x := fun k x hx hn => (sm x hx hn).1.2.2.2.2.2.2.2.1 k
  have sR' : ∀ k x, x < z → x ≠ a → sR σ' k x = sR σ k x := fun k x hx hn => (sm x hx hn).1.2.2.2.2.2.2.2.2.2 k
  refine ⟨⟨Nat.le_trans h1 hF.1.1, fun f hf => ?_, h3, fun m hm => ?_, h5, fun e he => ?_⟩, fun f hf => ?_, fun e nl j he hn hj => ?_⟩
  · obtain ⟨b1, b2, b3, b4, b5, b6, b7, b8, b9, b10, b11, b12, b13⟩ := h2 f hf
    have w := ne _ _ b2 (by decide)
    obtain ⟨u1, u2⟩ := n1 f hf
    refine ⟨b1, by rw [(sm _ b1 w).2]; exact b2, by rw [sR' _ _ b1 w]; exact b3, rw0 _ _ _ (sR' _ _ b1 w) u1 b4, rw0 _ _ _ (sR' _ _ b1 w) u2 b5, by rw [sI' _ _ b1 w]; exact b6, by rw [sI' _ _ b1 w]; exact b7, by rw [sI' _ _ b1 w]; exact b8, by rw [sI' _ _ b1 w]; exact b9, by rw [sI' _ _ b1 w]; exact b10, by rw [sR' _ _ b1 w]; exact b11, by rw [sR' _ _ b1 w]; exact b12, ?_⟩
    rw [sI' _ _ b1 w]; exact b13
  · obtain ⟨b1, b2, b3, ⟨oa, c1, c2, c3, c4, c5⟩, b5, b6, b7⟩ := h4 m hm
    have w := ne _ _ b2 (by decide)
    have w2 := ne _ _ c3 (by decide)
    refine ⟨b1, by rw [(sm _ b1 w).2]; exact b2, by rw [sI' _ _ b1 w]; exact b3, ⟨oa, by rw [sR' _ _ b1 w]; exact c1, c2, by rw [(sm _ c2 w2).2]; exact c3, by rw [(sm _ c2 w2).1.2.2.1]; exact c4, fun j hj => by rw [(sm _ c2 w2).1.2.2.2.2.2.1]; exact c5 j hj⟩, b5, b6, b7⟩
  · obtain ⟨b1, b2, b3, nl, va, c1, c2, c3, c4, c5, c6, c7, c8, c9⟩ := h6 e he
    have w := ne _ _ b2 (by decide)
    have w2 := ne _ _ c3 (by decide)
    have w3 := ne _ _ c6 (by decide)
    refine ⟨b1, by rw [(sm _ b1 w).2]; exact b2, by rw [sI' _ _ b1 w]; exact b3, nl, va, by rw [sR' _ _ b1 w]; exact c1, c2, by rw [(sm _ c2 w2).2]; exact c3, by rw [sR' _ _ b1 w]; exact c4, c5, by rw [(sm _ c5 w3).2]; exact c6, by rw [(sm _ c5 w3).1.2.2.1]; exact c7, by rw [(sm _ c2 w2).1.2.1]; exact c8, fun j hj => ?_⟩
    obtain ⟨d1, d2⟩ := c9 j hj
    refine ⟨rw0 _ _ _ (by rw [(sm _ c2 w2).1.2.1]) (fun q => n2 e nl j he c1 hj (Option.some.inj q)) d1, ?_⟩
    rw [(sm _ c5 w3).1.2.2.2.2.1]; exact d2
  · obtain ⟨b1, b2, -⟩ := h2 f hf
    have w := ne _ _ b2 (by decide)
    rw [sR' _ _ b1 w, sR' _ _ b1 w]
    exact n1 f hf
  · obtain ⟨b1, b2, b3, nl', va, c1, c2, c3, -⟩ := h6 e he
    have w := ne _ _ b2 (by decide)
    rw [sR' _ _ b1 w] at hn
    have e1 : nl = nl' := Option.some.inj (hn.symm.trans c1)
    have w2 := ne _ _ c3 (by decide)
    rw [e1, (sm _ c2 w2).1.2.1]
    exact n2 e nl' j he c1 hj
def JWc (z : Nat) (S : SC) (fa ma ea : Nat → Nat) (od : Nat → List Nat) (a d : Nat) (rec : Nat × Nat → Option Nat → Option Nat → ST → Option ST) : Prop := ∀ (σ : ST) (va m : Nat) (T : TV d) (F : Nat → Prop), HSn a z σ S fa ma ea od → HV S fa ma d σ va m T F → RW σ a → a < sZ σ → ¬ F a → (∀ x, F x → x < sZ σ) → m < S.1 → TZ d T → TS d T → (sW σ a).length + (js S od d m T).length ≤ 6000000 → Rn id σ (fun bb => rec bb (some a) (some va) σ) (RA σ a (js S od d m T))
section Js
variable {z : Nat} {σ : ST} {S : SC} {fa ma ea : Nat → Nat} {od : Nat → List Nat} {a d : Nat} {rec : Nat × Nat → Option Nat → Option Nat → ST → Option ST}
theorem et_nameOf_L (hS : SW S) (hH : HSc z σ S fa ma ea od) {e : Nat} (he : e < S.2.1) (x : Int64) : ∀ (c N k : Nat), k + c = (vls S e).length → c < N → ∃ o : Option Nat, et_nameOf_L2 (ea e) x σ N (k : Int) = some (match o with | some j => Sum.inr ((j : Nat) : Int) | none => Sum.inl none) ∧ (match o with | some j => j < (vls S e).length ∧ lN (vn S ((vls S e).getD j 0)) = x | none => ∀ j, k ≤ j → j < (vls S e).length → lN (vn S ((vls S e).getD j 0)) ≠ x)
  | 0, N, k, h1, h2 => by
    obtain ⟨N, rfl⟩ : ∃ m, N = m + 1 := ⟨N - 1, by omega⟩
    obtain ⟨b1, b2, b3, nl, va, c1, c2, c3, c4, c5, c6, c7, c8, c9⟩ := hH.2.2.2.2.2 e he
    have h40 : (vls S e).length ≤ 40 := Nat.le_trans (List.length_filter_le _ _) (by rw [List.length_range]; exact hS.2.1)
    refine ⟨none, ?_, fun j q1 q2 => absurd q2 (by omega)⟩
    rw [et_nameOf_L2, gd_pos b2, c1, bind_some', gd_pos c3]
    unfold l_size
    rw [gd_pos c3, bind_some', c8, gd_pos (by omega), gd_pos (by omega), if_pos (by omega)]
  | c + 1, N, k, h1, h2 => by
    obtain ⟨N, rfl⟩ : ∃ m, N = m + 1 := ⟨N - 1, by omega⟩
    obtain ⟨b1, b2, b3, nl, va, c1, c2, c3, c4, c5, c6, c7, c8, c9⟩ := hH.2.2.2.2.2 e he
    have h40 : (vls S e).length ≤ 40 := Nat.le_trans (List.length_filter_le _ _) (by rw [List.length_range]; exact hS.2.1)
    have hk : k < (vls S e).length := by omega
    obtain ⟨-, j5⟩ := c9 k hk
    have hv := vls_in.mp (getD_mem hk)
    have hb := (hS.2.2.2.2.2.2.2.1 _ hv.1).2.2
    have eI : et_nameOf_L2 (ea e) x σ (N + 1) (k : Int) = if lN (vn S ((vls S e).getD k 0)) = x then (some (Sum.inr (k : Int))) else (et_nameOf_L2 (ea e) x σ N ((k : Int) + 1)) := by
      rw [et_nameOf_L2, gd_pos b2, c1, bind_some', gd_pos c3]
      unfold l_size
      rw [gd_pos c3, bind_some', c8, gd_pos (by omega), gd_pos (by omega), if_neg (by omega), c4, bind_some', gd_pos c6, c7, gd_pos (by omega), Int.toNat_natCast, j5, iL_n rfl (by omega)]
    rw [eI]
    by_cases q : lN (vn S ((vls S e).getD k 0)) = x
    · rw [if_pos q]
      exact ⟨some k, rfl, hk, q⟩
    · rw [if_neg q, show (k : Int) + 1 = ((k + 1 : Nat) : Int) by omega]
      obtain ⟨o, e1, e2⟩ := et_nameOf_L hS hH he x c N (k + 1) (by omega) (by omega)
      refine ⟨o, e1, ?_⟩
      cases o with
      | some f => exact e2
      | none =>
        intro j r1 r2
        rcases Nat.lt_or_ge k j with r | r
        · exact e2 j r r2
        · rw [show j = k by omega]; exact q
theorem et_nameOf_eq (hS : SW S) (hH : HSc z σ S fa ma ea od) {e : Nat} (he : e < S.2.1) (x : Int64) : ∃ o : Option Nat, et_nameOf (ea e) x σ = some o ∧ (match vno S e x with | some v => ∃ r, o = some r ∧ r < z ∧ sc σ r = 4 ∧ sW σ r = vw_ S v ∧ ∀ a, NR a σ S fa ea → r ≠ a | none => o = none) := by
  have h40 : (vls S e).length ≤ 40 := Nat.le_trans (List.length_filter_le _ _) (by rw [List.length_range]; exact hS.2.1)
  obtain ⟨o, e1, e2⟩ := et_nameOf_L hS hH he x (vls S e).length FU 0 (by omega) (FU_gt (by omega))
  have e1' : et_nameOf_L2 (ea e) x σ FU 0 = _ := e1
  unfold et_nameOf
  rw [e1', bind_some']
  cases o with
  | none =>
    have hv : VO S e x none := fun v hv hve => by
      obtain ⟨j, hj, ej⟩ := mem_getD (vls_in.mpr ⟨hv, hve⟩)
      rw [← ej]; exact e2 j (Nat.zero_le _) hj
    rw [← VO.uniq hS hv (vno_ok S e x)]
    exact ⟨none, rfl, rfl⟩
  | some j =>
    have hm := vls_in.mp (getD_mem e2.1)
    have hv : VO S e x (some ((vls S e).getD j 0)) := ⟨hm.1, hm.2, e2.2⟩
    rw [← VO.uniq hS hv (vno_ok S e x)]
    obtain ⟨b1, b2, b3, nl, va, c1, c2, c3, c4, c5, c6, c7, c8, c9⟩ := hH.2.2.2.2.2 e he
    obtain ⟨⟨jr, j1, j2, j3, j4⟩, -⟩ := c9 j e2.1
    have j1' : (sA σ nl).getD j 0 = jr := Option.some.inj j1
    refine ⟨some jr, ?_, jr, rfl, j2, j3, j4, fun a h q => h.2 e nl j he c1 e2.1 (j1'.trans q)⟩
    show gd (sc σ (ea e) = 8) (Option.bind (sR σ 114 (ea e)) fun p6 => gd (sc σ p6 = 16) (Option.bind (l_get p6 (j : Int) σ) fun y9 => Option.bind y9 fun p10 => gd (sc σ p10 = 4) (some ((some p10))))) = _
    unfold l_get
    have hj := e2.1
    rw [gd_pos b2, c1, bind_some', gd_pos c3, gd_pos ⟨c3, by rw [c8]; omega⟩, bind_some', bind_some', Int.toNat_natCast, j1', gd_pos j3]
end Js
