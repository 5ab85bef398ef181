set_option maxRecDepth 100000
/-! JSON: which member gave what a message holds for a field -/
def hdS {d : Nat} (f : Nat) (l : List (SV d)) : Option (SV d) := (drp f l).head?
abbrev dps {d : Nat} (S : SC) (s : SV d) : Prop := (¬ isM S s.1 ∧ s.2.1 = 0 ∧ s.2.2.1 = []) ∧ ¬ keeps S s.1
/-- all values are of fields that were there -/
def IS {d : Nat} (seen : List Nat) (T : TV (d + 1)) : Prop := (∀ s ∈ t1 T, s.1 ∈ seen) ∧ ∀ s ∈ t2 T, s.1 ∈ seen
section Mt
variable {S : SC} {I : Nat → Nat} {n d : Nat}
theorem hdS_cons {f : Nat} (s : SV d) (l : List (SV d)) : hdS f (s :: l) = if s.1 = f then some s else hdS f l := by
  unfold hdS
  rw [drp_cons]
  split <;> rfl
theorem hdS_none {f : Nat} : ∀ (l : List (SV d)), (∀ s ∈ l, s.1 ≠ f) → hdS f l = none
  | [], _ => rfl
  | s :: l, h => by
    rw [hdS_cons, if_neg (h s List.mem_cons_self)]
    exact hdS_none l (fun x hx => h x (List.mem_cons_of_mem _ hx))
theorem rws_none {f : Nat} {l : List (SV d)} (h : ∀ s ∈ l, s.1 ≠ f) : rws f l = [] := by
  unfold rws
  rw [List.filter_eq_nil_iff]
  exact fun s hs q => h s hs (of_decide_eq_true q)
theorem rws_all {f : Nat} {l : List (SV d)} (h : ∀ s ∈ l, s.1 = f) : rws f l = l := by
  unfold rws
  rw [List.filter_eq_self]
  exact fun s hs => decide_eq_true (h s hs)
theorem rws_app {f : Nat} (a b : List (SV d)) : rws f (a ++ b) = rws f a ++ rws f b := List.filter_append ..
theorem t2_fold {f : Nat} (hr : qr S f = 1) : ∀ (ss : List (SV d)) (T : TV (d + 1)), (∀ s ∈ ss, s.1 = f) → t2 (ss.foldl (put S) T) = t2 T ++ ss
  | [], T, _ => by show t2 T = t2 T ++ []; rw [List.append_nil]
  | s :: ss, T, h => by
    have e : put S T s = mk (t1 T) (t2 T ++ [s]) := by unfold put; rw [if_pos (by rw [h s List.mem_cons_self]; exact hr)]
    rw [List.foldl_cons, t2_fold hr ss _ (fun x hx => h x (List.mem_cons_of_mem _ hx)), e]
    show (t2 T ++ [s]) ++ ss = _
    rw [List.append_assoc]; rfl
theorem put_one {T : TV (d + 1)} {s : SV d} {seen : List Nat} (hi : IS seen T) (hs : s.1 ∉ seen) (ho : ¬ hasO S T s.1 = true) (hr : qr S s.1 ≠ 1) : put S T s = mk (if dps S s then t1 T else s :: t1 T) (t2 T) := by
  have ef : (t1 T).filter (fun t => !decide (goes S s.1 t.1)) = t1 T := by
    rw [List.filter_eq_self]
    intro t ht
    have : ¬ goes S s.1 t.1 := by
      rintro (q | ⟨q1, q2⟩)
      · exact hs (q ▸ hi.1 t ht)
      · refine ho ?_
        unfold hasO
        rw [Bool.and_eq_true]
        refine ⟨decide_eq_true q1, List.any_eq_true.mpr ⟨t, ht, decide_eq_true ⟨fun q => hs (q ▸ hi.1 t ht), q2⟩⟩⟩
    rw [decide_eq_false this]; rfl
  unfold put
  rw [if_neg hr, ef]
  by_cases c : dps S s
  · rw [if_pos c, if_pos c]
  · rw [if_neg c, if_neg c]
variable {sp : Nat → Nat → Option (Nat × TV d)} {m : Nat}
theorem mem1_inv {p : Nat} {seen : List Nat} {T : TV (d + 1)} {x : Nat × Nat × TV (d + 1)} (g : mem1 S I n sp m p seen T = some x) : ∃ r, strX I n (bl I n p) = some r ∧ byN S m r.2 = some x.1 ∧ x.1 ∉ seen ∧ lk I n (bl I n r.1) = 58 ∧ ((lit I n (bl I n (bl I n r.1 + 1)) 5 ∧ x.2 = (bl I n (bl I n r.1 + 1) + slen 5, T)) ∨ (¬ lit I n (bl I n (bl I n r.1 + 1)) 5 ∧ ¬ hasO S T x.1 = true ∧ ∃ ss, itmS S I n sp x.1 (bl I n (bl I n r.1 + 1)) = some (x.2.1, ss) ∧ x.2.2 = ss.foldl (put S) T)) := by
  unfold mem1 at g
  cases es : strX I n (bl I n p) with
  | none => rw [es] at g; cases g
  | some r =>
    rw [es] at g
    change ((byN S m r.2).bind _) = _ at g
    cases eb : byN S m r.2 with
    | none => rw [eb] at g; cases g
    | some f =>
      rw [eb] at g
      change (if f ∈ seen ∨ lk I n (bl I n r.1) ≠ 58 then none else _) = _ at g
      by_cases c1 : f ∈ seen ∨ lk I n (bl I n r.1) ≠ 58
      · rw [if_pos c1] at g; cases g
      · rw [if_neg c1] at g
        have c58 : lk I n (bl I n r.1) = 58 := by
          by_cases q : lk I n (bl I n r.1) = 58
          · exact q
          · exact absurd (Or.inr q) c1
        by_cases c2 : lit I n (bl I n (bl I n r.1 + 1)) 5
        · rw [if_pos c2] at g
          cases g
          exact ⟨r, rfl, eb, fun q => c1 (Or.inl q), c58, Or.inl ⟨c2, rfl⟩⟩
        · rw [if_neg c2] at g
          by_cases c3 : hasO S T f = true
          · rw [if_pos c3] at g; cases g
          · rw [if_neg c3] at g
            cases ei : itmS S I n sp f (bl I n (bl I n r.1 + 1)) with
            | none => rw [ei] at g; cases g
            | some y =>
              rw [ei] at g
              cases g
              exact ⟨r, rfl, eb, fun q => c1 (Or.inl q), c58, Or.inr ⟨c2, c3, y.2, ei, rfl⟩⟩
/-- what a message holds for a field comes from the value at q -/
def Itm {d : Nat} (S : SC) (I : Nat → Nat) (n : Nat) (sp : Nat → Nat → Option (Nat × TV d)) (f q : Nat) (T : TV (d + 1)) : Prop := ∃ e ss, itmS S I n sp f q = some (e, ss) ∧ (qr S f = 1 → rws f (t2 T) = ss) ∧ (qr S f ≠ 1 → ∃ s, ss = [s] ∧ hdS f (t1 T) = if dps S s then none else some s)
def Nth {d : Nat} (f : Nat) (T : TV (d + 1)) : Prop := hdS f (t1 T) = none ∧ rws f (t2 T) = []
theorem IS.nth {seen : List Nat} {T : TV (d + 1)} (h : IS seen T) {f : Nat} (hf : f ∉ seen) : Nth f T := ⟨hdS_none _ (fun s hs q => hf (q ▸ h.1 s hs)), rws_none (fun s hs q => hf (q ▸ h.2 s hs))⟩
theorem mem1_tree {p : Nat} {seen : List Nat} {T : TV (d + 1)} {x : Nat × Nat × TV (d + 1)} (hi : IS seen T) (g : mem1 S I n sp m p seen T = some x) : IS (x.1 :: seen) x.2.2 ∧ (∀ f, f ≠ x.1 → hdS f (t1 x.2.2) = hdS f (t1 T) ∧ rws f (t2 x.2.2) = rws f (t2 T)) ∧ ∃ r, strX I n (bl I n p) = some r ∧ byN S m r.2 = some x.1 ∧ x.1 ∉ seen ∧ lk I n (bl I n r.1) = 58 ∧ ((lit I n (bl I n (bl I n r.1 + 1)) 5 ∧ Nth x.1 x.2.2 ∧ x.2.1 = bl I n (bl I n r.1 + 1) + slen 5) ∨ (¬ lit I n (bl I n (bl I n r.1 + 1)) 5 ∧ Itm S I n sp x.1 (bl I n (bl I n r.1 + 1)) x.2.2 ∧ ∃ ss, itmS S I n sp x.1 (bl I n (bl I n r.1 + 1)) = some (x.2.1, ss))) := by
  obtain ⟨r, a1, a2, a3, a4, a5⟩ := mem1_inv g
  have hi' : IS (x.1 :: seen) T := ⟨fun s hs => List.mem_cons_of_mem _ (hi.1 s hs), fun s hs => List.mem_cons_of_mem _ (hi.2 s hs)⟩
  have hn := hi.nth a3
  rcases a5 with ⟨b1, b2⟩ | ⟨b1, b2, ss, b3, b4⟩
  · have e1 : x.2.1 = bl I n (bl I n r.1 + 1) + slen 5 := by rw [b2]
    have e2 : x.2.2 = T := by rw [b2]
    rw [e2]
    exact ⟨hi', fun f _ => ⟨rfl, rfl⟩, r, a1, a2, a3, a4, Or.inl ⟨b1, hn, e1⟩⟩
  · have hf := itmS_f b3
    by_cases cr : qr S x.1 = 1
    · have q1 : t1 x.2.2 = t1 T := by rw [b4]; exact fold_rep cr ss T hf.1
      have q2 : t2 x.2.2 = t2 T ++ ss := by rw [b4]; exact t2_fold cr ss T hf.1
      refine ⟨⟨by rw [q1]; exact hi'.1, ?_⟩, fun f hfx => ⟨by rw [q1], ?_⟩, r, a1, a2, a3, a4, Or.inr ⟨b1, ⟨x.2.1, ss, b3, fun _ => ?_, fun w => absurd cr w⟩, ss, b3⟩⟩
      · rw [q2]
        intro s hs
        rcases List.mem_append.mp hs with w | w
        · exact hi'.2 s w
        · rw [hf.1 s w]; exact List.mem_cons_self
      · rw [q2, rws_app, rws_none (l := ss) (fun s hs w => hfx (by rw [← w, hf.1 s hs])), List.append_nil]
      · rw [q2, rws_app, hn.2, rws_all hf.1]; rfl
    · obtain ⟨s, es⟩ := hf.2 cr
      have es : ss = [s] := es
      have hs1 : s.1 = x.1 := hf.1 s (by show s ∈ ss; rw [es]; exact List.mem_cons_self)
      have ep : x.2.2 = mk (if dps S s then t1 T else s :: t1 T) (t2 T) := by
        rw [b4, es]
        exact put_one hi (by rw [hs1]; exact a3) (by rw [hs1]; exact b2) (by rw [hs1]; exact cr)
      have q1 : t1 x.2.2 = if dps S s then t1 T else s :: t1 T := by rw [ep]; rfl
      have q2 : t2 x.2.2 = t2 T := by rw [ep]; rfl
      refine ⟨⟨?_, by rw [q2]; exact hi'.2⟩, fun f hfx => ⟨?_, by rw [q2]⟩, r, a1, a2, a3, a4, Or.inr ⟨b1, ⟨x.2.1, ss, b3, fun w => absurd w cr, fun _ => ⟨s, es, ?_⟩⟩, ss, b3⟩⟩
      · rw [q1]
        intro t ht
        split at ht
        · exact hi'.1 t ht
        · rcases List.mem_cons.mp ht with w | w
          · rw [w, hs1]; exact List.mem_cons_self
          · exact hi'.1 t w
      · rw [q1]
        split
        · rfl
        · rw [hdS_cons, if_neg (by rw [hs1]; exact fun w => hfx w.symm)]
      · rw [q1]
        by_cases c : dps S s
        · rw [if_pos c, if_pos c]; exact hn.1
        · rw [if_neg c, if_neg c, hdS_cons, if_pos hs1]
theorem memL_keep : ∀ (c p : Nat) (seen : List Nat) (T : TV (d + 1)) (e : Nat × TV (d + 1)), IS seen T → memL S I n sp m c p seen T = some e → ∀ f, f ∈ seen → hdS f (t1 e.2) = hdS f (t1 T) ∧ rws f (t2 e.2) = rws f (t2 T)
  | 0, p, seen, T, e, _, g => by cases g
  | c + 1, p, seen, T, e, hi, g => fun f hf => by
    rw [memL_1] at g
    cases e1 : mem1 S I n sp m p seen T with
    | none => rw [e1] at g; cases g
    | some x =>
      rw [e1] at g
      change (if lk I n (bl I n x.2.1) = 44 then memL S I n sp m c (bl I n x.2.1 + 1) (x.1 :: seen) x.2.2 else if lk I n (bl I n x.2.1) = 125 then some (bl I n x.2.1 + 1, x.2.2) else none) = _ at g
      obtain ⟨t1', t2', r, -, -, t3', -⟩ := mem1_tree hi e1
      have hne : f ≠ x.1 := fun q => t3' (q ▸ hf)
      split at g
      · have := memL_keep c _ _ _ _ t1' g f (List.mem_cons_of_mem _ hf)
        rw [this.1, this.2]
        exact t2' f hne
      · split at g
        · cases g; exact t2' f hne
        · cases g
theorem Itm.keep {f q : Nat} {T T' : TV (d + 1)} (h : Itm S I n sp f q T) (h1 : hdS f (t1 T') = hdS f (t1 T)) (h2 : rws f (t2 T') = rws f (t2 T)) : Itm S I n sp f q T' := by
  obtain ⟨e, ss, a1, a2, a3⟩ := h
  exact ⟨e, ss, a1, by rw [h2]; exact a2, by rw [h1]; exact a3⟩
end Mt
