set_option maxRecDepth 100000
/-! JSON: what is read with little depth is read with more depth too -/
def upT : (d : Nat) → TV d → TV (d + 1)
  | 0, _ => emp 1
  | d + 1, T => mk ((t1 T).map (fun s => (s.1, s.2.1, s.2.2.1, upT d s.2.2.2))) ((t2 T).map (fun s => (s.1, s.2.1, s.2.2.1, upT d s.2.2.2)))
def upS (d : Nat) (s : SV d) : SV (d + 1) := (s.1, s.2.1, s.2.2.1, upT d s.2.2.2)
theorem up_succ {d : Nat} (T : TV (d + 1)) : upT (d + 1) T = mk ((t1 T).map (upS d)) ((t2 T).map (upS d)) := rfl
theorem up_emp : ∀ d, upT d (emp d) = emp (d + 1)
  | 0 => rfl
  | _ + 1 => rfl
section Up
variable {S : SC} {I : Nat → Nat} {n d : Nat}
theorem flt_up (l : List (SV d)) (f : Nat) : (l.map (upS d)).filter (fun t => !decide (goes S f t.1)) = (l.filter (fun t => !decide (goes S f t.1))).map (upS d) := by
  rw [List.filter_map]; rfl
theorem put_up (T : TV (d + 1)) (s : SV d) : put S (upT (d + 1) T) (upS d s) = upT (d + 1) (put S T s) := by
  have e1 : t1 (upT (d + 1) T) = (t1 T).map (upS d) := rfl
  have e2 : t2 (upT (d + 1) T) = (t2 T).map (upS d) := rfl
  have k1 : (upS d s).1 = s.1 := rfl
  have k2 : (upS d s).2.1 = s.2.1 := rfl
  have k3 : (upS d s).2.2.1 = s.2.2.1 := rfl
  unfold put
  rw [k1, k2, k3, e1, e2]
  by_cases c : qr S s.1 = 1
  · rw [if_pos c, if_pos c, up_succ]
    show mk _ _ = mk ((t1 T).map (upS d)) ((t2 T ++ [s]).map (upS d))
    rw [List.map_append]; rfl
  · rw [if_neg c, if_neg c]
    by_cases c2 : (¬ isM S s.1 ∧ s.2.1 = 0 ∧ s.2.2.1 = []) ∧ ¬ keeps S s.1
    · rw [if_pos c2, if_pos c2, up_succ, flt_up]; rfl
    · rw [if_neg c2, if_neg c2, up_succ, flt_up]; rfl
theorem hasO_up (T : TV (d + 1)) (f : Nat) : hasO S (upT (d + 1) T) f = hasO S T f := by
  unfold hasO
  have e1 : t1 (upT (d + 1) T) = (t1 T).map (upS d) := rfl
  rw [e1, List.any_map]; rfl
theorem fold_up : ∀ (ss : List (SV d)) (T : TV (d + 1)), (ss.map (upS d)).foldl (put S) (upT (d + 1) T) = upT (d + 1) (ss.foldl (put S) T)
  | [], T => rfl
  | s :: ss, T => by
    rw [List.map_cons, List.foldl_cons, List.foldl_cons, put_up]
    exact fold_up ss _
variable {rec : Nat → Nat → Option (Nat × TV d)} {rec' : Nat → Nat → Option (Nat × TV (d + 1))}
def LF {d : Nat} (rec : Nat → Nat → Option (Nat × TV d)) (rec' : Nat → Nat → Option (Nat × TV (d + 1))) : Prop := ∀ m p r, rec m p = some r → rec' m p = some (r.1, upT d r.2)
theorem valS_up (h : LF rec rec') {f p : Nat} {e : Nat × SV d} (g : valS S I n rec f p = some e) : valS S I n rec' f p = some (e.1, upS d e.2) := by
  unfold valS at g ⊢
  by_cases c : isM S f
  · rw [if_pos c] at g ⊢
    cases er : rec (qk S f - 16) p with
    | none => rw [er] at g; cases g
    | some r => rw [er] at g; cases g; rw [h _ _ _ er]; rfl
  · rw [if_neg c] at g ⊢
    cases er : sclS S I n f p with
    | none => rw [er] at g; cases g
    | some r =>
      rw [er] at g; cases g
      show some (r.1, f, r.2.1, r.2.2, emp (d + 1)) = some (r.1, f, r.2.1, r.2.2, upT d (emp d))
      rw [up_emp]
theorem arrL_up (h : LF rec rec') {f : Nat} : ∀ (c p : Nat) (acc : List (SV d)) (e : Nat × List (SV d)), arrL S I n rec f c p acc = some e → arrL S I n rec' f c p (acc.map (upS d)) = some (e.1, e.2.map (upS d))
  | 0, p, acc, e, g => by cases g
  | c + 1, p, acc, e, g => by
    rw [arrL] at g ⊢
    cases ev : valS S I n rec f (bl I n p) with
    | none => rw [ev] at g; cases g
    | some r =>
      rw [ev] at g
      rw [valS_up h ev]
      change (if lk I n (bl I n r.1) = 44 then arrL S I n rec f c (bl I n r.1 + 1) (acc ++ [r.2]) else if lk I n (bl I n r.1) = 93 then some (bl I n r.1 + 1, acc ++ [r.2]) else none) = some e at g
      show (if lk I n (bl I n r.1) = 44 then arrL S I n rec' f c (bl I n r.1 + 1) (acc.map (upS d) ++ [upS d r.2]) else if lk I n (bl I n r.1) = 93 then some (bl I n r.1 + 1, acc.map (upS d) ++ [upS d r.2]) else none) = _
      have ea : acc.map (upS d) ++ [upS d r.2] = (acc ++ [r.2]).map (upS d) := by rw [List.map_append]; rfl
      rw [ea]
      by_cases c1 : lk I n (bl I n r.1) = 44
      · rw [if_pos c1] at g ⊢
        exact arrL_up h c _ _ _ g
      · rw [if_neg c1] at g ⊢
        by_cases c2 : lk I n (bl I n r.1) = 93
        · rw [if_pos c2] at g ⊢
          cases g; rfl
        · rw [if_neg c2] at g; cases g
theorem arrS_up (h : LF rec rec') {f p : Nat} {e : Nat × List (SV d)} (g : arrS S I n rec f p = some e) : arrS S I n rec' f p = some (e.1, e.2.map (upS d)) := by
  unfold arrS at g ⊢
  by_cases c1 : lk I n p = 91
  · rw [if_pos c1] at g ⊢
    by_cases c2 : lk I n (bl I n (p + 1)) = 93
    · rw [if_pos c2] at g ⊢
      cases g; rfl
    · rw [if_neg c2] at g ⊢
      exact arrL_up h _ _ [] _ g
  · rw [if_neg c1] at g; cases g
theorem itmS_up (h : LF rec rec') {f p : Nat} {e : Nat × List (SV d)} (g : itmS S I n rec f p = some e) : itmS S I n rec' f p = some (e.1, e.2.map (upS d)) := by
  unfold itmS at g ⊢
  by_cases c : qr S f = 1
  · rw [if_pos c] at g ⊢
    exact arrS_up h g
  · rw [if_neg c] at g ⊢
    cases ev : valS S I n rec f p with
    | none => rw [ev] at g; cases g
    | some r => rw [ev] at g; cases g; rw [valS_up h ev]; rfl
theorem mem1_up (h : LF rec rec') {m p : Nat} {seen : List Nat} {T : TV (d + 1)} {x : Nat × Nat × TV (d + 1)} (g : mem1 S I n rec m p seen T = some x) : mem1 S I n rec' m p seen (upT (d + 1) T) = some (x.1, x.2.1, upT (d + 1) x.2.2) := by
  unfold mem1 at g ⊢
  cases es : strX I n (bl I n p) with
  | none => rw [es] at g; cases g
  | some r =>
    rw [es] at g
    change ((byN S m r.2).bind _) = _ at g
    show ((byN S m r.2).bind _) = _
    cases eb : byN S m r.2 with
    | none => rw [eb] at g; cases g
    | some f =>
      rw [eb] at g
      change (if f ∈ seen ∨ lk I n (bl I n r.1) ≠ 58 then none else _) = _ at g
      show (if f ∈ seen ∨ lk I n (bl I n r.1) ≠ 58 then none else _) = _
      by_cases c1 : f ∈ seen ∨ lk I n (bl I n r.1) ≠ 58
      · rw [if_pos c1] at g; cases g
      · rw [if_neg c1] at g ⊢
        by_cases c2 : lit I n (bl I n (bl I n r.1 + 1)) 5
        · rw [if_pos c2] at g ⊢
          cases g; rfl
        · rw [if_neg c2] at g ⊢
          rw [hasO_up]
          by_cases c3 : hasO S T f = true
          · rw [if_pos c3] at g; cases g
          · rw [if_neg c3] at g ⊢
            cases ei : itmS S I n rec f (bl I n (bl I n r.1 + 1)) with
            | none => rw [ei] at g; cases g
            | some y =>
              rw [ei] at g
              cases g
              rw [itmS_up h ei]
              show some (f, y.1, (y.2.map (upS d)).foldl (put S) (upT (d + 1) T)) = _
              rw [fold_up]
theorem memL_up (h : LF rec rec') {m : Nat} : ∀ (c p : Nat) (seen : List Nat) (T : TV (d + 1)) (e : Nat × TV (d + 1)), memL S I n rec m c p seen T = some e → memL S I n rec' m c p seen (upT (d + 1) T) = some (e.1, upT (d + 1) e.2)
  | 0, p, seen, T, e, g => by cases g
  | c + 1, p, seen, T, e, g => by
    rw [memL_1] at g ⊢
    cases e1 : mem1 S I n rec m p seen T with
    | none => rw [e1] at g; cases g
    | some x =>
      rw [e1] at g
      rw [mem1_up h e1]
      change (if lk I n (bl I n x.2.1) = 44 then memL S I n rec m c (bl I n x.2.1 + 1) (x.1 :: seen) x.2.2 else if lk I n (bl I n x.2.1) = 125 then some (bl I n x.2.1 + 1, x.2.2) else none) = _ at g
      show (if lk I n (bl I n x.2.1) = 44 then memL S I n rec' m c (bl I n x.2.1 + 1) (x.1 :: seen) (upT (d + 1) x.2.2) else if lk I n (bl I n x.2.1) = 125 then some (bl I n x.2.1 + 1, upT (d + 1) x.2.2) else none) = _
      by_cases c1 : lk I n (bl I n x.2.1) = 44
      · rw [if_pos c1] at g ⊢
        exact memL_up h c _ _ _ _ g
      · rw [if_neg c1] at g ⊢
        by_cases c2 : lk I n (bl I n x.2.1) = 125
        · rw [if_pos c2] at g ⊢
          cases g; rfl
        · rw [if_neg c2] at g; cases g
theorem objS_up : ∀ d, LF (objS S I n d) (objS S I n (d + 1))
  | 0 => fun m p r h => by cases h
  | d + 1 => fun m p r h => by
    rw [objS] at h
    rw [objS]
    by_cases c1 : lk I n p = 123
    · rw [if_pos c1] at h ⊢
      by_cases c2 : lk I n (bl I n (p + 1)) = 125
      · rw [if_pos c2] at h ⊢
        cases h
        show some (_, emp (d + 2)) = some (_, upT (d + 1) (emp (d + 1)))
        rw [up_emp]
      · rw [if_neg c2] at h ⊢
        have := memL_up (objS_up d) _ _ _ _ _ h
        rw [up_emp] at this
        exact this
    · rw [if_neg c1] at h; cases h
theorem valS_to {f p : Nat} {e : Nat × SV d} (g : valS S I n (objS S I n d) f p = some e) : ∀ k, ∃ s, valS S I n (objS S I n (d + k)) f p = some (e.1, s)
  | 0 => ⟨e.2, g⟩
  | k + 1 => by
    obtain ⟨s, h⟩ := valS_to g k
    exact ⟨_, valS_up (objS_up (d + k)) h⟩
theorem arrS_to {f p : Nat} {e : Nat × List (SV d)} (g : arrS S I n (objS S I n d) f p = some e) : ∀ k, ∃ s, arrS S I n (objS S I n (d + k)) f p = some (e.1, s)
  | 0 => ⟨e.2, g⟩
  | k + 1 => by
    obtain ⟨s, h⟩ := arrS_to g k
    exact ⟨_, arrS_up (objS_up (d + k)) h⟩
end Up
