set_option maxRecDepth 100000
/-! JSON: objects; what both sides read. A message's value is a tree: its single values, and those of its rows as they came -/
def TV : Nat → Type
  | 0 => Unit
  | d + 1 => List (Nat × Int64 × List UInt8 × TV d) × List (Nat × Int64 × List UInt8 × TV d)
abbrev SV (d : Nat) : Type := Nat × Int64 × List UInt8 × TV d
def emp : (d : Nat) → TV d
  | 0 => ()
  | _ + 1 => ([], [])
def t1 {d : Nat} (T : TV (d + 1)) : List (SV d) := T.1
def t2 {d : Nat} (T : TV (d + 1)) : List (SV d) := T.2
def mk {d : Nat} (a b : List (SV d)) : TV (d + 1) := (a, b)
abbrev goes (S : SC) (f g : Nat) : Prop := g = f ∨ (0 ≤ qo S f ∧ qo S g = qo S f)
abbrev isM (S : SC) (f : Nat) : Prop := 16 ≤ qk S f ∧ qk S f < 32
abbrev keeps (S : SC) (f : Nat) : Prop := qp S f = 1 ∨ 0 ≤ qo S f ∨ isM S f
/-- a field gets a value; others of its oneof lose theirs -/
def put {d : Nat} (S : SC) (T : TV (d + 1)) (s : SV d) : TV (d + 1) :=
  if qr S s.1 = 1 then mk (t1 T) (t2 T ++ [s])
  else if (¬ isM S s.1 ∧ s.2.1 = 0 ∧ s.2.2.1 = []) ∧ ¬ keeps S s.1 then mk ((t1 T).filter (fun t => !decide (goes S s.1 t.1))) (t2 T)
  else mk (s :: (t1 T).filter (fun t => !decide (goes S s.1 t.1))) (t2 T)
/-- another value of a field's oneof is there -/
def hasO {d : Nat} (S : SC) (T : TV (d + 1)) (f : Nat) : Bool := decide (0 ≤ qo S f) && (t1 T).any (fun s => decide (s.1 ≠ f ∧ qo S s.1 = qo S f))
section Ob
variable (S : SC) (I : Nat → Nat) (n : Nat)
def valS {d : Nat} (rec : Nat → Nat → Option (Nat × TV d)) (f p : Nat) : Option (Nat × SV d) := if isM S f then (rec (qk S f - 16) p).map fun r => (r.1, f, 0, [], r.2) else (sclS S I n f p).map fun r => (r.1, f, r.2.1, r.2.2, emp d)
def arrL {d : Nat} (rec : Nat → Nat → Option (Nat × TV d)) (f : Nat) : Nat → Nat → List (SV d) → Option (Nat × List (SV d))
  | 0, _, _ => none
  | c + 1, p, acc => (valS S I n rec f (bl I n p)).bind fun r => if lk I n (bl I n r.1) = 44 then arrL rec f c (bl I n r.1 + 1) (acc ++ [r.2]) else if lk I n (bl I n r.1) = 93 then some (bl I n r.1 + 1, acc ++ [r.2]) else none
def arrS {d : Nat} (rec : Nat → Nat → Option (Nat × TV d)) (f p : Nat) : Option (Nat × List (SV d)) := if lk I n p = 91 then (if lk I n (bl I n (p + 1)) = 93 then some (bl I n (p + 1) + 1, []) else arrL S I n rec f (n + 1) (p + 1) []) else none
/-- a member's value, or values -/
def itmS {d : Nat} (rec : Nat → Nat → Option (Nat × TV d)) (f p : Nat) : Option (Nat × List (SV d)) := if qr S f = 1 then arrS S I n rec f p else (valS S I n rec f p).map fun r => (r.1, [r.2])
def memL {d : Nat} (rec : Nat → Nat → Option (Nat × TV d)) (m : Nat) : Nat → Nat → List Nat → TV (d + 1) → Option (Nat × TV (d + 1))
  | 0, _, _, _ => none
  | c + 1, p, seen, T => (strX I n (bl I n p)).bind fun r => (byN S m r.2).bind fun f =>
      if f ∈ seen ∨ lk I n (bl I n r.1) ≠ 58 then none else
      (if lit I n (bl I n (bl I n r.1 + 1)) 5 then some (bl I n (bl I n r.1 + 1) + slen 5, T) else if hasO S T f = true then none else (itmS S I n rec f (bl I n (bl I n r.1 + 1))).map fun q => (q.1, q.2.foldl (put S) T)).bind fun e =>
      if lk I n (bl I n e.1) = 44 then memL rec m c (bl I n e.1 + 1) (f :: seen) e.2 else if lk I n (bl I n e.1) = 125 then some (bl I n e.1 + 1, e.2) else none
def objS : (d : Nat) → Nat → Nat → Option (Nat × TV d)
  | 0, _, _ => none
  | d + 1, m, p => if lk I n p = 123 then (if lk I n (bl I n (p + 1)) = 125 then some (bl I n (p + 1) + 1, emp (d + 1)) else memL S I n (objS d) m (n + 1) (p + 1) [] (emp (d + 1))) else none
end Ob
section Bd
variable {S : SC} {I : Nat → Nat} {n p : Nat}
theorem lk_ne {k : Nat} {c : Int} (h : lk I n k = c) (hc : c ≠ -1) : k < n := lk_in (I := I) (by rw [h]; exact hc)
theorem lit_in {s : Nat} (hs : 0 < slen s) (h : lit I n p s) : p + slen s ≤ n := by
  have q := h (slen s - 1) (by omega)
  have := lk_ne q (by omega)
  omega
theorem strX_bd {r : Nat × List UInt8} (h : strX I n p = some r) : p + 2 ≤ r.1 ∧ r.1 ≤ n ∧ r.2.length ≤ r.1 ∧ str I n p = some r ∧ tw r.2 = true := by
  unfold strX at h
  cases e : str I n p with
  | none => rw [e] at h; cases h
  | some q =>
    rw [e] at h
    change (if tw q.2 = true then some q else none) = some r at h
    split at h
    · cases h
      have := str_len e
      exact ⟨by omega, by omega, by omega, rfl, by assumption⟩
    · cases h
theorem sclS_bd (hI : ∀ k, I k < 256) {f : Nat} {e : Nat × Int64 × List UInt8} (hp : p ≤ n) (h : sclS S I n f p = some e) : p ≤ e.1 ∧ e.1 ≤ n := by
  have s6 : slen 6 = 4 ∧ slen 7 = 5 := by decide +kernel
  unfold sclS at h
  split at h
  · split at h
    · rename_i q
      cases h
      have := lit_in (by omega) q
      exact ⟨by simp only; omega, by simp only; omega⟩
    · split at h
      · rename_i q
        cases h
        have := lit_in (by omega) q
        exact ⟨by simp only; omega, by simp only; omega⟩
      · cases h
  · split at h
    · cases es : strX I n p with
      | none => rw [es] at h; cases h
      | some r => rw [es] at h; cases h; have := strX_bd es; exact ⟨by simp only; omega, by simp only; omega⟩
    · split at h
      · cases es : strX I n p with
        | none => rw [es] at h; cases h
        | some r =>
          rw [es] at h
          change (unb r.2).map _ = _ at h
          cases eu : unb r.2 with
          | none => rw [eu] at h; cases h
          | some o => rw [eu] at h; cases h; have := strX_bd es; exact ⟨by simp only; omega, by simp only; omega⟩
      · split at h
        · cases es : strX I n p with
          | none => rw [es] at h; cases h
          | some r =>
            rw [es] at h
            change (vnm S (qk S f - 32) r.2).map _ = _ at h
            cases eu : vnm S (qk S f - 32) r.2 with
            | none => rw [eu] at h; cases h
            | some o => rw [eu] at h; cases h; have := strX_bd es; exact ⟨by simp only; omega, by simp only; omega⟩
        · split at h
          · cases es : strX I n p with
            | none => rw [es] at h; cases h
            | some r =>
              rw [es] at h
              change (numW (qk S f) r.2).map _ = _ at h
              cases eu : numW (qk S f) r.2 with
              | none => rw [eu] at h; cases h
              | some o => rw [eu] at h; cases h; have := strX_bd es; exact ⟨by simp only; omega, by simp only; omega⟩
          · cases eu : numW (qk S f) (cut I p (rns I n p)) with
            | none => rw [eu] at h; cases h
            | some o =>
              rw [eu] at h; cases h
              have hR := Rns.mk (n := n) (p := p) hI
              exact ⟨hR.2.1, by have := hR.2.2.1; simp only; omega⟩
/-- what a reader of messages answers lies in the text -/
def RB {d : Nat} (n : Nat) (rec : Nat → Nat → Option (Nat × TV d)) : Prop := ∀ m p r, p ≤ n → rec m p = some r → p ≤ r.1 ∧ r.1 ≤ n
variable {d : Nat} {rec : Nat → Nat → Option (Nat × TV d)}
theorem valS_bd (hI : ∀ k, I k < 256) (hR : RB n rec) {f : Nat} {e : Nat × SV d} (hp : p ≤ n) (h : valS S I n rec f p = some e) : p ≤ e.1 ∧ e.1 ≤ n ∧ e.2.1 = f := by
  unfold valS at h
  split at h
  · cases er : rec (qk S f - 16) p with
    | none => rw [er] at h; cases h
    | some r => rw [er] at h; cases h; have := hR _ _ _ hp er; exact ⟨this.1, this.2, rfl⟩
  · cases er : sclS S I n f p with
    | none => rw [er] at h; cases h
    | some r => rw [er] at h; cases h; have := sclS_bd hI hp er; exact ⟨this.1, this.2, rfl⟩
theorem arrL_bd (hI : ∀ k, I k < 256) (hR : RB n rec) {f : Nat} : ∀ (c p : Nat) (acc : List (SV d)) (e : Nat × List (SV d)), p ≤ n → arrL S I n rec f c p acc = some e → p ≤ e.1 ∧ e.1 ≤ n
  | 0, p, acc, e, hp, h => by cases h
  | c + 1, p, acc, e, hp, h => by
    rw [arrL] at h
    have b1 := bl_ge' I n p
    have b2 := bl_le' I n p
    cases ev : valS S I n rec f (bl I n p) with
    | none => rw [ev] at h; cases h
    | some r =>
      rw [ev] at h
      obtain ⟨v1, v2, v3⟩ := valS_bd hI hR (by omega) ev
      have b3 := bl_ge' I n r.1
      change (if lk I n (bl I n r.1) = 44 then arrL S I n rec f c (bl I n r.1 + 1) (acc ++ [r.2]) else if lk I n (bl I n r.1) = 93 then some (bl I n r.1 + 1, acc ++ [r.2]) else none) = some e at h
      split at h
      · rename_i q
        have := lk_ne q (by decide)
        have := arrL_bd hI hR c _ _ _ (by omega) h
        omega
      · split at h
        · rename_i q
          have := lk_ne q (by decide)
          cases h
          exact ⟨by simp only; omega, by simp only; omega⟩
        · cases h
theorem itmS_bd (hI : ∀ k, I k < 256) (hR : RB n rec) {f : Nat} {e : Nat × List (SV d)} (hp : p ≤ n) (h : itmS S I n rec f p = some e) : p ≤ e.1 ∧ e.1 ≤ n := by
  unfold itmS at h
  split at h
  · unfold arrS at h
    split at h
    · rename_i q91
      have l91 := lk_ne q91 (by decide)
      have b1 := bl_ge' I n (p + 1)
      split at h
      · rename_i q
        have := lk_ne q (by decide)
        cases h
        exact ⟨by simp only; omega, by simp only; omega⟩
      · have := arrL_bd hI hR _ _ _ _ (by omega) h
        omega
    · cases h
  · cases ev : valS S I n rec f p with
    | none => rw [ev] at h; cases h
    | some r => rw [ev] at h; cases h; have := valS_bd hI hR hp ev; exact ⟨this.1, this.2.1⟩
theorem memL_bd (hI : ∀ k, I k < 256) (hR : RB n rec) {m : Nat} : ∀ (c p : Nat) (seen : List Nat) (T : TV (d + 1)) (e : Nat × TV (d + 1)), p ≤ n → memL S I n rec m c p seen T = some e → p ≤ e.1 ∧ e.1 ≤ n
  | 0, p, seen, T, e, hp, h => by cases h
  | c + 1, p, seen, T, e, hp, h => by
    rw [memL] at h
    have s5 : slen 5 = 4 := by decide +kernel
    have b1 := bl_ge' I n p
    have b2 := bl_le' I n p
    cases es : strX I n (bl I n p) with
    | none => rw [es] at h; cases h
    | some r =>
      rw [es] at h
      have hs := strX_bd es
      have b3 := bl_ge' I n r.1
      change ((byN S m r.2).bind fun f => _) = _ at h
      cases eb : byN S m r.2 with
      | none => rw [eb] at h; cases h
      | some f =>
        rw [eb] at h
        change (if f ∈ seen ∨ lk I n (bl I n r.1) ≠ 58 then none else _) = _ at h
        split at h
        · cases h
        · rename_i q58
          have q58' : lk I n (bl I n r.1) = 58 := by
            by_cases w : lk I n (bl I n r.1) = 58
            · exact w
            · exact absurd (Or.inr w) q58
          have l58 := lk_ne q58' (by decide)
          have b4 := bl_ge' I n (bl I n r.1 + 1)
          have b5 := bl_le' I n (bl I n r.1 + 1)
          cases ei : (if lit I n (bl I n (bl I n r.1 + 1)) 5 then some (bl I n (bl I n r.1 + 1) + slen 5, T) else if hasO S T f = true then none else (itmS S I n rec f (bl I n (bl I n r.1 + 1))).map fun q => (q.1, q.2.foldl (put S) T) : Option (Nat × TV (d + 1))) with
          | none => rw [ei] at h; cases h
          | some x =>
            rw [ei] at h
            have hx : p ≤ x.1 ∧ x.1 ≤ n := by
              split at ei
              · rename_i q
                cases ei
                have := lit_in (by omega) q
                exact ⟨by simp only; omega, by simp only; omega⟩
              · split at ei
                · cases ei
                · cases et : itmS S I n rec f (bl I n (bl I n r.1 + 1)) with
                  | none => rw [et] at ei; cases ei
                  | some y =>
                    rw [et] at ei; cases ei
                    have := itmS_bd hI hR (by omega) et
                    exact ⟨by simp only; omega, by simp only; omega⟩
            have b6 := bl_ge' I n x.1
            change (if lk I n (bl I n x.1) = 44 then memL S I n rec m c (bl I n x.1 + 1) (f :: seen) x.2 else if lk I n (bl I n x.1) = 125 then some (bl I n x.1 + 1, x.2) else none) = _ at h
            split at h
            · rename_i q
              have := lk_ne q (by decide)
              have := memL_bd hI hR c _ _ _ _ (by omega) h
              omega
            · split at h
              · rename_i q
                have := lk_ne q (by decide)
                cases h
                exact ⟨by simp only; omega, by simp only; omega⟩
              · cases h
theorem objS_bd (hI : ∀ k, I k < 256) : ∀ d, RB n (objS S I n d)
  | 0 => fun m p r hp h => by cases h
  | d + 1 => fun m p r hp h => by
    rw [objS] at h
    have b1 := bl_ge' I n (p + 1)
    split at h
    · rename_i q
      have := lk_ne q (by decide)
      split at h
      · rename_i q2
        have := lk_ne q2 (by decide)
        cases h
        exact ⟨by simp only; omega, by simp only; omega⟩
      · have := memL_bd hI (objS_bd hI d) _ _ _ _ _ (by omega) h
        omega
    · cases h
end Bd
