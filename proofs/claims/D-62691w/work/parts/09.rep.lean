set_option maxRecDepth 100000
/-! THE ABSTRACT STATES. ST: the system's objects: sc class tags (0: none; class number + 1; 101 byte[], 102 int[], 103 Field[]), sI int fields, sJ long fields, sR reference fields (by 16 * class + field, then by object), sW rows' bytes, sA lists' elements, sN arrays' lengths (a row's or list's: its room), sB elements of byte arrays, sE of int arrays, sF of Field arrays, sH where a row's or a list's own array lies, sZ the heap's size, sC cells left, sS slots left. TT: the reference's fields (tI ints and truths, tJ longs) and arrays (tA), by field -/
abbrev ST : Type := (Nat → Nat) × (Nat → Nat → Int) × (Nat → Nat → Int64) × (Nat → Nat → Option Nat) × (Nat → List UInt8) × (Nat → List Nat) × (Nat → Nat) × (Nat → Nat → UInt8) × (Nat → Nat → Int) × (Nat → Nat → Option Nat) × (Nat → Nat) × Nat × Nat × Nat
abbrev TT : Type := (Nat → Int) × (Nat → Int64) × (Nat → Nat → Int)
def sc (σ : ST) : Nat → Nat := σ.1
def sI (σ : ST) : Nat → Nat → Int := σ.2.1
def sJ (σ : ST) : Nat → Nat → Int64 := σ.2.2.1
def sR (σ : ST) : Nat → Nat → Option Nat := σ.2.2.2.1
def sW (σ : ST) : Nat → List UInt8 := σ.2.2.2.2.1
def sA (σ : ST) : Nat → List Nat := σ.2.2.2.2.2.1
def sN (σ : ST) : Nat → Nat := σ.2.2.2.2.2.2.1
def sB (σ : ST) : Nat → Nat → UInt8 := σ.2.2.2.2.2.2.2.1
def sE (σ : ST) : Nat → Nat → Int := σ.2.2.2.2.2.2.2.2.1
def sF (σ : ST) : Nat → Nat → Option Nat := σ.2.2.2.2.2.2.2.2.2.1
def sH (σ : ST) : Nat → Nat := σ.2.2.2.2.2.2.2.2.2.2.1
def sZ (σ : ST) : Nat := σ.2.2.2.2.2.2.2.2.2.2.2.1
def sC (σ : ST) : Nat := σ.2.2.2.2.2.2.2.2.2.2.2.2.1
def sS (σ : ST) : Nat := σ.2.2.2.2.2.2.2.2.2.2.2.2.2
def tI (τ : TT) : Nat → Int := τ.1
def tJ (τ : TT) : Nat → Int64 := τ.2.1
def tA (τ : TT) : Nat → Nat → Int := τ.2.2
/-- a function with another value at one place -/
def up {A : Type} (f : Nat → A) (k : Nat) (v : A) : Nat → A := fun j => if j = k then v else f j
def uI (τ : TT) (k : Nat) (v : Int) : TT := (up (tI τ) k v, tJ τ, tA τ)
def uJ (τ : TT) (k : Nat) (v : Int64) : TT := (tI τ, up (tJ τ) k v, tA τ)
def uA (τ : TT) (k : Nat) (i : Nat) (v : Int) : TT := (tI τ, tJ τ, up (tA τ) k (up (tA τ k) i v))
theorem up_at {A : Type} (f : Nat → A) (k : Nat) (v : A) : up f k v k = v := if_pos rfl
theorem up_ne {A : Type} (f : Nat → A) {k j : Nat} (v : A) (h : j ≠ k) : up f k v j = f j := if_neg h
/-- a byte as an int -/
def sbW (b : UInt8) : Int32 := b.toInt8.toInt32
def sbI (b : UInt8) : Int := b.toInt8.toInt
theorem sbI_W (b : UInt8) : Int32.ofInt (sbI b) = sbW b := by
  have h : (sbW b).toInt = sbI b := Int8.toInt_toInt32 b.toInt8
  rw [← h, Int32.ofInt_toInt]
/-- an object's fields as the state has them, by its class -/
def fl (σ : ST) (ci a : Nat) : List Value := match ci with
  | 0 => [va_rf (sR σ 0 a), va_rf (sR σ 1 a), .int (Int32.ofInt (sI σ 2 a)), .int (Int32.ofInt (sI σ 3 a)), va_rf (sR σ 4 a), va_rf (sR σ 5 a), va_rf (sR σ 6 a)]
  | 1 => [va_rf (sR σ 16 a), va_rf (sR σ 17 a), va_rf (sR σ 18 a), va_rf (sR σ 19 a), .int (Int32.ofInt (sI σ 20 a)), .int (Int32.ofInt (sI σ 21 a)), .int (Int32.ofInt (sI σ 22 a))]
  | 2 => [va_rf (sR σ 32 a), va_rf (sR σ 33 a), va_rf (sR σ 34 a), va_rf (sR σ 35 a)]
  | 5 => [va_rf (sR σ 80 a), .int (Int32.ofInt (sI σ 81 a)), .int (Int32.ofInt (sI σ 82 a)), .int (Int32.ofInt (sI σ 83 a)), .int (Int32.ofInt (sI σ 84 a)), .int (Int32.ofInt (sI σ 85 a)), va_rf (sR σ 86 a)]
  | 6 => [.int (Int32.ofInt (sI σ 96 a)), va_rf (sR σ 97 a), va_rf (sR σ 98 a), va_rf (sR σ 99 a), va_rf (sR σ 100 a), va_rf (sR σ 101 a), .int (Int32.ofInt (sI σ 102 a)), va_rf (sR σ 103 a)]
  | 7 => [.int (Int32.ofInt (sI σ 112 a)), va_rf (sR σ 113 a), va_rf (sR σ 114 a), va_rf (sR σ 115 a)]
  | 8 => [va_rf (sR σ 128 a), va_rf (sR σ 129 a), va_rf (sR σ 130 a), .int (Int32.ofInt (sI σ 131 a)), .int (Int32.ofInt (sI σ 132 a)), .int (Int32.ofInt (sI σ 133 a)), .int (Int32.ofInt (sI σ 134 a)), .int (Int32.ofInt (sI σ 135 a)), .int (Int32.ofInt (sI σ 136 a)), va_rf (sR σ 137 a), va_rf (sR σ 138 a), va_rf (sR σ 139 a)]
  | 9 => [va_rf (sR σ 144 a)]
  | 10 => [va_rf (sR σ 160 a), va_rf (sR σ 161 a), va_rf (sR σ 162 a), va_rf (sR σ 163 a)]
  | 11 => [va_rf (sR σ 176 a), .int (Int32.ofInt (sI σ 177 a))]
  | 12 => [va_rf (sR σ 192 a), .long (sJ σ 193 a), va_rf (sR σ 194 a), va_rf (sR σ 195 a), va_rf (sR σ 196 a)]
  | 13 => [va_rf (sR σ 208 a), .int (Int32.ofInt (sI σ 209 a)), .int (Int32.ofInt (sI σ 210 a)), va_rf (sR σ 211 a), va_rf (sR σ 212 a)]
  | 14 => [.int (Int32.ofInt (sI σ 224 a)), .int (Int32.ofInt (sI σ 225 a)), .long (sJ σ 226 a)]
  | _ => []
/-- the reference's fields -/
def tfl (g : GE) (τ : TT) : List Value := [.int (Int32.ofInt (tI τ 0)), .ref (gT g 1), .ref (gT g 2), .ref (gT g 3), .int (Int32.ofInt (tI τ 4)), .int (Int32.ofInt (tI τ 5)), .int (Int32.ofInt (tI τ 6)), .int (Int32.ofInt (tI τ 7)), .ref (gT g 8), .ref (gT g 9), .ref (gT g 10), .ref (gT g 11), .int (Int32.ofInt (tI τ 12)), .int (Int32.ofInt (tI τ 13)), .int (Int32.ofInt (tI τ 14)), .ref (gT g 15), .ref (gT g 16), .ref (gT g 17), .ref (gT g 18), .ref (gT g 19), .ref (gT g 20), .ref (gT g 21), .ref (gT g 22), .ref (gT g 23), .ref (gT g 24), .ref (gT g 25), .ref (gT g 26), .ref (gT g 27), .ref (gT g 28), .ref (gT g 29), .ref (gT g 30), .ref (gT g 31), .ref (gT g 32), .ref (gT g 33), .ref (gT g 34), .int (Int32.ofInt (tI τ 35)), .int (Int32.ofInt (tI τ 36)), .int (Int32.ofInt (tI τ 37)), .int (Int32.ofInt (tI τ 38)), .int (Int32.ofInt (tI τ 39)), .int (Int32.ofInt (tI τ 40)), .ref (gT g 41), .ref (gT g 42), .ref (gT g 43), .ref (gT g 44), .int (Int32.ofInt (tI τ 45)), .int (Int32.ofInt (tI τ 46)), .long (tJ τ 47), .int (Int32.ofInt (tI τ 48)), .int (Int32.ofInt (tI τ 49)), .int (Int32.ofInt (tI τ 50)), .int (Int32.ofInt (tI τ 51)), .int (Int32.ofInt (tI τ 52)), .int (Int32.ofInt (tI τ 53)), .int (Int32.ofInt (tI τ 54)), .long (tJ τ 55), .ref (gT g 56), .int (Int32.ofInt (tI τ 57)), .int (Int32.ofInt (tI τ 58)), .long (tJ τ 59), .int (Int32.ofInt (tI τ 60))]
/-- the reference's arrays: their lengths by field; 0: no array -/
def tln (k : Nat) : Nat := match k with
  | 1 => 1000
  | 2 => 1000
  | 3 => 4000
  | 8 => 1000
  | 9 => 1001
  | 10 => 1001
  | 11 => 1001
  | 15 => 10
  | 16 => 10
  | 17 => 6
  | 18 => 6
  | 19 => 40
  | 20 => 40
  | 21 => 40
  | 22 => 50
  | 23 => 50
  | 24 => 50
  | 25 => 50
  | 26 => 50
  | 27 => 50
  | 28 => 50
  | 29 => 50
  | 30 => 50
  | 31 => 12
  | 32 => 12
  | 33 => 30
  | 34 => 30
  | 41 => 64
  | 42 => 64
  | 43 => 9000
  | 44 => 9000
  | 56 => 1000
  | _ => 0
def tkd (k : Nat) : Nat := match k with
  | 29 => 2
  | 30 => 2
  | _ => 1
/-- the heap from which the law began is untouched below this -/
abbrev gB (g : GE) : Nat := (gs g).heap.size
/-- what a list may hold: rows, messages, enums, fields -/
abbrev lt4 (t : Nat) : Prop := t = 4 ∨ t = 7 ∨ t = 8 ∨ t = 9
/-- addresses that were not there at the start; the heap of the start is kept -/
abbrev gA (g : GE) : Nat → Prop := fun q => gB g ≤ q
abbrev LowH (g : GE) (H : Heap) : Prop := ∀ q : Nat, q < gB g → H[q]? = (gs g).heap[q]?
/-- an array without cells, of which no more is known -/
def zA (g : GE) (ty : FieldType) (b : Nat) (H : Heap) : Prop := ∃ cell : Cell, H[b]? = some cell ∧ (gs g).isArrayOf cell ty ∧ cell.vm ≠ .unknown ∧ cell.slots.size.toInt32 = Int32.ofNat 0
/-- the array of a row: its own, or one without cells -/
def bA (g : GE) (b n : Nat) (f : Nat → Int32) (H : Heap) : Prop := (n ≠ 0 ∧ va_at (gD g) vCl (b, .inl (ga g 0, n, .inl f)) H) ∨ (n = 0 ∧ zA g .byte b H)
def oA (g : GE) (b n : Nat) (f : Nat → Option Nat) (H : Heap) : Prop := (n ≠ 0 ∧ va_at (gD g) vCl (b, .inl (ga g 4, n, .inr (.inr (.inr (.inr f))))) H) ∨ (n = 0 ∧ zA g (.object "java/lang/Object") b H)
theorem zA.kept {g : GE} {ty : FieldType} {b : Nat} {H H' : Heap} (h : zA g ty b H) (h1 : H'[b]? = H[b]?) : zA g ty b H' := by
  obtain ⟨cell, q, r⟩ := h
  exact ⟨cell, by rw [h1]; exact q, r⟩
theorem bA.kept {g : GE} {b n : Nat} {f : Nat → Int32} {H H' : Heap} (h : bA g b n f H) (h1 : H'[b]? = H[b]?) : bA g b n f H' := by
  rcases h with q | q
  · exact Or.inl ⟨q.1, q.2.kept h1⟩
  · exact Or.inr ⟨q.1, q.2.kept h1⟩
theorem oA.kept {g : GE} {b n : Nat} {f : Nat → Option Nat} {H H' : Heap} (h : oA g b n f H) (h1 : H'[b]? = H[b]?) : oA g b n f H' := by
  rcases h with q | q
  · exact Or.inl ⟨q.1, q.2.kept h1⟩
  · exact Or.inr ⟨q.1, q.2.kept h1⟩
theorem bA.lt {g : GE} {b n : Nat} {f : Nat → Int32} {H : Heap} (h : bA g b n f H) : b < H.size := by
  rcases h with q | q
  · exact q.2.lt
  · obtain ⟨cell, q, -⟩ := q.2
    exact (Array.getElem?_eq_some_iff.mp q).1
theorem oA.lt {g : GE} {b n : Nat} {f : Nat → Option Nat} {H : Heap} (h : oA g b n f H) : b < H.size := by
  rcases h with q | q
  · exact q.2.lt
  · obtain ⟨cell, q, -⟩ := q.2
    exact (Array.getElem?_eq_some_iff.mp q).1
theorem bA.own {g : GE} {b n : Nat} {f : Nat → Int32} {H : Heap} (h : bA g b n f H) (hn : n ≠ 0) : va_at (gD g) vCl (b, .inl (ga g 0, n, .inl f)) H := by
  rcases h with q | q
  · exact q.2
  · exact absurd q.1 hn
theorem oA.own {g : GE} {b n : Nat} {f : Nat → Option Nat} {H : Heap} (h : oA g b n f H) (hn : n ≠ 0) : va_at (gD g) vCl (b, .inl (ga g 4, n, .inr (.inr (.inr (.inr f))))) H := by
  rcases h with q | q
  · exact q.2
  · exact absurd q.1 hn
/-- a cell of the system's, by its tag -/
def cellC (g : GE) (own : Nat → Nat) (σ : ST) (a : Nat) (H : Heap) : Prop :=
  if sc σ a = 4 then
    va_at (gD g) vCl (a, .inr (3, [.ref (sH σ a), .int (nI (sW σ a).length)])) H ∧ (sW σ a).length ≤ sN σ a ∧ sN σ a < 2 ^ 24 ∧
      (∃ f : Nat → UInt8, bA g (sH σ a) (sN σ a) (fun j => sbW (f j)) H ∧ ∀ (j : Nat) (b : UInt8), (sW σ a)[j]? = some b → f j = b) ∧
      ((sH σ a < gB g ∧ sN σ a = 0) ∨ (gB g ≤ sH σ a ∧ own (sH σ a) = a ∧ sc σ (sH σ a) = 0))
  else if sc σ a = 16 then
    (∃ mc : Int32, va_at (gD g) vCl (a, .inr (15, [.int mc, .ref (sH σ a), .int (nI (sA σ a).length)])) H) ∧ (sA σ a).length ≤ sN σ a ∧ sN σ a < 2 ^ 24 ∧
      (∃ f : Nat → Option Nat, oA g (sH σ a) (sN σ a) f H ∧ (∀ (j x : Nat), (sA σ a)[j]? = some x → f j = some x) ∧ ∀ j x : Nat, f j = some x → lt4 (sc σ x)) ∧
      ((sH σ a < gB g ∧ sN σ a = 0 ∧ sH σ a = sH σ 1) ∨ (gB g ≤ sH σ a ∧ own (sH σ a) = a ∧ sc σ (sH σ a) = 0 ∧ sN σ a ≠ 0))
  else if sc σ a = 17 then ∃ fs : List Value, va_at (gD g) vCl (a, .inr (16, fs)) H
  else if sc σ a = 101 then va_at (gD g) vCl (a, .inl (ga g 0, sN σ a, .inl (fun j => sbW (sB σ a j)))) H ∧ sN σ a < 2 ^ 24
  else if sc σ a = 102 then va_at (gD g) vCl (a, .inl (ga g 1, sN σ a, .inl (fun j => Int32.ofInt (sE σ a j)))) H ∧ sN σ a < 2 ^ 24
  else if sc σ a = 103 then va_at (gD g) vCl (a, .inl (ga g 3, sN σ a, .inr (.inr (.inr (.inr (sF σ a)))))) H ∧ sN σ a < 2 ^ 24 ∧ ∀ j x : Nat, sF σ a j = some x → sc σ x = 9
  else va_at (gD g) vCl (a, .inr (sc σ a - 1, fl σ (sc σ a - 1) a)) H
def RepC (g : GE) (own : Nat → Nat) (σ : ST) (H : Heap) : Prop := ∀ a, sc σ a ≠ 0 → gB g ≤ a ∧ own a = a ∧ cellC g own σ a H
/-- the reference's cells -/
def RepT (g : GE) (own : Nat → Nat) (σ : ST) (τ : TT) (H : Heap) : Prop := gw g ≠ 0 →
  (gB g ≤ gw g ∧ own (gw g) = gw g ∧ sc σ (gw g) = 0 ∧ va_at (gD g) vCl (gw g, .inr (4, tfl g τ)) H) ∧
  (∀ k, tln k ≠ 0 → gB g ≤ gT g k ∧ own (gT g k) = gw g ∧ gT g k ≠ gw g ∧ sc σ (gT g k) = 0 ∧ va_at (gD g) vCl (gT g k, .inl (ga g (tkd k), tln k, .inl (fun j => Int32.ofInt (tA τ k j)))) H) ∧
  (∀ k j, tln k ≠ 0 → tln j ≠ 0 → gT g k = gT g j → k = j)
/-- the two empty arrays that all rows and lists begin with: their places stand at sH 0 and sH 1 -/
def Zs (g : GE) (σ : ST) : Prop := 2 ≤ gB g ∧ sH σ 0 < gB g ∧ sH σ 1 < gB g ∧
  va_Z "WireSchemas$Row" "NO_CELLS" "[B" (.ref (sH σ 0)) (fun q => gB g ≤ q) (gs g) (gs g).heap ∧ va_Z "java/util/ArrayList" "DEFAULTCAPACITY_EMPTY_ELEMENTDATA" "[Ljava/lang/Object;" (.ref (sH σ 1)) (fun q => gB g ≤ q) (gs g) (gs g).heap ∧
  zA g .byte (sH σ 0) (gs g).heap ∧ zA g (.object "java/lang/Object") (sH σ 1) (gs g).heap
def Rep (g : GE) (σ : ST) (τ : TT) (H : Heap) : Prop := (∃ own : Nat → Nat, RepC g own σ H ∧ RepT g own σ τ H) ∧ H.size = sZ σ ∧ gB g ≤ H.size ∧ Zs g σ ∧ ∀ q : Nat, q < gB g → H[q]? = (gs g).heap[q]?
theorem cellC.kept {g : GE} {own : Nat → Nat} {σ : ST} {a : Nat} {H H' : Heap} (h : cellC g own σ a H) (h1 : H'[a]? = H[a]?) (h2 : H'[sH σ a]? = H[sH σ a]?) : cellC g own σ a H' := by
  unfold cellC at h ⊢
  split
  · rename_i e
    rw [if_pos e] at h
    obtain ⟨q1, q2, q3, ⟨f, q4, q5⟩, q6⟩ := h
    exact ⟨q1.kept h1, q2, q3, ⟨f, q4.kept h2, q5⟩, q6⟩
  · rename_i e
    rw [if_neg e] at h
    split
    · rename_i e
      rw [if_pos e] at h
      obtain ⟨⟨mc, q1⟩, q2, q3, ⟨f, q4, q5⟩, q6⟩ := h
      exact ⟨⟨mc, q1.kept h1⟩, q2, q3, ⟨f, q4.kept h2, q5⟩, q6⟩
    · rename_i e
      rw [if_neg e] at h
      split
      · rename_i e
        rw [if_pos e] at h
        obtain ⟨fs, q⟩ := h
        exact ⟨fs, q.kept h1⟩
      · rename_i e
        rw [if_neg e] at h
        split
        · rename_i e
          rw [if_pos e] at h
          exact ⟨h.1.kept h1, h.2⟩
        · rename_i e
          rw [if_neg e] at h
          split
          · rename_i e
            rw [if_pos e] at h
            exact ⟨h.1.kept h1, h.2⟩
          · rename_i e
            rw [if_neg e] at h
            split
            · rename_i e
              rw [if_pos e] at h
              exact ⟨h.1.kept h1, h.2⟩
            · rename_i e
              rw [if_neg e] at h
              exact h.kept h1
/-- where a row's or a list's own array lies -/
theorem cellC.hid {g : GE} {own : Nat → Nat} {σ : ST} {a : Nat} {H : Heap} (h : cellC g own σ a H) (ht : sc σ a = 4 ∨ sc σ a = 16) : (sH σ a < gB g ∧ sN σ a = 0) ∨ (gB g ≤ sH σ a ∧ own (sH σ a) = a ∧ sc σ (sH σ a) = 0) := by
  unfold cellC at h
  rcases ht with e | e
  · rw [if_pos e] at h
    exact h.2.2.2.2
  · rw [if_neg (by rw [e]; decide), if_pos e] at h
    rcases h.2.2.2.2 with q | q
    · exact Or.inl ⟨q.1, q.2.1⟩
    · exact Or.inr ⟨q.1, q.2.1, q.2.2.1⟩
theorem cellC.kept' {g : GE} {own : Nat → Nat} {σ : ST} {a : Nat} {H H' : Heap} (h : cellC g own σ a H) (hlow : ∀ q, q < gB g → H'[q]? = H[q]?) (h1 : H'[a]? = H[a]?) (h2 : gB g ≤ sH σ a → own (sH σ a) = a → sc σ (sH σ a) = 0 → H'[sH σ a]? = H[sH σ a]?) : cellC g own σ a H' := by
  by_cases ht : sc σ a = 4 ∨ sc σ a = 16
  · refine h.kept h1 ?_
    rcases h.hid ht with q | q
    · exact hlow _ q.1
    · exact h2 q.1 q.2.1 q.2.2
  · have n1 : ¬ sc σ a = 4 := fun e => ht (Or.inl e)
    have n2 : ¬ sc σ a = 16 := fun e => ht (Or.inr e)
    unfold cellC at h ⊢
    rw [if_neg n1, if_neg n2] at h ⊢
    split
    · rename_i e
      rw [if_pos e] at h
      obtain ⟨fs, q⟩ := h
      exact ⟨fs, q.kept h1⟩
    · rename_i e
      rw [if_neg e] at h
      split
      · rename_i e
        rw [if_pos e] at h
        exact ⟨h.1.kept h1, h.2⟩
      · rename_i e
        rw [if_neg e] at h
        split
        · rename_i e
          rw [if_pos e] at h
          exact ⟨h.1.kept h1, h.2⟩
        · rename_i e
          rw [if_neg e] at h
          split
          · rename_i e
            rw [if_pos e] at h
            exact ⟨h.1.kept h1, h.2⟩
          · rename_i e
            rw [if_neg e] at h
            exact h.kept h1
/-! the judgement over abstract states -/
abbrev VQ : Type := (Option LV → ST → TT → Prop) × (Nat → ST → TT → Prop)
/-- room: what may be used in all, what is left of it -/
abbrev gRm (g : GE) : Nat × Nat := (gT g 1000, gT g 1001)
abbrev rC (g : GE) (σ : ST) : Nat := gT g 1000 - sC σ
abbrev rS (g : GE) (σ : ST) : Nat := gT g 1001 - sS σ
abbrev rm (B : Nat × Nat) (σ : ST) (n : Nat) : Prop := sC σ + 1 ≤ B.1 ∧ sS σ + n ≤ B.2
theorem rm_1 {g : GE} {σ : ST} {n : Nat} (h : rm (gRm g) σ n) : 1 ≤ rC g σ := by have := h.1; show 1 ≤ gT g 1000 - sC σ; simp only at this; omega
theorem rm_2 {g : GE} {σ : ST} {n : Nat} (h : rm (gRm g) σ n) : n ≤ rS g σ := by have := h.2; show n ≤ gT g 1001 - sS σ; simp only at this; omega
def lQ (g : GE) (Q : VQ) : UQ := (fun v H rc rs => ∃ (σ : ST) (τ : TT), Rep g σ τ H ∧ rC g σ = rc ∧ rS g σ = rs ∧ Q.1 v σ τ, fun a H rc rs => ∃ (σ : ST) (τ : TT), Rep g σ τ H ∧ rC g σ = rc ∧ rS g σ = rs ∧ Q.2 a σ τ)
def V (g : GE) (M : Mt) (d pc : Nat) (l : List (Nat × LV)) (st : List LV) (σ : ST) (τ : TT) (Q : VQ) : Prop := ∀ H : Heap, Rep g σ τ H → U g M d pc l st H (rC g σ) (rS g σ) (lQ g Q)
section RepTw
variable {g : GE} {σ : ST} {τ τ' : TT} {H H' : Heap}
theorem Rep.tw (h : Rep g σ τ H) (hw : gw g ≠ 0) : va_at (gD g) vCl (gw g, .inr (4, tfl g τ)) H ∧ gB g ≤ gw g := by
  obtain ⟨⟨own, -, hT⟩, -⟩ := h
  exact ⟨(hT hw).1.2.2.2, (hT hw).1.1⟩
theorem Rep.ta (h : Rep g σ τ H) (hw : gw g ≠ 0) {k : Nat} (hk : tln k ≠ 0) : va_at (gD g) vCl (gT g k, .inl (ga g (tkd k), tln k, .inl (fun j => Int32.ofInt (tA τ k j)))) H ∧ gB g ≤ gT g k := by
  obtain ⟨⟨own, -, hT⟩, -⟩ := h
  exact ⟨((hT hw).2.1 k hk).2.2.2.2, ((hT hw).2.1 k hk).1⟩
/-- the reference's object is written -/
theorem Rep.putw (h : Rep g σ τ H) (hw : gw g ≠ 0) (hA : ∀ k, tln k ≠ 0 → tA τ' k = tA τ k) (hp : Pt1 g (gw g) (.inr (4, tfl g τ')) H H') : Rep g σ τ' H' := by
  obtain ⟨⟨own, hC, hT⟩, hzz, hsz, hzs, hlow⟩ := h
  obtain ⟨⟨b1, b2, b3, b4⟩, b5, b6⟩ := hT hw
  obtain ⟨p1, p2, p3⟩ := hp
  refine ⟨⟨own, fun a ha => ?_, fun _ => ⟨⟨b1, b2, b3, p1⟩, fun k hk => ?_, b6⟩⟩, by rw [p2]; exact hzz, by rw [p2]; exact hsz, hzs, fun q hq => by rw [p3 q (by omega)]; exact hlow q hq⟩
  · obtain ⟨c1, c2, c3⟩ := hC a ha
    refine ⟨c1, c2, c3.kept' (fun q hq => p3 q (by omega)) (p3 a (fun e => ha (by rw [e]; exact b3))) (fun _ e2 _ => p3 _ (fun e => ha ?_))⟩
    rw [e, b2] at e2
    rw [← e2]; exact b3
  · obtain ⟨q1, q2, q3, q4, q5⟩ := b5 k hk
    refine ⟨q1, q2, q3, q4, ?_⟩
    rw [hA k hk]
    exact q5.kept (p3 _ q3)
/-- an array of the reference is written -/
theorem Rep.puta (h : Rep g σ τ H) (hw : gw g ≠ 0) {k : Nat} (hk : tln k ≠ 0) (hf : tfl g τ' = tfl g τ) (hA : ∀ j, tln j ≠ 0 → j ≠ k → tA τ' j = tA τ j) (hp : Pt1 g (gT g k) (.inl (ga g (tkd k), tln k, .inl (fun j => Int32.ofInt (tA τ' k j)))) H H') : Rep g σ τ' H' := by
  obtain ⟨⟨own, hC, hT⟩, hzz, hsz, hzs, hlow⟩ := h
  obtain ⟨⟨b1, b2, b3, b4⟩, b5, b6⟩ := hT hw
  obtain ⟨p1, p2, p3⟩ := hp
  obtain ⟨k1, k2, k3, k4, k5⟩ := b5 k hk
  refine ⟨⟨own, fun a ha => ?_, fun _ => ⟨⟨b1, b2, b3, by rw [hf]; exact b4.kept (p3 _ (Ne.symm k3))⟩, fun j hj => ?_, b6⟩⟩, by rw [p2]; exact hzz, by rw [p2]; exact hsz, hzs, fun q hq => by rw [p3 q (by omega)]; exact hlow q hq⟩
  · obtain ⟨c1, c2, c3⟩ := hC a ha
    refine ⟨c1, c2, c3.kept' (fun q hq => p3 q (by omega)) (p3 a (fun e => ha (by rw [e]; exact k4))) (fun _ e2 _ => p3 _ (fun e => ha ?_))⟩
    rw [e, k2] at e2
    rw [← e2]; exact b3
  · obtain ⟨q1, q2, q3, q4, q5⟩ := b5 j hj
    by_cases e : j = k
    · subst e
      exact ⟨q1, q2, q3, q4, p1⟩
    · refine ⟨q1, q2, q3, q4, ?_⟩
      rw [hA j hj e]
      exact q5.kept (p3 _ (fun e2 => e (b6 j k hj hk e2)))
end RepTw
