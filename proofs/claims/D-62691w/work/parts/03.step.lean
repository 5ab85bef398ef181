set_option maxRecDepth 100000
/-! values of the walk: an int (a number that stands for it), a long, a reference; frames as lists of them -/
/-- operations of ints that aren't those of numbers -/
def iAnd (a b : Int) : Int := (Int32.ofInt a &&& Int32.ofInt b).toInt
def iOr (a b : Int) : Int := (Int32.ofInt a ||| Int32.ofInt b).toInt
def iXor (a b : Int) : Int := (Int32.ofInt a ^^^ Int32.ofInt b).toInt
def iShl (a b : Int) : Int := (Int32.ofInt a <<< (Int32.ofInt b &&& 31)).toInt
def iShr (a b : Int) : Int := (Int32.ofInt a >>> (Int32.ofInt b &&& 31)).toInt
def iUsh (a b : Int) : Int := ((Int32.ofInt a).toUInt32 >>> ((Int32.ofInt b).toUInt32 &&& Int32.toUInt32 31)).toInt32.toInt
def lShl (a : Int64) (b : Int) : Int64 := a <<< ((Int32.ofInt b).toInt64 &&& 63)
def lShr (a : Int64) (b : Int) : Int64 := a >>> ((Int32.ofInt b).toInt64 &&& 63)
def lUsh (a : Int64) (b : Int) : Int64 := (a.toUInt64 >>> ((Int32.ofInt b).toInt64.toUInt64 &&& Int64.toUInt64 63)).toInt64
def iL (a : Int) : Int64 := (Int32.ofInt a).toInt64
def lI (a : Int64) : Int := a.toInt32.toInt
def iB (a : Int) : Int := (Int32.ofInt a).toInt8.toInt32.toInt
/-- a number that is an int -/
abbrev rg (x : Int) : Prop := -2147483648 ≤ x ∧ x < 2147483648
theorem rg_to {x : Int} (h : rg x) : (Int32.ofInt x).toInt = x := Int32.toInt_ofInt_of_le (by have := h.1; omega) (by have := h.2; omega)
theorem rg_in (x : Int32) : rg x.toInt := ⟨by have := Int32.le_toInt x; simpa using this, by have := Int32.toInt_lt x; simpa using this⟩
abbrev LV : Type := Int ⊕ (Int64 ⊕ Option Nat)
abbrev vi (x : Int) : LV := Sum.inl x
abbrev vl (x : Int64) : LV := Sum.inr (Sum.inl x)
abbrev vr (x : Option Nat) : LV := Sum.inr (Sum.inr x)
def vV (x : LV) : Value := match x with
  | .inl x => .int (Int32.ofInt x)
  | .inr (.inl x) => .long x
  | .inr (.inr x) => va_rf x
def lV (l : List (Nat × LV)) : List (Nat × Value) := l.map fun q => (q.1, vV q.2)
def sV (st : List LV) : List Value := st.map vV
def gL : List (Nat × LV) → Nat → Option LV
  | [], _ => none
  | q :: r, i => match Nat.beq q.1 i with
    | true => some q.2
    | false => gL r i
theorem gL_mem {l : List (Nat × LV)} {i : Nat} {v : LV} (h : gL l i = some v) : (i, v) ∈ l := by
  induction l with
  | nil => cases h
  | cons q r ih =>
    unfold gL at h
    split at h
    · rename_i e
      cases h
      rw [← Nat.eq_of_beq_eq_true e]
      exact List.mem_cons_self
    · exact List.mem_cons_of_mem _ (ih h)
def c2 (v : LV) : Bool := match v with
  | .inr (.inl _) => true
  | _ => false
theorem vrf_cat (o : Option Nat) : (va_rf o).category = 1 := by cases o <;> rfl
theorem c2_cat (v : LV) : ((vV v).category == 2) = c2 v := by
  rcases v with x | x | x
  · rfl
  · rfl
  · show ((va_rf x).category == 2) = false
    rw [vrf_cat]; rfl
/-- the places that a store at i spoils go -/
def dl (w : Bool) (i : Nat) : List (Nat × LV) → List (Nat × LV)
  | [] => []
  | q :: r => match (Nat.beq q.1 i || ((w && Nat.beq q.1 (i + 1)) || (Nat.beq (q.1 + 1) i && c2 q.2))) with
    | true => dl w i r
    | false => q :: dl w i r
theorem dl_mem {w : Bool} {i : Nat} {l : List (Nat × LV)} {q : Nat × LV} (h : q ∈ dl w i l) : q ∈ l ∧ (Nat.beq q.1 i || ((w && Nat.beq q.1 (i + 1)) || (Nat.beq (q.1 + 1) i && c2 q.2))) = false := by
  induction l with
  | nil => cases h
  | cons x r ih =>
    unfold dl at h
    split at h
    · exact ⟨List.mem_cons_of_mem _ (ih h).1, (ih h).2⟩
    · rename_i e
      rcases List.mem_cons.mp h with e1 | e1
      · rw [e1]; exact ⟨List.mem_cons_self, e⟩
      · exact ⟨List.mem_cons_of_mem _ (ih e1).1, (ih e1).2⟩
/-- a store: in its place if it has one, else behind -/
def sL (w : Bool) (i : Nat) (v : LV) : List (Nat × LV) → List (Nat × LV)
  | [] => [(i, v)]
  | q :: r => match Nat.beq q.1 i with
    | true => (i, v) :: dl w i r
    | false => match ((w && Nat.beq q.1 (i + 1)) || (Nat.beq (q.1 + 1) i && c2 q.2)) with
      | true => sL w i v r
      | false => q :: sL w i v r
theorem sL_mem {w : Bool} {i : Nat} {v : LV} {l : List (Nat × LV)} {q : Nat × LV} (h : q ∈ sL w i v l) : q = (i, v) ∨ (q ∈ l ∧ (Nat.beq q.1 i || ((w && Nat.beq q.1 (i + 1)) || (Nat.beq (q.1 + 1) i && c2 q.2))) = false) := by
  induction l with
  | nil => simp [sL] at h; exact Or.inl h
  | cons x r ih =>
    unfold sL at h
    split at h
    · rcases List.mem_cons.mp h with e | e
      · exact Or.inl e
      · exact Or.inr ⟨List.mem_cons_of_mem _ (dl_mem e).1, (dl_mem e).2⟩
    · rename_i e0
      split at h
      · rcases ih h with e | e
        · exact Or.inl e
        · exact Or.inr ⟨List.mem_cons_of_mem _ e.1, e.2⟩
      · rename_i e1
        rcases List.mem_cons.mp h with e | e
        · rw [e]; exact Or.inr ⟨List.mem_cons_self, by rw [e0, e1]; rfl⟩
        · rcases ih e with e | e
          · exact Or.inl e
          · exact Or.inr ⟨List.mem_cons_of_mem _ e.1, e.2⟩
theorem nbeq (a b : Nat) : (a == b) = Nat.beq a b := by
  cases h : Nat.beq a b
  · exact beq_false_of_ne (Nat.ne_of_beq_eq_false h)
  · rw [Nat.eq_of_beq_eq_true h]; exact beq_self_eq_true b
theorem lh_sub {ls : Array Slot} {n : Nat} {a b : List (Nat × Value)} (h : lv_has ls n a) (hs : ∀ q ∈ b, q ∈ a) : lv_has ls n b := ⟨h.1, h.2.1, fun q hq => h.2.2 q (hs q hq)⟩
theorem lh_at {ls : Array Slot} {n : Nat} {l : List (Nat × LV)} (h : lv_has ls n (lV l)) {i : Nat} {v : LV} (hg : gL l i = some v) : ls[i]? = some (.val (vV v)) :=
  h.2.2 (i, vV v) (List.mem_map.mpr ⟨(i, v), gL_mem hg, rfl⟩)
theorem lh_s1 {ls : Array Slot} {n : Nat} {l : List (Nat × LV)} {i : Nat} {v : LV} (h : lv_has ls n ((i, vV v) :: (lV l).filter (fun q => !(q.1 == i) && !(q.1 + 1 == i && q.2.category == 2)))) : lv_has ls n (lV (sL false i v l)) := by
  refine lh_sub h fun q hq => ?_
  obtain ⟨x, hx, rfl⟩ := List.mem_map.mp hq
  rcases sL_mem hx with e | ⟨e, e2⟩
  · rw [e]; exact List.mem_cons_self
  · refine List.mem_cons_of_mem _ (List.mem_filter.mpr ⟨List.mem_map.mpr ⟨x, e, rfl⟩, ?_⟩)
    simp only [Bool.or_eq_false_iff, Bool.false_and, true_and] at e2
    have a1 : (x.1 == i) = false := by rw [nbeq]; exact e2.1
    have a2 : (x.1 + 1 == i && c2 x.2) = false := by rw [nbeq]; exact e2.2
    rw [← c2_cat] at a2
    simp only [a1, a2]; rfl
theorem lh_s2 {ls : Array Slot} {n : Nat} {l : List (Nat × LV)} {i : Nat} {v : LV} (h : lv_has ls n ((i, vV v) :: (lV l).filter (fun q => !(q.1 == i) && (!(q.1 == i + 1) && !(q.1 + 1 == i && q.2.category == 2))))) : lv_has ls n (lV (sL true i v l)) := by
  refine lh_sub h fun q hq => ?_
  obtain ⟨x, hx, rfl⟩ := List.mem_map.mp hq
  rcases sL_mem hx with e | ⟨e, e2⟩
  · rw [e]; exact List.mem_cons_self
  · refine List.mem_cons_of_mem _ (List.mem_filter.mpr ⟨List.mem_map.mpr ⟨x, e, rfl⟩, ?_⟩)
    simp only [Bool.or_eq_false_iff, Bool.true_and] at e2
    have a1 : (x.1 == i) = false := by rw [nbeq]; exact e2.1
    have a2 : (x.1 == i + 1) = false := by rw [nbeq]; exact e2.2.1
    have a3 : (x.1 + 1 == i && c2 x.2) = false := by rw [nbeq]; exact e2.2.2
    rw [← c2_cat] at a3
    simp only [a1, a2, a3]; rfl
/-- how long an instruction is -/
def ilen (i : Instr) : Nat := match i with
  | .bipush _ | .iload _ | .lload _ | .aload _ | .istore _ | .lstore _ | .astore _ => 2
  | .sipush _ | .iinc _ _ | .goto _ => 3
  | _ => 1
def auxOk (i : Instr) (x : LV) : Bool := match i, x with
  | .iconst n, .inl v => decide (n = v)
  | .bipush n, .inl v => decide ((Int8.ofInt n).toInt32 = Int32.ofInt v)
  | .sipush n, .inl v => decide ((Int16.ofInt n).toInt32 = Int32.ofInt v)
  | .lconst n, .inr (.inl v) => decide (Int64.ofNat (n : Nat) = v)
  | .iinc _ n, .inl v => decide (n = v)
  | .iconst _, _ | .bipush _, _ | .sipush _, _ | .lconst _, _ | .iinc _ _, _ => false
  | _, _ => true
def nxOk (i : Instr) (pc nx : Nat) : Bool := match i with
  | .goto off => decide ((pc : Int) + off = (nx : Int))
  | _ => decide (pc + ilen i = nx)
/-- one pure instruction, on lists -/
def pst (nL : Nat) (i : Instr) (x : LV) (l : List (Nat × LV)) (st : List LV) : Option (List (Nat × LV) × List LV) := match i with
  | .iconst _ | .bipush _ | .sipush _ | .lconst _ => some (l, x :: st)
  | .aconst_null => some (l, vr none :: st)
  | .goto _ => some (l, st)
  | .iload k => match gL l k with
    | some (.inl a) => some (l, vi a :: st)
    | _ => none
  | .iload_n k => match gL l k.val with
    | some (.inl a) => some (l, vi a :: st)
    | _ => none
  | .lload k => match gL l k with
    | some (.inr (.inl a)) => some (l, vl a :: st)
    | _ => none
  | .lload_n k => match gL l k.val with
    | some (.inr (.inl a)) => some (l, vl a :: st)
    | _ => none
  | .aload k => match gL l k with
    | some (.inr (.inr a)) => some (l, vr a :: st)
    | _ => none
  | .aload_n k => match gL l k.val with
    | some (.inr (.inr a)) => some (l, vr a :: st)
    | _ => none
  | .istore k => match st, Nat.ble (k + 1) nL with
    | .inl a :: r, true => some (sL false k (vi a) l, r)
    | _, _ => none
  | .istore_n k => match st, Nat.ble (k.val + 1) nL with
    | .inl a :: r, true => some (sL false k.val (vi a) l, r)
    | _, _ => none
  | .lstore k => match st, Nat.ble (k + 1 + 1) nL with
    | .inr (.inl a) :: r, true => some (sL true k (vl a) l, r)
    | _, _ => none
  | .lstore_n k => match st, Nat.ble (k.val + 1 + 1) nL with
    | .inr (.inl a) :: r, true => some (sL true k.val (vl a) l, r)
    | _, _ => none
  | .astore k => match st, Nat.ble (k + 1) nL with
    | .inr (.inr a) :: r, true => some (sL false k (vr a) l, r)
    | _, _ => none
  | .astore_n k => match st, Nat.ble (k.val + 1) nL with
    | .inr (.inr a) :: r, true => some (sL false k.val (vr a) l, r)
    | _, _ => none
  | .iinc k _ => match gL l k, x, Nat.ble (k + 1) nL with
    | some (.inl a), .inl n, true => some (sL false k (vi (a + n)) l, st)
    | _, _, _ => none
  | .iadd => match st with
    | .inl b :: .inl a :: r => some (l, vi (a + b) :: r)
    | _ => none
  | .isub => match st with
    | .inl b :: .inl a :: r => some (l, vi (a - b) :: r)
    | _ => none
  | .imul => match st with
    | .inl b :: .inl a :: r => some (l, vi (a * b) :: r)
    | _ => none
  | .iand => match st with
    | .inl b :: .inl a :: r => some (l, vi (iAnd a b) :: r)
    | _ => none
  | .ior => match st with
    | .inl b :: .inl a :: r => some (l, vi (iOr a b) :: r)
    | _ => none
  | .ixor => match st with
    | .inl b :: .inl a :: r => some (l, vi (iXor a b) :: r)
    | _ => none
  | .ishl => match st with
    | .inl b :: .inl a :: r => some (l, vi (iShl a b) :: r)
    | _ => none
  | .ishr => match st with
    | .inl b :: .inl a :: r => some (l, vi (iShr a b) :: r)
    | _ => none
  | .iushr => match st with
    | .inl b :: .inl a :: r => some (l, vi (iUsh a b) :: r)
    | _ => none
  | .ineg => match st with
    | .inl a :: r => some (l, vi (-a) :: r)
    | _ => none
  | .ladd => match st with
    | .inr (.inl b) :: .inr (.inl a) :: r => some (l, vl (a + b) :: r)
    | _ => none
  | .lsub => match st with
    | .inr (.inl b) :: .inr (.inl a) :: r => some (l, vl (a - b) :: r)
    | _ => none
  | .lmul => match st with
    | .inr (.inl b) :: .inr (.inl a) :: r => some (l, vl (a * b) :: r)
    | _ => none
  | .land => match st with
    | .inr (.inl b) :: .inr (.inl a) :: r => some (l, vl (a &&& b) :: r)
    | _ => none
  | .lor => match st with
    | .inr (.inl b) :: .inr (.inl a) :: r => some (l, vl (a ||| b) :: r)
    | _ => none
  | .lxor => match st with
    | .inr (.inl b) :: .inr (.inl a) :: r => some (l, vl (a ^^^ b) :: r)
    | _ => none
  | .lneg => match st with
    | .inr (.inl a) :: r => some (l, vl (-a) :: r)
    | _ => none
  | .lshl => match st with
    | .inl b :: .inr (.inl a) :: r => some (l, vl (lShl a b) :: r)
    | _ => none
  | .lshr => match st with
    | .inl b :: .inr (.inl a) :: r => some (l, vl (lShr a b) :: r)
    | _ => none
  | .lushr => match st with
    | .inl b :: .inr (.inl a) :: r => some (l, vl (lUsh a b) :: r)
    | _ => none
  | .i2l => match st with
    | .inl a :: r => some (l, vl (iL a) :: r)
    | _ => none
  | .l2i => match st with
    | .inr (.inl a) :: r => some (l, vi (lI a) :: r)
    | _ => none
  | .i2b => match st with
    | .inl a :: r => some (l, vi (iB a) :: r)
    | _ => none
  | .dup => match st with
    | .inl a :: r => some (l, vi a :: vi a :: r)
    | .inr (.inr a) :: r => some (l, vr a :: vr a :: r)
    | _ => none
  | .pop => match st with
    | .inl _ :: r => some (l, r)
    | .inr (.inr _) :: r => some (l, r)
    | _ => none
  | .pop2 => match st with
    | .inr (.inl _) :: r => some (l, r)
    | _ => none
  | _ => none
section PstOk
variable {p : Program} {l0 : Launch} {e : Env} {R : Room} {s : State} {m : MethodId} {args : Array Value} {below : List Frame} {meth : Method} {c : Code} {H : Heap} {locs : List Loc} {cells slots : Nat} {Q : State → Prop} {cc : ByteArray} {ls : Array Slot} {pc nx : Nat}
theorem vV_i {a : Int} {r : List LV} : sV (Sum.inl a :: r) = .int (Int32.ofInt a) :: sV r := rfl
theorem vV_e {a : Int} {b : Int32} {r : List LV} (h : Int32.ofInt a = b) : sV (Sum.inl a :: r) = .int b :: sV r := by subst h; rfl
set_option maxHeartbeats 4000000 in
theorem pst_ok (hx : p.tables.exec = Jvm.exec) (hb : c.code = cc) {nL : Nat} {i : Instr} {x : LV} {l l' : List (Nat × LV)} {st st' : List LV} (hd : decode cc pc = .ok (i, ilen i)) (ha : auxOk i x = true) (hn : nxOk i pc nx = true) (hl : lv_has ls nL (lV l)) (h : pst nL i x l st = some (l', st'))
    (k : ∀ ls', lv_has ls' nL (lV l') → W p l0 e R s m args below meth c H locs cells slots Q (F0 m nx ls' (sV st'))) : W p l0 e R s m args below meth c H locs cells slots Q (F0 m pc ls (sV st)) := by
  cases i <;> simp only [pst] at h <;> first | (cases h; done) | skip
  case goto off =>
    cases h
    exact lv_goto hx hb hd (of_decide_eq_true hn) (k _ hl)
  all_goals (have hn' : pc + ilen _ = nx := of_decide_eq_true hn; subst hn')
  case aconst_null =>
    cases h
    exact lv_null hx hb hd (k _ hl)
  case iconst n =>
    cases h
    rcases x with v | v
    · exact lv_iconst hx hb hd (by rw [show n = v from of_decide_eq_true ha]) (k _ hl)
    · cases ha
  case bipush n =>
    cases h
    rcases x with v | v
    · exact lv_bipush hx hb hd (of_decide_eq_true ha) (k _ hl)
    · cases ha
  case sipush n =>
    cases h
    rcases x with v | v
    · exact lv_sipush hx hb hd (of_decide_eq_true ha) (k _ hl)
    · cases ha
  case lconst n =>
    cases h
    rcases x with v | v | v
    · cases ha
    · exact lv_lconst hx hb hd (of_decide_eq_true ha) (k _ hl)
    · cases ha
  case iload n =>
    split at h
    · rename_i e1; cases h; exact lv_iload hx hb hd (lh_at hl e1) (k _ hl)
    · cases h
  case iload_n n =>
    split at h
    · rename_i e1; cases h; exact lv_iload_n hx hb hd rfl (lh_at hl e1) (k _ hl)
    · cases h
  case lload n =>
    split at h
    · rename_i e1; cases h; exact lv_lload hx hb hd (lh_at hl e1) (k _ hl)
    · cases h
  case lload_n n =>
    split at h
    · rename_i e1; cases h; exact lv_lload_n hx hb hd rfl (lh_at hl e1) (k _ hl)
    · cases h
  case aload n =>
    split at h
    · rename_i a e1
      cases h
      have hq := lh_at hl e1
      cases a with
      | none => exact lv_aloadN hx hb hd hq (k _ hl)
      | some a => exact lv_aload hx hb hd hq (k _ hl)
    · cases h
  case aload_n n =>
    split at h
    · rename_i a e1
      cases h
      have hq := lh_at hl e1
      cases a with
      | none => exact lv_aload_nN hx hb hd rfl hq (k _ hl)
      | some a => exact lv_aload_n hx hb hd rfl hq (k _ hl)
    · cases h
  case istore n =>
    split at h
    · rename_i e1; cases h; exact lv_istore hx hb hd hl (Nat.le_of_ble_eq_true e1) rfl (fun ls hl => k ls (lh_s1 hl))
    · cases h
  case istore_n n =>
    split at h
    · rename_i e1; cases h; exact lv_istore_n hx hb hd rfl hl (Nat.le_of_ble_eq_true e1) rfl (fun ls hl => k ls (lh_s1 hl))
    · cases h
  case lstore n =>
    split at h
    · rename_i e1; cases h; exact lv_lstore hx hb hd hl (Nat.le_of_ble_eq_true e1) rfl (fun ls hl => k ls (lh_s2 hl))
    · cases h
  case lstore_n n =>
    split at h
    · rename_i e1; cases h; exact lv_lstore_n hx hb hd rfl hl (Nat.le_of_ble_eq_true e1) rfl (fun ls hl => k ls (lh_s2 hl))
    · cases h
  case astore n =>
    split at h
    · rename_i a r e1
      cases h
      cases a with
      | none => exact lv_astoreN hx hb hd hl (Nat.le_of_ble_eq_true e1) rfl (fun ls hl => k ls (lh_s1 (v := vr none) hl))
      | some a => exact lv_astore hx hb hd hl (Nat.le_of_ble_eq_true e1) rfl (fun ls hl => k ls (lh_s1 (v := vr (some a)) hl))
    · cases h
  case astore_n n =>
    split at h
    · rename_i a r e1
      cases h
      cases a with
      | none => exact lv_astore_nN hx hb hd rfl hl (Nat.le_of_ble_eq_true e1) rfl (fun ls hl => k ls (lh_s1 (v := vr none) hl))
      | some a => exact lv_astore_n hx hb hd rfl hl (Nat.le_of_ble_eq_true e1) rfl (fun ls hl => k ls (lh_s1 (v := vr (some a)) hl))
    · cases h
  case iinc n y =>
    split at h
    · rename_i a b e1 e2
      cases h
      have hv : y = b := of_decide_eq_true ha
      obtain ⟨kk, hk⟩ := List.getElem?_of_mem (List.mem_map.mpr ⟨(n, vi a), gL_mem e1, rfl⟩ : (n, vV (vi a)) ∈ lV l)
      exact lv_iinc hx hb hd hl hk (v := Int32.ofInt (a + b)) (by rw [hv, Int32.ofInt_add]) (Nat.le_of_ble_eq_true e2) rfl (fun ls hl => k ls (lh_s1 (v := vi (a + b)) hl))
    · cases h
  case iadd => split at h <;> cases h; exact lv_iadd hx hb hd (by have h := k _ hl; rw [vV_e (Int32.ofInt_add ..)] at h; exact h)
  case isub => split at h <;> cases h; exact lv_isub hx hb hd (by have h := k _ hl; rw [vV_e (Int32.ofInt_sub ..)] at h; exact h)
  case imul => split at h <;> cases h; exact lv_imul hx hb hd (by have h := k _ hl; rw [vV_e (Int32.ofInt_mul ..)] at h; exact h)
  case iand => split at h <;> cases h; exact lv_iand hx hb hd (by have h := k _ hl; rw [vV_e (show Int32.ofInt (iAnd _ _) = _ from Int32.ofInt_toInt _)] at h; exact h)
  case ior => split at h <;> cases h; exact lv_ior hx hb hd (by have h := k _ hl; rw [vV_e (show Int32.ofInt (iOr _ _) = _ from Int32.ofInt_toInt _)] at h; exact h)
  case ixor => split at h <;> cases h; exact lv_ixor hx hb hd (by have h := k _ hl; rw [vV_e (show Int32.ofInt (iXor _ _) = _ from Int32.ofInt_toInt _)] at h; exact h)
  case ishl => split at h <;> cases h; exact lv_ishl hx hb hd (by have h := k _ hl; rw [vV_e (show Int32.ofInt (iShl _ _) = _ from Int32.ofInt_toInt _)] at h; exact h)
  case ishr => split at h <;> cases h; exact lv_ishr hx hb hd (by have h := k _ hl; rw [vV_e (show Int32.ofInt (iShr _ _) = _ from Int32.ofInt_toInt _)] at h; exact h)
  case iushr => split at h <;> cases h; exact lv_iushr hx hb hd rfl (by have h := k _ hl; rw [vV_e (show Int32.ofInt (iUsh _ _) = _ from Int32.ofInt_toInt _)] at h; exact h)
  case ineg => split at h <;> cases h; exact lv_ineg hx hb hd (by have h := k _ hl; rw [vV_e (Int32.ofInt_neg ..)] at h; exact h)
  case ladd => split at h <;> cases h; exact lv_ladd hx hb hd (k _ hl)
  case lsub => split at h <;> cases h; exact lv_lsub hx hb hd (k _ hl)
  case lmul => split at h <;> cases h; exact lv_lmul hx hb hd (k _ hl)
  case land => split at h <;> cases h; exact lv_land hx hb hd (k _ hl)
  case lor => split at h <;> cases h; exact lv_lor hx hb hd (k _ hl)
  case lxor => split at h <;> cases h; exact lv_lxor hx hb hd (k _ hl)
  case lneg => split at h <;> cases h; exact lv_lneg hx hb hd (k _ hl)
  case lshl => split at h <;> cases h; exact lv_lshl hx hb hd rfl (k _ hl)
  case lshr => split at h <;> cases h; exact lv_lshr hx hb hd rfl (k _ hl)
  case lushr => split at h <;> cases h; exact lv_lushr hx hb hd rfl (k _ hl)
  case i2l => split at h <;> cases h; exact lv_i2l hx hb hd rfl (k _ hl)
  case l2i => split at h <;> cases h; exact lv_l2i hx hb hd rfl (by have h := k _ hl; rw [vV_e (show Int32.ofInt (lI _) = _ from Int32.ofInt_toInt _)] at h; exact h)
  case i2b => split at h <;> cases h; exact lv_i2b hx hb hd rfl (by have h := k _ hl; rw [vV_e (show Int32.ofInt (iB _) = _ from Int32.ofInt_toInt _)] at h; exact h)
  case dup =>
    split at h
    · cases h; exact lv_dup hx hb hd rfl (k _ hl)
    · cases h; exact lv_dup hx hb hd (vrf_cat _) (k _ hl)
    · cases h
  case pop =>
    split at h
    · cases h; exact lv_pop hx hb hd rfl (k _ hl)
    · cases h; exact lv_pop hx hb hd (vrf_cat _) (k _ hl)
    · cases h
  case pop2 => split at h <;> cases h; exact lv_pop2_2 hx hb hd rfl (k _ hl)
/-- a run of pure instructions: instruction, its constant, the next pc -/
abbrev Bk : Type := List (Instr × LV × Nat)
def dks (cc : ByteArray) : Nat → Bk → Bool
  | _, [] => true
  | pc, (i, x, nx) :: r => decide (decode cc pc = .ok (i, ilen i)) && (auxOk i x && (nxOk i pc nx && dks cc nx r))
def bks (nL : Nat) : Bk → List (Nat × LV) → List LV → Option (List (Nat × LV) × List LV)
  | [], l, st => some (l, st)
  | (i, x, _) :: r, l, st => match pst nL i x l st with
    | some (l', st') => bks nL r l' st'
    | none => none
def lst (pc : Nat) : Bk → Nat
  | [] => pc
  | (_, _, nx) :: r => lst nx r
theorem bks_ok (hx : p.tables.exec = Jvm.exec) (hb : c.code = cc) {nL : Nat} : ∀ (is : Bk) (pc : Nat) (ls : Array Slot) (l l' : List (Nat × LV)) (st st' : List LV), dks cc pc is = true → lv_has ls nL (lV l) → bks nL is l st = some (l', st') →
    (∀ ls', lv_has ls' nL (lV l') → W p l0 e R s m args below meth c H locs cells slots Q (F0 m (lst pc is) ls' (sV st'))) → W p l0 e R s m args below meth c H locs cells slots Q (F0 m pc ls (sV st)) := by
  intro is
  induction is with
  | nil => intro pc ls l l' st st' _ hl h k; cases h; exact k _ hl
  | cons q r ih =>
    obtain ⟨i, x, nx⟩ := q
    intro pc ls l l' st st' hd hl h k
    simp only [dks, Bool.and_eq_true] at hd
    unfold bks at h
    split at h
    · rename_i l1 st1 e1
      exact pst_ok hx hb (of_decide_eq_true hd.1) hd.2.1 hd.2.2.1 hl e1 (fun ls' hl' => ih nx ls' l1 l' st1 st' hd.2.2.2 hl' h k)
    · cases h
end PstOk
