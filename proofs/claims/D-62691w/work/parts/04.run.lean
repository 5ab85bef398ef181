set_option maxRecDepth 100000
/-! THE WALK'S OWN JUDGEMENT. g: the ground of a run: program, launch, environment, the law's entry state, class numbers, array classes (0 byte, 1 int, 2 boolean, 3 Field, 4 Object), the strings' places, the reference's object and arrays -/
abbrev GE : Type := Program × Launch × Env × State × va_G × (Nat → ClassId) × (Nat → Nat) × Nat × (Nat → Nat)
abbrev gp (g : GE) : Program := g.1
abbrev gl (g : GE) : Launch := g.2.1
abbrev ge (g : GE) : Env := g.2.2.1
abbrev gs (g : GE) : State := g.2.2.2.1
abbrev gD (g : GE) : va_G := g.2.2.2.2.1
abbrev ga (g : GE) : Nat → ClassId := g.2.2.2.2.2.1
abbrev gK (g : GE) : Nat → Nat := g.2.2.2.2.2.2.1
abbrev gw (g : GE) : Nat := g.2.2.2.2.2.2.2.1
abbrev gT (g : GE) : Nat → Nat := g.2.2.2.2.2.2.2.2
/-- a method: its name, its code, its locals, its answer, its handlers -/
abbrev Mt : Type := MethodName × ByteArray × Nat × Option FieldType × List (Nat × Nat × Nat × Nat)
/-- the classes, by number -/
abbrev vCl : List vw_C := [(RX0, TX0, 7), (RX1, TX1, 7), (RX2, TX2, 4), (RX3, TX3, 2), (RX4, TX4, 61), (RX5, TX5, 7), (RX6, TX6, 8), (RX7, TX7, 4), (RX8, TX8, 12), (RX9, TX9, 1), (RX10, TX10, 4), (RX11, TX11, 2), (RX12, TX12, 5), (RX14, TX14, 5), (RX15, TX15, 3), (RJ2, TJ2, 3), (RJ10, TJ10, 6)]
abbrev tys_ (g : GE) : List (ClassId × FieldType) := [(ga g 0, .byte), (ga g 1, .int), (ga g 2, .boolean), (ga g 3, .object "WireSchemas$Field"), (ga g 4, .object "java/lang/Object")]
/-- what holds of the ground: the machine, the tables' words, the classes -/
def GF (g : GE) : Prop := (gp g).tables.exec = Jvm.exec ∧ (∃ A : Array Value, ∀ w ∈ lw_tbl, w.before A (gs g) = true) ∧ va_K (gD g) vCl (tys_ g) (gs g)
def Cx (g : GE) (M : Mt) (d : Nat) (R : Room) (s : State) (m : MethodId) (meth : Method) (c : Code) : Prop :=
  GF g ∧ c.code = M.2.1 ∧ meth.sig.returnType = M.2.2.2.1 ∧ meth.locks = false ∧ c.maxLocals = M.2.2.1 ∧ s.vm.findClass M.1.cls = some m.cls ∧ (gs g).WarmedH s.vm ∧ d ≤ R.frames ∧ 64 * d ≤ R.locals ∧ meth.name = M.1.name ∧
    c.exceptionTable.toList.map (fun h => (h.startPc, h.endPc, h.handlerPc, h.catchType)) = M.2.2.2.2
/-- what is asked of an end: of a return (its value, the heap, the cells and slots left), of a throw -/
abbrev UQ : Type := (Option LV → Heap → Nat → Nat → Prop) × (Nat → Heap → Nat → Nat → Prop)
def LO (g : GE) (L : List Loc) : Prop := ∀ q ∈ L, (gs g).heap.size ≤ q.base
def EQ (g : GE) (R : Room) (s : State) (below : List Frame) (Q : UQ) (t : State) : Prop :=
  ∃ (o : Outcome) (L : List Loc) (k n rc rs : Nat), t.status = .running ∧ Ended t below o ∧ s.WarmedH t.vm ∧ s.sameButNew ({ t with vm := s.vm } : State) L k n ∧ LO g L ∧ k + rc ≤ R.cells ∧ n + rs ≤ R.slots ∧
    ((∃ v : Option LV, o = .returned (v.map vV) ∧ Q.1 v t.heap rc rs) ∨ ∃ a : Nat, o = .threw a ∧ Q.2 a t.heap rc rs)
/-- the machine at pc of method M, locals l, stack st, heap H, rc cells and rs slots left, d frames: it comes to an end with Q -/
def U (g : GE) (M : Mt) (d pc : Nat) (l : List (Nat × LV)) (st : List LV) (H : Heap) (rc rs : Nat) (Q : UQ) : Prop :=
  ∀ (R : Room) (s : State) (m : MethodId) (args : Array Value) (below : List Frame) (meth : Method) (c : Code) (locs : List Loc) (cells slots : Nat) (ls : Array Slot),
    Cx g M d R s m meth c → lv_has ls M.2.2.1 (lV l) → LO g locs → cells + rc ≤ R.cells → slots + rs ≤ R.slots →
    W (gp g) (gl g) (ge g) R s m args below meth c H locs cells slots (EQ g R s below Q) (F0 m pc ls (sV st))
section Cxs
variable {g : GE} {M : Mt} {d : Nat} {R : Room} {s : State} {m : MethodId} {meth : Method} {c : Code}
theorem Cx.hx (C : Cx g M d R s m meth c) : (gp g).tables.exec = Jvm.exec := C.1.1
theorem Cx.hb (C : Cx g M d R s m meth c) : c.code = M.2.1 := C.2.1
theorem Cx.hr (C : Cx g M d R s m meth c) : meth.sig.returnType = M.2.2.2.1 := C.2.2.1
theorem Cx.hlk (C : Cx g M d R s m meth c) : meth.locks = false := C.2.2.2.1
theorem Cx.hml (C : Cx g M d R s m meth c) : c.maxLocals = M.2.2.1 := C.2.2.2.2.1
theorem Cx.hown (C : Cx g M d R s m meth c) : s.vm.findClass M.1.cls = some m.cls := C.2.2.2.2.2.1
theorem Cx.warm (C : Cx g M d R s m meth c) : (gs g).WarmedH s.vm := C.2.2.2.2.2.2.1
theorem Cx.frames (C : Cx g M d R s m meth c) : d ≤ R.frames := C.2.2.2.2.2.2.2.1
theorem Cx.locals (C : Cx g M d R s m meth c) : 64 * d ≤ R.locals := C.2.2.2.2.2.2.2.2.1
theorem Cx.name (C : Cx g M d R s m meth c) : meth.name = M.1.name := C.2.2.2.2.2.2.2.2.2.1
theorem Cx.tab (C : Cx g M d R s m meth c) : c.exceptionTable.toList.map (fun h => (h.startPc, h.endPc, h.handlerPc, h.catchType)) = M.2.2.2.2 := C.2.2.2.2.2.2.2.2.2.2
theorem GF.word (G : GF g) (hW : (gs g).WarmedH s.vm) {w : Cond} (hw : w ∈ lw_all) (args : Array Value) : w.before args s = true := by
  obtain ⟨A, hA⟩ := G.2.1
  exact word_at hW (good_of_word (List.mem_filter.mp hw).2) (hA w (lw_all_tbl hw))
theorem Cx.word (C : Cx g M d R s m meth c) {w : Cond} (hw : w ∈ lw_all) (args : Array Value) : w.before args s = true := C.1.word C.warm hw args
theorem Cx.words (C : Cx g M d R s m meth c) (args : Array Value) : ∀ w ∈ lw_all, w.before args s = true := fun _ h => C.word h args
theorem Cx.nw (C : Cx g M d R s m meth c) {w : Cond} (hw : w ∈ lw_tbl) (ht : w.onTables = true) : va_Nw w (gs g) := by
  obtain ⟨A, hA⟩ := C.1.2.1
  exact va_Nw.of ht (hA w hw)
theorem Cx.nF (C : Cx g M d R s m meth c) {a : String} {i : Nat} {b n d' h : String} (hw : Cond.fieldLinkNest a i b n d' h ∈ lw_tbl) (args : Array Value) : (Cond.fieldLinkNest a i b n d' h).before args s = true := (va_Nw.warmF C.warm (C.nw hw rfl)).use rfl
theorem Cx.nM (C : Cx g M d R s m meth c) {a : String} {i : Nat} {x : MethodName} {h : String} (hw : Cond.methodLinkNest a i x h ∈ lw_tbl) (args : Array Value) : (Cond.methodLinkNest a i x h).before args s = true := (va_Nw.warmM C.warm (C.nw hw rfl)).use rfl
theorem Cx.hK (C : Cx g M d R s m meth c) : va_K (gD g) vCl (tys_ g) s := va_K.moved C.warm.alike C.1.2.2
end Cxs
theorem stW {tb : Tables} {e : Env} {mid below : List Frame} {a b : State} (h : Steps tb e (mid ++ below) a b) : Steps tb e below a b := by
  obtain ⟨n, hn, w⟩ := h
  exact ⟨n, hn, fun k hk => (w k hk).weaken⟩
/-- the locals at a method's entry -/
def lA : Nat → List LV → List (Nat × LV)
  | _, [] => []
  | i, v :: vs => (i, v) :: lA (match c2 v with | true => i + 2 | false => i + 1) vs
theorem lA_args : ∀ (vs : List LV) (i : Nat), lV (lA i vs) = lv_args i (sV vs) := by
  intro vs
  induction vs with
  | nil => intro i; rfl
  | cons v r ih =>
    intro i
    show (i, vV v) :: lV (lA _ r) = (i, vV v) :: lv_args _ (sV r)
    rw [ih]
    have h := c2_cat v
    cases hc : c2 v
    · rw [hc] at h
      have h1 : ¬ (vV v).category = 2 := ne_of_beq_false h
      rw [if_neg h1]
    · rw [hc] at h
      have h1 : (vV v).category = 2 := eq_of_beq h
      rw [if_pos h1]
/-- how many places the arguments take -/
def lW : List LV → Nat
  | [] => 0
  | v :: r => (match c2 v with | true => 2 | false => 1) + lW r
theorem lW_len (vs : List LV) : (lg_sl (sV vs)).length = lW vs := by
  induction vs with
  | nil => rfl
  | cons v r ih =>
    have h := c2_cat v
    show (lg_sl (vV v :: sV r)).length = _ + lW r
    rw [← ih]
    unfold lg_sl
    rw [List.flatMap_cons, List.length_append]
    cases hc : c2 v
    · rw [hc] at h
      rw [if_neg (ne_of_beq_false h)]; rfl
    · rw [hc] at h
      rw [if_pos (eq_of_beq h)]; rfl
theorem cat_le (v : LV) : (vV v).category ≤ 2 := by rcases lv_cat (vV v) with h | h <;> omega
theorem cat_sum (st : List LV) : ((sV st).map fun v => v.category).sum ≤ 2 * st.length := by
  induction st with
  | nil => simp [sV]
  | cons v r ih =>
    show (vV v).category + ((sV r).map fun v => v.category).sum ≤ 2 * (r.length + 1)
    have := cat_le v
    omega
