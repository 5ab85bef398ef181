set_option maxRecDepth 100000
/-! EXCEPTIONS: how IllegalArgumentException is made and thrown -/
/-- a method from its entry, where nothing has been written yet -/
def UE (g : GE) (N : Mt) (d : Nat) (as : List LV) (H : Heap) (rc rs : Nat) (Q : UQ) : Prop :=
  ∀ (R : Room) (s : State) (m : MethodId) (args : Array Value) (below : List Frame) (meth : Method) (c : Code) (ls : Array Slot),
    Cx g N d R s m meth c → lv_has ls N.2.2.1 (lV (lA 0 as)) → s.heap = H → rc ≤ R.cells → rs ≤ R.slots → W (gp g) (gl g) (ge g) R s m args below meth c H [] 0 0 (EQ g R s below Q) (F0 m 0 ls [])
section Ent2
variable {g : GE} {M N : Mt} {d d' : Nat} {R : Room} {s : State} {m : MethodId} {args : Array Value} {below : List Frame} {meth : Method} {c : Code} {T : State} {locs : List Loc} {cells slots : Nat}
set_option maxHeartbeats 1000000 in
theorem entE (C : Cx g M d R s m meth c) (X : Stand (gp g) (gl g) (ge g) R s m args below meth c T locs cells slots) (hlo : LO g locs) {rc rs : Nat} (hc : cells + rc ≤ R.cells) (hs : slots + rs ≤ R.slots)
    {pc : Nat} {ls : Array Slot} {rest : List LV} (hsz : ls.size = c.maxLocals) {ig : Instr} {len : Nat} (hdg : decode c.code pc = .ok (ig, len))
    {mk : MethodId} (hn : s.methodNamed? N.1 = some mk) (hcode : CI N) (hpl : plainFor N.1 = true) (as : List LV) (has : lW as ≤ N.2.2.1) (hd : d' + 1 ≤ d) (hw : 2 * rest.length + N.2.2.1 + 11 ≤ 64)
    {Q : UQ} (k : UE g N d' as T.heap rc rs Q) :
    ∃ (T' : State) (L : List Loc) (k n rc' rs' : Nat), Stand (gp g) (gl g) (ge g) R s m args below meth c T' (locs ++ L) (cells + k) (slots + n) ∧ LO g (locs ++ L) ∧ cells + k + rc' ≤ R.cells ∧ slots + n + rs' ≤ R.slots ∧
      ((∃ v : Option LV, Q.1 v T'.heap rc' rs' ∧ ∀ acts, Steps (gp g).tables (ge g) below (doInvoke (ge g) (T.setTop (F0 m pc ls (sV rest))) acts mk (sV as).toArray).1 (T'.setTop (F0 m (pc + len) ls (sV (v.toList ++ rest))))) ∨
       (∃ a : Nat, Q.2 a T'.heap rc' rs' ∧ ∀ acts, Steps (gp g).tables (ge g) below (doInvoke (ge g) (T.setTop (F0 m pc ls (sV rest))) acts mk (sV as).toArray).1 ((T'.setTop (F0 m pc ls (sV rest))).pushFrame (.throwing a)))) := by
  have hnT : T.methodNamed? N.1 = some mk := X.named hn
  have hWT : (gs g).WarmedH T.vm := State.WarmedH.trans C.warm X.warmed
  obtain ⟨methk, ck, h1, h2, h3, h4, h5, h6, h7, h8⟩ := hcode.spec (g := g) C.1 hWT hnT
  have hpk : T.plainMethod mk := State.plainMethod.of_named hpl hnT h1
  have hcs := cat_sum rest
  have hfr := C.frames
  have hlc := C.locals
  obtain ⟨Y, hin⟩ := X.into (g := F0 m pc ls (sV rest)) rfl hsz hdg (sV as).toArray (R' := { frames := d', cells := rc, slots := rs, locals := 64 * d' }) h1 h2 h6 hpk (by show d' + 1 ≤ R.frames; omega)
    (by show 2 * 0 + ((sV rest).map fun v => v.category).sum + (ck.maxLocals + 11) + 64 * d' ≤ R.locals; rw [h4]; omega) hc hs
  generalize hU : (T.setTop (F0 m pc ls (sV rest))).pushFrame (.java (entryFrame mk (sV as).toArray ck.maxLocals)) = U0 at Y hin
  have hU0 : U0.heap = T.heap := by rw [← hU]; rfl
  have hl := lv_entry (sV as) (n := ck.maxLocals) (by rw [lW_len, h4]; exact has)
  rw [← lA_args, h4] at hl
  have hcall : Cx g N d' { frames := d', cells := rc, slots := rs, locals := 64 * d' } (T.calling (F0 m pc ls (sV rest)) mk (sV as).toArray) mk methk ck :=
    ⟨C.1, h3, h5, h6, h4, findClass_of_methodNamed hnT, hWT, Nat.le_refl _, Nat.le_refl _, (name_of_methodNamed hnT h1).1, h7⟩
  obtain ⟨t, hst, o, L, kk, nn, rc', rs', e1, e2, e3, e4, e5, e6, e7, e8⟩ := k _ _ mk (sV as).toArray (.java (F0 m pc ls (sV rest)) :: below) methk ck _ hcall hl rfl (Nat.le_refl _) (Nat.le_refl _) U0 hU0 Y
  have hsteps : ∀ acts, Steps (gp g).tables (ge g) below (doInvoke (ge g) (T.setTop (F0 m pc ls (sV rest))) acts mk (sV as).toArray).1 t := by
    intro acts
    rw [hin acts, lg_entry_eq]
    have h := stW (mid := [.java (F0 m pc ls (sV rest))]) hst
    rw [h4]
    exact h
  have hlo2 : LO g (locs ++ L) := fun q hq => by
    rcases List.mem_append.mp hq with h | h
    · exact hlo q h
    · exact e5 q h
  have e6' : kk + rc' ≤ rc := e6
  have e7' : nn + rs' ≤ rs := e7
  rcases e8 with ⟨v, rfl, hq⟩ | ⟨a, rfl, hq⟩
  · obtain ⟨T', X', -, -, ht⟩ := X.outOf (g := F0 m pc ls (sV rest)) (mk := mk) (a := (sV as).toArray) rfl hdg e2 e3 e4
    have hh : T'.heap = t.heap := by
      have h1 := congrArg State.heap ht
      simpa using h1.symm
    refine ⟨T', L, kk, nn, rc', rs', X', hlo2, by omega, by omega, Or.inl ⟨v, by rw [hh]; exact hq, fun acts => ?_⟩⟩
    have h := hsteps acts
    rw [ht] at h
    have he : ({ F0 m pc ls (sV rest) with pc := (F0 m pc ls (sV rest)).pc + len, stack := (v.map vV).toList ++ (F0 m pc ls (sV rest)).stack } : JFrame) = F0 m (pc + len) ls (sV (v.toList ++ rest)) := by
      cases v <;> rfl
    rw [he] at h
    exact h
  · obtain ⟨T', X', -, -, ht⟩ := X.outOfThrown (g := F0 m pc ls (sV rest)) (mk := mk) (a := (sV as).toArray) rfl e2 e3 e4
    have hh : T'.heap = t.heap := by
      have h1 := congrArg State.heap ht
      simpa [State.pushFrame] using h1.symm
    refine ⟨T', L, kk, nn, rc', rs', X', hlo2, by omega, by omega, Or.inr ⟨a, by rw [hh]; exact hq, fun acts => ?_⟩⟩
    have h := hsteps acts
    rw [ht] at h
    exact h
end Ent2
section Rules2
variable {g : GE} {M N : Mt} {d d' pc : Nat} {l l' : List (Nat × LV)} {st st' rest : List LV} {H : Heap} {rc rs : Nat} {Q : UQ}
/-- a call has been made ready (the machine stands at doInvoke): go on -/
theorem U.finE {st0 : List Value} {R : Room} {s : State} {m : MethodId} {args : Array Value} {below : List Frame} {meth : Method} {c : Code} {T T1 : State} {locs : List Loc} {cells slots : Nat} {ls : Array Slot} (C : Cx g M d R s m meth c) (hl : lv_has ls M.2.2.1 (lV l)) (hlo : LO g locs) (hc : cells + rc ≤ R.cells) (hs : slots + rs ≤ R.slots) (hh : nocov M pc = true)
    (X1 : Stand (gp g) (gl g) (ge g) R s m args below meth c T1 locs cells slots) {ig : Instr} (hdg : decode M.2.1 pc = .ok (ig, 3)) {mk : MethodId} (hn : s.methodNamed? N.1 = some mk) (hcode : CI N) (hpl : plainFor N.1 = true) (as : List LV) (has : Nat.ble (lW as) N.2.2.1 = true) (hd : d' + 1 ≤ d) (hw : Nat.ble (2 * rest.length + N.2.2.1 + 11) 64 = true)
    (hst : ∀ target, (∀ acts, Steps (gp g).tables (ge g) below (doInvoke (ge g) (T1.setTop (F0 m pc ls (sV rest))) acts mk (sV as).toArray).1 target) → Steps (gp g).tables (ge g) below (T.setTop (F0 m pc ls st0)) target)
    (k : UE g N d' as T1.heap rc rs (fun v H' rc' rs' => U g M d (pc + 3) l (v.toList ++ rest) H' rc' rs' Q, Q.2)) :
    ∃ t, Steps (gp g).tables (ge g) below (T.setTop (F0 m pc ls st0)) t ∧ EQ g R s below Q t := by
  obtain ⟨T', L, kk, nn, rc', rs', X', hlo', hc', hs', h | h⟩ := entE C X1 hlo hc hs (rest := rest) (by rw [hl.1, C.hml]) (by rw [C.hb]; exact hdg) hn hcode hpl as (Nat.le_of_ble_eq_true has) hd (Nat.le_of_ble_eq_true hw) k
  · obtain ⟨v, hq, hsteps⟩ := h
    obtain ⟨t, a, b⟩ := hq R s m args below meth c (locs ++ L) (cells + kk) (slots + nn) ls C hl hlo' hc' hs' T' rfl X'
    exact ⟨t, hst t fun acts => (hsteps acts).trans a, b⟩
  · obtain ⟨a, hq, hsteps⟩ := h
    obtain ⟨h1, h2, h3, h4, h5⟩ := X'.leaveThrown a (g := F0 m pc ls (sV rest)) rfl rfl rfl (nocov_out hh C.tab) C.hlk
    refine ⟨_, hst _ fun acts => (hsteps acts).trans h1, .threw a, locs ++ L, cells + kk, slots + nn, rc', rs', h2, h3, h4, h5, hlo', hc', hs', Or.inr ⟨a, rfl, ?_⟩⟩
    exact hq
theorem U.csE {i : Nat} (as rest : List LV) (hh : nocov M pc = true) (hdg : d1 M.2.1 pc (.invokestatic i) 3 = true) (hlink : Cond.methodLink M.1.cls i N.1 ∈ lw_all) (hstat : Cond.static N.1 ∈ lw_all) (hinit : Cond.initialized N.1.cls ∈ lw_all) (hcode : CI N) (hy : okN N.1 as.length = true)
    (hst : st = as.reverse ++ rest) (has : Nat.ble (lW as) N.2.2.1 = true) (hd : d' + 1 ≤ d) (hw : Nat.ble (2 * rest.length + N.2.2.1 + 11) 64 = true)
    (k : UE g N d' as H rc rs (fun v H' rc' rs' => U g M d (pc + 3) l (v.toList ++ rest) H' rc' rs' Q, Q.2)) : U g M d pc l st H rc rs Q := by
  intro R s m args below meth c locs cells slots ls C0 hl hlo hc hs T hT X
  subst hT
  have hnm : ∃ mk, s.methodNamed? N.1 = some mk := by
    rcases hcode with ⟨-, h⟩ | h
    · exact Cond.code_named (C0.word h args)
    · obtain ⟨mk, -, -, h0, -⟩ := Cond.codeWith_spec (C0.word h args)
      exact ⟨mk, h0⟩
  obtain ⟨mk, hnamed⟩ := hnm
  obtain ⟨methM, ck, h1, h2, h3, h4, h5, h6, h7, h8⟩ := hcode.spec C0.1 C0.warm hnamed
  have hstatic : methM.isStatic = true := Cond.static_spec hnamed h1 (C0.word hstat args)
  obtain ⟨kP, hkP, -⟩ := className_of_methodNamed hnamed
  have hinitP : kP.init = .initialized := Cond.initialized_spec (findClass_of_methodNamed hnamed) hkP (C0.word hinit args)
  obtain ⟨vm₁, X₁, hstep₁⟩ := X.invokestatic C0.hx C0.hown (C0.word hlink args) hnamed h1 hstatic hkP hinitP (okN_2 hy) (g := F0 m pc ls (sV st)) rfl (argsL := sV as) (rest := sV rest) (by rw [← okN_3 hy h8]; exact List.length_map ..) (by rw [hst, sV_app, sV_rev]) (by rw [C0.hb]; exact of_decide_eq_true hdg)
  exact U.finE C0 hl hlo hc hs hh X₁ (of_decide_eq_true hdg) hnamed hcode (okN_1 hy) as has hd hw hstep₁ k
end Rules2
section Throw
variable {g : GE} {M N : Mt} {d d' pc : Nat} {l l' : List (Nat × LV)} {st st' rest : List LV} {H H' : Heap} {rc rs : Nat} {Q : UQ} {R : Room} {s : State} {m : MethodId} {meth : Method} {c : Code}
theorem Cx.decl (C : Cx g M d R s m meth c) {x : MethodName} (hw : Cond.declares x ∈ lw_tbl) (args : Array Value) : (Cond.declares x).before args s = true := (va_Nw.warmD C.warm (C.nw hw rfl)).use rfl
theorem Cx.lays0 (C : Cx g M d R s m meth c) (hlow : ∀ q, q < gB g → s.heap[q]? = (gs g).heap[q]?) (hsz : gB g ≤ s.heap.size) {o n dd : String} (hw : Cond.laysStatic o n dd ∈ lw_tbl) (args : Array Value) : (Cond.laysStatic o n dd).before args s = true := by
  obtain ⟨A, hA⟩ := C.1.2.1
  obtain ⟨cc, k, i, f, a, cell, h1, h2, h3, h4, h5, h6, h7, h8, h9⟩ := Cond.laysStatic_spec (hA _ hw)
  obtain ⟨k', hi', he⟩ := State.fieldFound?_setVm C.warm.alike h2
  have e1 : s.vm.findClass o = some cc := by rw [C.warm.alike.findClass]; exact h1
  have e2 : s.fieldFound? o n dd = some (cc, k', i, f) := hi'
  have ha : a < gB g := (Array.getElem?_eq_some_iff.mp h5).1
  have e3 : s.heap[a]? = some cell := by rw [hlow a ha]; exact h5
  have e4 : k'.statics = some a := by rw [he]; exact h4
  have e5 : k'.staticTypes[f.slot]? = some f.type := by rw [he]; exact h9
  show (Cond.laysStatic o n dd).holds args s none s [] = true
  simp [Cond.holds, Cond.value, e1, e2, e3, e4, e5, h3, h6, h7, h8]
theorem Cx.isref (C : Cx g M d R s m meth c) (hlow : ∀ q, q < gB g → s.heap[q]? = (gs g).heap[q]?) {o n dd : String} (hz : va_Zq o n dd (fun q => gB g ≤ q) (gs g) (gs g).heap) (args : Array Value) : (Cond.isRef (.static o n dd)).before args s = true := by
  have key : ∀ v : Value, v.isRef = true → va_Z o n dd v (fun q => gB g ≤ q) (gs g) (gs g).heap → (Cond.isRef (.static o n dd)).before args s = true := by
    intro v hv h
    obtain ⟨cf, kf, fi, f, a, cell, h1, h2, h3, h4, h5, h6, h7, h8⟩ := va_Z.moved C.warm.alike h
    have e3 : s.heap[a]? = some cell := by rw [hlow a (by omega)]; exact h5
    have he : (Term.static o n dd).eval args s none [] s = some v := by simp [Term.eval, State.fieldNamed?, h1, h2, h4, e3, h6, h7]
    show (Cond.isRef (.static o n dd)).holds args s none s [] = true
    simp only [Cond.holds, Cond.value]
    rw [he]
    cases v <;> simp_all [Value.isRef]
  rcases hz with h | ⟨t, h⟩
  · exact key _ rfl h
  · exact key _ rfl h
/-- the machine at 'new IllegalArgumentException()', thrown at once: at a method's entry as far as the heap goes -/
theorem W.throw0 {args : Array Value} {below : List Frame} {ls : Array Slot} {i ic : Nat} (C : Cx g M d R s m meth c) (hl0 : lv_has ls M.2.2.1 (lV l)) (hsH : s.heap = H) (hlow0 : ∀ q, q < gB g → H[q]? = (gs g).heap[q]?) (hsz0 : gB g ≤ H.size) (htr : (ge g).platform.stackTraces = false)
    (z1 : va_Zq "java/lang/Throwable" "UNASSIGNED_STACK" "[Ljava/lang/StackTraceElement;" (fun q => gB g ≤ q) (gs g) (gs g).heap) (z2 : va_Zq "java/lang/Throwable" "SUPPRESSED_SENTINEL" "Ljava/util/List;" (fun q => gB g ≤ q) (gs g) (gs g).heap)
    (hcl : Cond.classLink M.1.cls i "java/lang/IllegalArgumentException" ∈ lw_all) (hlink : Cond.methodLink M.1.cls ic ⟨"java/lang/IllegalArgumentException", "<init>", "()V"⟩ ∈ lw_all) (hh : M.2.2.2.2 = []) (hd0 : d1 M.2.1 pc (.new i) 3 = true) (hd1 : d1 M.2.1 (pc + 3) .dup 1 = true) (hd2 : d1 M.2.1 (pc + 4) (.invokespecial ic) 3 = true) (hd3 : d1 M.2.1 (pc + 7) .athrow 1 = true) (hdd : 6 ≤ d) (hrc : 1 ≤ rc) (hrs : 6 ≤ rs) (hc : rc ≤ R.cells) (hs : rs ≤ R.slots)
    (hq : ∀ H', (∃ fs : List Value, va_at (gD g) vCl (H.size, .inr (16, fs)) H') → H'.size = H.size + 1 → (∀ q, q < H.size → H'[q]? = H[q]?) → Q.2 H.size H' (rc - 1) (rs - 6)) :
    W (gp g) (gl g) (ge g) R s m args below meth c H [] 0 0 (EQ g R s below Q) (F0 m pc ls []) := by
  have hlow : ∀ q, q < gB g → s.heap[q]? = (gs g).heap[q]? := fun q hq => by rw [hsH]; exact hlow0 q hq
  have hsz : gB g ≤ s.heap.size := by rw [hsH]; exact hsz0
  have hKn := C.hK.1 16 _ cd16.1
  refine W.newcK C.hx C.hb C.hown (C.word hcl args) (C.word q445 args) (C.word q148 args) rfl (of_decide_eq_true hd0) (by omega) (by omega) hKn.2.1 rfl fun H1 kC hkC e1 z1' o1 => ?_
  refine lv_dup C.hx C.hb (of_decide_eq_true hd1) rfl ?_
  intro T hT X
  have hat : ∀ w ∈ Bundle.ownAtoms0 M.1.cls ic "java/lang/IllegalArgumentException" ["java/lang/RuntimeException", "java/lang/Exception"], w.before args s = true := fun w hw => (by
    have h : w ∈ Bundle.ownAtoms0 M.1.cls ic "java/lang/IllegalArgumentException" ["java/lang/RuntimeException", "java/lang/Exception"] := hw
    simp only [Bundle.ownAtoms0, Bundle.throwableAtoms, Bundle.chain0Atoms, Bundle.passAtoms, List.cons_append, List.nil_append, List.mem_cons, List.not_mem_nil, or_false] at h
    rcases h with rfl | rfl | rfl | rfl | rfl | rfl | rfl | rfl | rfl | rfl | rfl | rfl | rfl | rfl | rfl | rfl | rfl | rfl | rfl | rfl | rfl | rfl | rfl | rfl | rfl | rfl | rfl | rfl | rfl | rfl | rfl | rfl | rfl | rfl | rfl | rfl | rfl | rfl | rfl | rfl | rfl | rfl | rfl | rfl | rfl | rfl | rfl | rfl | rfl | rfl | rfl | rfl | rfl
    · exact C.word q145 args
    · exact C.word q466 args
    · exact C.word q475 args
    · exact C.word q477 args
    · exact C.word q480 args
    · exact C.word q482 args
    · exact C.word q467 args
    · exact C.word q468 args
    · exact C.word q172 args
    · exact C.word q173 args
    · exact C.word q469 args
    · exact C.word q474 args
    · exact C.word q478 args
    · exact C.word q494 args
    · exact C.word q456 args
    · exact C.word q495 args
    · exact C.word q458 args
    · exact C.word q496 args
    · exact C.word q460 args
    · exact C.word q470 args
    · exact C.lays0 hlow hsz q471 args
    · exact C.word q472 args
    · exact C.lays0 hlow hsz q473 args
    · exact C.word q462 args
    · exact C.word q484 args
    · exact C.word q485 args
    · exact C.word q486 args
    · exact C.word q487 args
    · exact C.decl q447 args
    · exact C.word q487 args
    · exact C.word q488 args
    · exact C.word q489 args
    · exact C.word q490 args
    · exact C.decl q449 args
    · exact C.word q490 args
    · exact C.word q491 args
    · exact C.word q492 args
    · exact C.word q467 args
    · exact C.decl q451 args
    · exact C.word hlink args
    · exact C.word q445 args
    · exact C.cast q446 args
    · exact C.word q453 args
    · exact C.word q454 args
    · exact C.word q455 args
    · exact C.word q457 args
    · exact C.word q459 args
    · exact C.word q461 args
    · exact Cx.isref C hlow z1 args
    · exact Cx.isref C hlow z2 args
    · exact C.word q493 args
    · exact C.word q464 args
    · exact C.word q463 args)
  have hfr := C.frames
  have hlc := C.locals
  have htab : c.exceptionTable.toList = [] := by
    have h := C.tab
    rw [hh] at h
    exact List.map_eq_nil_iff.mp h
  obtain ⟨U, st, hrun, hend, hW, hsame, ce, hce, hown⟩ := X.ctorThrow0 C.hx htr C.hown (cls := "java/lang/IllegalArgumentException") (names := ["java/lang/RuntimeException", "java/lang/Exception"]) (by decide +kernel) (by decide +kernel) hat (fun x hx => by cases hx) (a := H.size) hKn.2.1 hkC (by rw [hT]; exact e1) (by rw [hsH]; exact Nat.le_refl _) (g := F0 m (pc + 3 + 1) ls [.ref H.size, .ref H.size]) rfl (by show ls.size = _; rw [hl0.1, C.hml]) rfl rfl (rest := []) rfl (by rw [C.hb]; exact of_decide_eq_true hd2) (by rw [C.hb]; exact of_decide_eq_true hd3) (fun x hx => by rw [htab] at hx; cases hx) (by show 2 + 3 < R.frames; omega) (by show 2 * 0 + 1 + _ ≤ R.locals; simp; omega) C.hlk
  refine ⟨U, st, .threw H.size, [], 1, 6, rc - 1, rs - 6, hrun, hend, hW, hsame, (fun q hq => by cases hq), by omega, by omega, Or.inr ⟨H.size, rfl, ?_⟩⟩
  have hUH : U.heap.size ≤ s.heap.size + 1 := hsame.2.2.1
  have hUl : H.size < U.heap.size := (Array.getElem?_eq_some_iff.mp hce).1
  refine hq U.heap ?_ (by rw [hsH] at hUH; omega) (fun q hq => ?_)
  · have hcls : ce.cls = (gD g).1 16 := Option.some.inj (hown.cls.symm.trans hKn.2.1)
    obtain ⟨cell, b1, b2, b3, b4⟩ := u_born tyJ10 (C.words args) cd16.2.1 hKn hkC e1 cd16.2.2.1
    have hcb : cell = blank _ kC := Option.some.inj (b1.symm.trans e1)
    obtain ⟨c1, kX', hc1, hk', -, -, -, hn6⟩ := Cond.instantiable_spec (C.word q445 args)
    cases Option.some.inj (hc1.symm.trans hKn.2.1)
    cases Option.some.inj (hk'.symm.trans hkC)
    refine ⟨(List.range 6).map (fun k => ce.slots.getD ((gD g).2 16 k) .null), _, cd16.1, ce, hce, hcls, hown.vm, fun k hk => ?_⟩
    have hk6 : k < 6 := hk
    have hsl : (gD g).2 16 k < 6 := by
      have h1 := (Array.getElem?_eq_some_iff.mp (b4 k hk)).1
      rw [hcb] at h1
      simp only [blank, Array.size_map] at h1
      rw [hn6] at h1
      exact h1
    have hlt : (gD g).2 16 k < ce.slots.size := by rw [hown.size]; exact hsl
    show ce.slots[(gD g).2 16 k]? = some (((List.range 6).map (fun k => ce.slots.getD ((gD g).2 16 k) .null)).getD k .null)
    rw [List.getD_eq_getElem?_getD, List.getElem?_map, List.getElem?_range hk6, Array.getElem?_eq_getElem hlt]
    simp [Array.getD, hlt]
  · have hq' : q < s.heap.size := by rw [hsH]; exact hq
    obtain ⟨c', h1, h2, h3, h4⟩ := hsame.2.2.2.2.2 q _ (Array.getElem?_eq_getElem hq')
    have h1' : U.heap[q]? = some c' := h1
    rw [h1']
    have : c' = s.heap[q] := by
      rw [h2]
      have : c'.slots = s.heap[q].slots := Array.ext_getElem? (fun i => h4 i (by simp))
      rw [this]
    rw [this, ← hsH, Array.getElem?_eq_getElem hq']
end Throw
