set_option maxRecDepth 100000
/-- the tables say the method's code -/
def CI (N : Mt) : Prop := (N.2.2.2.2 = [] ∧ Cond.code N.1 N.2.1 N.2.2.1 N.2.2.2.1 ∈ lw_all) ∨ Cond.codeWith N.1 N.2.1 N.2.2.1 N.2.2.2.1 N.2.2.2.2 ∈ lw_all
section Ent
variable {g : GE} {M N : Mt} {d d' : Nat} {R : Room} {s : State} {m : MethodId} {args : Array Value} {below : List Frame} {meth : Method} {c : Code} {T : State} {locs : List Loc} {cells slots : Nat}
theorem CI.spec (h : CI N) (G : GF g) {s : State} (hW : (gs g).WarmedH s.vm) {mk : MethodId} (hn : s.methodNamed? N.1 = some mk) :
    ∃ methk ck, s.vm.method? mk = some methk ∧ methk.code = some ck ∧ ck.code = N.2.1 ∧ ck.maxLocals = N.2.2.1 ∧ methk.sig.returnType = N.2.2.2.1 ∧ methk.locks = false ∧ ck.exceptionTable.toList.map (fun h => (h.startPc, h.endPc, h.handlerPc, h.catchType)) = N.2.2.2.2 ∧ parseMethodDescriptor N.1.desc = some methk.sig := by
  rcases h with ⟨h0, h⟩ | h
  · obtain ⟨meth, c, h1, h2, h3, h4, h5, h6, h7, h8⟩ := Cond.code_spec hn (G.word hW h #[])
    refine ⟨meth, c, h1, h2, h3, h4, h5, h6, ?_, h8⟩
    rw [h0]
    have : c.exceptionTable = #[] := Array.isEmpty_iff.mp h7
    rw [this]; rfl
  · obtain ⟨m', meth, c, h0, h1, h2, h3, h4, h5, h6, h7, h8⟩ := Cond.codeWith_spec (G.word hW h #[])
    cases hn.symm.trans h0
    exact ⟨meth, c, h1, h2, h3, h4, h6, h7, h5, h8⟩
set_option maxHeartbeats 1000000 in
theorem ent (C : Cx g M d R s m meth c) (X : Stand (gp g) (gl g) (ge g) R s m args below meth c T locs cells slots) (hlo : LO g locs) {rc rs : Nat} (hc : cells + rc ≤ R.cells) (hs : slots + rs ≤ R.slots)
    {pc : Nat} {ls : Array Slot} {rest : List LV} (hsz : ls.size = c.maxLocals) {ig : Instr} {len : Nat} (hdg : decode c.code pc = .ok (ig, len))
    {mk : MethodId} (hn : s.methodNamed? N.1 = some mk) (hcode : CI N) (hpl : plainFor N.1 = true) (as : List LV) (has : lW as ≤ N.2.2.1) (hd : d' + 1 ≤ d) (hw : 2 * rest.length + N.2.2.1 + 11 ≤ 64)
    {Q : UQ} (k : U g N d' 0 (lA 0 as) [] T.heap rc rs Q) :
    ∃ (T' : State) (L : List Loc) (k n rc' rs' : Nat), Stand (gp g) (gl g) (ge g) R s m args below meth c T' (locs ++ L) (cells + k) (slots + n) ∧ LO g (locs ++ L) ∧ cells + k + rc' ≤ R.cells ∧ slots + n + rs' ≤ R.slots ∧
      ((∃ v : Option LV, Q.1 v T'.heap rc' rs' ∧ ∀ acts, Steps (gp g).tables (ge g) below (doInvoke (ge g) (T.setTop (F0 m pc ls (sV rest))) acts mk (sV as).toArray).1 (T'.setTop (F0 m (pc + len) ls (sV (v.toList ++ rest))))) ∨
       (∃ a : Nat, Q.2 a T'.heap rc' rs' ∧ ∀ acts, Steps (gp g).tables (ge g) below (doInvoke (ge g) (T.setTop (F0 m pc ls (sV rest))) acts mk (sV as).toArray).1 ((T'.setTop (F0 m pc ls (sV rest))).pushFrame (.throwing a)))) := by
  have hnT : T.methodNamed? N.1 = some mk := X.named hn
  have hWT : (gs g).WarmedH T.vm := State.WarmedH.trans C.warm X.warmed
  obtain ⟨methk, ck, h1, h2, h3, h4, h5, h6, h7, h8⟩ := hcode.spec (g := g) C.1 hWT hnT
  have hpk : T.plainMethod mk := State.plainMethod.of_named hpl hnT h1
  have hcs := cat_sum rest
  have hfr := C.frames
  have hlc := C.locals
  obtain ⟨Y, hin⟩ := X.into (g := F0 m pc ls (sV rest)) rfl hsz hdg (sV as).toArray (R' := { frames := d', cells := rc, slots := rs, locals := 64 * d' }) h1 h2 h6 hpk (by show d' + 1 ≤ R.frames; omega)
    (by show 2 * 0 + ((sV rest).map fun v => v.category).sum + (ck.maxLocals + 11) + 64 * d' ≤ R.locals; rw [h4]; omega) hc hs
  generalize hU : (T.setTop (F0 m pc ls (sV rest))).pushFrame (.java (entryFrame mk (sV as).toArray ck.maxLocals)) = U0 at Y hin
  have hU0 : U0.heap = T.heap := by rw [← hU]; rfl
  have hl := lv_entry (sV as) (n := ck.maxLocals) (by rw [lW_len, h4]; exact has)
  rw [← lA_args, h4] at hl
  have hcall : Cx g N d' { frames := d', cells := rc, slots := rs, locals := 64 * d' } (T.calling (F0 m pc ls (sV rest)) mk (sV as).toArray) mk methk ck :=
    ⟨C.1, h3, h5, h6, h4, findClass_of_methodNamed hnT, hWT, Nat.le_refl _, Nat.le_refl _, (name_of_methodNamed hnT h1).1, h7⟩
  obtain ⟨t, hst, o, L, kk, nn, rc', rs', e1, e2, e3, e4, e5, e6, e7, e8⟩ := k _ _ mk (sV as).toArray (.java (F0 m pc ls (sV rest)) :: below) methk ck [] 0 0 _ hcall hl (fun _ h => by cases h) (by show 0 + rc ≤ rc; omega) (by show 0 + rs ≤ rs; omega) U0 hU0 Y
  have hsteps : ∀ acts, Steps (gp g).tables (ge g) below (doInvoke (ge g) (T.setTop (F0 m pc ls (sV rest))) acts mk (sV as).toArray).1 t := by
    intro acts
    rw [hin acts, lg_entry_eq]
    have h := stW (mid := [.java (F0 m pc ls (sV rest))]) hst
    rw [h4]
    exact h
  have hlo2 : LO g (locs ++ L) := fun q hq => by
    rcases List.mem_append.mp hq with h | h
    · exact hlo q h
    · exact e5 q h
  have e6' : kk + rc' ≤ rc := e6
  have e7' : nn + rs' ≤ rs := e7
  rcases e8 with ⟨v, rfl, hq⟩ | ⟨a, rfl, hq⟩
  · obtain ⟨T', X', -, -, ht⟩ := X.outOf (g := F0 m pc ls (sV rest)) (mk := mk) (a := (sV as).toArray) rfl hdg e2 e3 e4
    have hh : T'.heap = t.heap := by
      have h1 := congrArg State.heap ht
      simpa using h1.symm
    refine ⟨T', L, kk, nn, rc', rs', X', hlo2, by omega, by omega, Or.inl ⟨v, by rw [hh]; exact hq, fun acts => ?_⟩⟩
    have h := hsteps acts
    rw [ht] at h
    have he : ({ F0 m pc ls (sV rest) with pc := (F0 m pc ls (sV rest)).pc + len, stack := (v.map vV).toList ++ (F0 m pc ls (sV rest)).stack } : JFrame) = F0 m (pc + len) ls (sV (v.toList ++ rest)) := by
      cases v <;> rfl
    rw [he] at h
    exact h
  · obtain ⟨T', X', -, -, ht⟩ := X.outOfThrown (g := F0 m pc ls (sV rest)) (mk := mk) (a := (sV as).toArray) rfl e2 e3 e4
    have hh : T'.heap = t.heap := by
      have h1 := congrArg State.heap ht
      simpa [State.pushFrame] using h1.symm
    refine ⟨T', L, kk, nn, rc', rs', X', hlo2, by omega, by omega, Or.inr ⟨a, by rw [hh]; exact hq, fun acts => ?_⟩⟩
    have h := hsteps acts
    rw [ht] at h
    exact h
end Ent

/-- no handler covers the place -/
def nocov (M : Mt) (pc : Nat) : Bool := M.2.2.2.2.all fun h => !(Nat.ble h.1 pc && Nat.blt pc h.2.1)
theorem nocov_out {M : Mt} {pc : Nat} (h : nocov M pc = true) {es : List ExceptionTableEntry} (he : es.map (fun h => (h.startPc, h.endPc, h.handlerPc, h.catchType)) = M.2.2.2.2) : ∀ x ∈ es, covers x pc = false := by
  intro x hx
  have h1 : (x.startPc, x.endPc, x.handlerPc, x.catchType) ∈ M.2.2.2.2 := by rw [← he]; exact List.mem_map.mpr ⟨x, hx, rfl⟩
  have h2 := List.all_eq_true.mp h _ h1
  simp only [Bool.not_eq_true', Bool.and_eq_false_iff] at h2
  unfold covers
  rcases h2 with h2 | h2
  · have : ¬ x.startPc ≤ pc := fun e => by rw [Nat.ble_eq_true_of_le e] at h2; cases h2
    simp [this]
  · have : ¬ pc < x.endPc := fun e => by rw [show Nat.blt pc x.endPc = true from Nat.ble_eq_true_of_le e] at h2; cases h2
    simp [this]
section Rules
variable {g : GE} {M N : Mt} {d d' pc : Nat} {l l' : List (Nat × LV)} {st st' rest : List LV} {H : Heap} {rc rs : Nat} {Q : UQ}
/-- a run of pure instructions -/
theorem U.b {is : Bk} {pc' : Nat} (hd : dks M.2.1 pc is = true) (hr : bks M.2.2.1 is l st = some (l', st')) (hp : lst pc is = pc') (k : U g M d pc' l' st' H rc rs Q) : U g M d pc l st H rc rs Q := by
  intro R s m args below meth c locs cells slots ls C hl hlo hc hs
  subst hp
  exact bks_ok C.hx C.hb is pc ls l l' st st' hd hl hr (fun ls' hl' => k R s m args below meth c locs cells slots ls' C hl' hlo hc hs)
theorem U.sub (hq : ∀ q ∈ l', q ∈ l) (k : U g M d pc l' st H rc rs Q) : U g M d pc l st H rc rs Q := by
  intro R s m args below meth c locs cells slots ls C hl hlo hc hs
  exact k R s m args below meth c locs cells slots ls C (lh_sub hl fun q hq' => by
    obtain ⟨x, hx, rfl⟩ := List.mem_map.mp hq'
    exact List.mem_map.mpr ⟨x, hq x hx, rfl⟩) hlo hc hs
/-- a call has been made ready (the machine stands at doInvoke): go on -/
theorem U.fin {st0 : List Value} {R : Room} {s : State} {m : MethodId} {args : Array Value} {below : List Frame} {meth : Method} {c : Code} {T T1 : State} {locs : List Loc} {cells slots : Nat} {ls : Array Slot} (C : Cx g M d R s m meth c) (hl : lv_has ls M.2.2.1 (lV l)) (hlo : LO g locs) (hc : cells + rc ≤ R.cells) (hs : slots + rs ≤ R.slots) (hh : nocov M pc = true)
    (X1 : Stand (gp g) (gl g) (ge g) R s m args below meth c T1 locs cells slots) {ig : Instr} (hdg : decode M.2.1 pc = .ok (ig, 3)) {mk : MethodId} (hn : s.methodNamed? N.1 = some mk) (hcode : CI N) (hpl : plainFor N.1 = true) (as : List LV) (has : Nat.ble (lW as) N.2.2.1 = true) (hd : d' + 1 ≤ d) (hw : Nat.ble (2 * rest.length + N.2.2.1 + 11) 64 = true)
    (hst : ∀ target, (∀ acts, Steps (gp g).tables (ge g) below (doInvoke (ge g) (T1.setTop (F0 m pc ls (sV rest))) acts mk (sV as).toArray).1 target) → Steps (gp g).tables (ge g) below (T.setTop (F0 m pc ls st0)) target)
    (k : U g N d' 0 (lA 0 as) [] T1.heap rc rs (fun v H' rc' rs' => U g M d (pc + 3) l (v.toList ++ rest) H' rc' rs' Q, Q.2)) :
    ∃ t, Steps (gp g).tables (ge g) below (T.setTop (F0 m pc ls st0)) t ∧ EQ g R s below Q t := by
  obtain ⟨T', L, kk, nn, rc', rs', X', hlo', hc', hs', h | h⟩ := ent C X1 hlo hc hs (rest := rest) (by rw [hl.1, C.hml]) (by rw [C.hb]; exact hdg) hn hcode hpl as (Nat.le_of_ble_eq_true has) hd (Nat.le_of_ble_eq_true hw) k
  · obtain ⟨v, hq, hsteps⟩ := h
    obtain ⟨t, a, b⟩ := hq R s m args below meth c (locs ++ L) (cells + kk) (slots + nn) ls C hl hlo' hc' hs' T' rfl X'
    exact ⟨t, hst t fun acts => (hsteps acts).trans a, b⟩
  · obtain ⟨a, hq, hsteps⟩ := h
    obtain ⟨h1, h2, h3, h4, h5⟩ := X'.leaveThrown a (g := F0 m pc ls (sV rest)) rfl rfl rfl (nocov_out hh C.tab) C.hlk
    refine ⟨_, hst _ fun acts => (hsteps acts).trans h1, .threw a, locs ++ L, cells + kk, slots + nn, rc', rs', h2, h3, h4, h5, hlo', hc', hs', Or.inr ⟨a, rfl, ?_⟩⟩
    exact hq
end Rules
