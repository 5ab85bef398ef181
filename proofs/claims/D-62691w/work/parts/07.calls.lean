set_option maxRecDepth 100000
/-- a method's name is plain, and it takes n arguments -/
def okN (x : MethodName) (n : Nat) : Bool := plainFor x && (decide (x.cls ≠ "java/lang/invoke/MethodHandle" ∧ x.cls ≠ "java/lang/invoke/VarHandle") && decide ((parseMethodDescriptor x.desc).map (fun s => s.parameters.length) = some n))
theorem okN_1 {x : MethodName} {n : Nat} (h : okN x n = true) : plainFor x = true := (Bool.and_eq_true_iff.mp h).1
theorem okN_2 {x : MethodName} {n : Nat} (h : okN x n = true) : x.cls ≠ "java/lang/invoke/MethodHandle" ∧ x.cls ≠ "java/lang/invoke/VarHandle" := of_decide_eq_true (Bool.and_eq_true_iff.mp (Bool.and_eq_true_iff.mp h).2).1
theorem okN_3 {x : MethodName} {n : Nat} (h : okN x n = true) {sig : MethodDescriptor} (hs : parseMethodDescriptor x.desc = some sig) : n = sig.parameters.length := by
  have h1 := of_decide_eq_true (Bool.and_eq_true_iff.mp (Bool.and_eq_true_iff.mp h).2).2
  rw [hs] at h1
  exact (Option.some.inj h1).symm
/-- an object of the class C lies at b -/
def Rv (g : GE) (C : String) (b : Nat) (H : Heap) : Prop := ∃ cell : Cell, H[b]? = some cell ∧ cell.vm.isStatics = false ∧ (gs g).vm.findClass C = some cell.cls
theorem sV_app (a b : List LV) : sV (a ++ b) = sV a ++ sV b := List.map_append
theorem sV_rev (a : List LV) : sV a.reverse = (sV a).reverse := List.map_reverse
section Calls
variable {g : GE} {M N : Mt} {d d' pc : Nat} {l l' : List (Nat × LV)} {st st' : List LV} {H : Heap} {rc rs : Nat} {Q : UQ}
theorem U.cv {C : String} {i b : Nat} (as rest : List LV) (hh : nocov M pc = true) (hdg : d1 M.2.1 pc (.invokevirtual i) 3 = true) (hlink : Cond.methodLink M.1.cls i N.1 ∈ lw_all) (hinst : Cond.instanceMethod N.1 ∈ lw_all) (hsel : Cond.selects C N.1 N.1 ∈ lw_all) (hcode : CI N) (hy : okN N.1 as.length = true)
    (hrv : Rv g C b H) (hst : st = as.reverse ++ vr (some b) :: rest) (has : Nat.ble (lW (vr (some b) :: as)) N.2.2.1 = true) (hd : d' + 1 ≤ d) (hw : Nat.ble (2 * rest.length + N.2.2.1 + 11) 64 = true)
    (k : U g N d' 0 (lA 0 (vr (some b) :: as)) [] H rc rs (fun v H' rc' rs' => U g M d (pc + 3) l (v.toList ++ rest) H' rc' rs' Q, Q.2)) : U g M d pc l st H rc rs Q := by
  intro R s m args below meth c locs cells slots ls C0 hl hlo hc hs T hT X
  subst hT
  obtain ⟨cellB, hcell, hobj, hcls0⟩ := hrv
  have hcls : s.vm.findClass C = some cellB.cls := by rw [C0.warm.alike.findClass]; exact hcls0
  obtain ⟨mk, methM, hnamed, hmethM, hstM, habM⟩ := Cond.instanceMethod_spec (C0.word hinst args)
  obtain ⟨methk, ck, h1, h2, h3, h4, h5, h6, h7, h8⟩ := hcode.spec C0.1 C0.warm hnamed
  cases hmethM.symm.trans h1
  obtain ⟨c2, r2, m2, q1, q2, q3, q4, kP, hkP, hkPi⟩ := Cond.selects_spec (C0.word hsel args)
  cases hcls.symm.trans q1
  cases (State.methodFound?_of_named hnamed (okN_2 hy)).symm.trans q2
  cases hnamed.symm.trans q3
  have hselP : selectMethod (ge g).platform s.vm cellB.cls mk = .method mk := by rw [Launch.admits_selectMethod X.admits]; exact q4
  obtain ⟨vm₁, X₁, hstep₁⟩ := X.invokevirtual C0.hx C0.hown (C0.word hlink args) hnamed hmethM hstM hkP hkPi (okN_2 hy) (a := b) (cell := cellB) hcell
    (fun z h => by rw [h] at hobj; cases hobj) hselP hmethM habM hkP hkPi (g := F0 m pc ls (sV st)) rfl (argsL := sV as) (rest := sV rest) (by rw [← okN_3 hy h8]; exact List.length_map ..) (by rw [hst, sV_app, sV_rev]; rfl) (by rw [C0.hb]; exact of_decide_eq_true hdg)
  exact U.fin C0 hl hlo hc hs hh X₁ (of_decide_eq_true hdg) hnamed hcode (okN_1 hy) (vr (some b) :: as) has hd hw hstep₁ k
theorem U.cs {i : Nat} (as rest : List LV) (hh : nocov M pc = true) (hdg : d1 M.2.1 pc (.invokestatic i) 3 = true) (hlink : Cond.methodLink M.1.cls i N.1 ∈ lw_all) (hstat : Cond.static N.1 ∈ lw_all) (hinit : Cond.initialized N.1.cls ∈ lw_all) (hcode : CI N) (hy : okN N.1 as.length = true)
    (hst : st = as.reverse ++ rest) (has : Nat.ble (lW as) N.2.2.1 = true) (hd : d' + 1 ≤ d) (hw : Nat.ble (2 * rest.length + N.2.2.1 + 11) 64 = true)
    (k : U g N d' 0 (lA 0 as) [] H rc rs (fun v H' rc' rs' => U g M d (pc + 3) l (v.toList ++ rest) H' rc' rs' Q, Q.2)) : U g M d pc l st H rc rs Q := by
  intro R s m args below meth c locs cells slots ls C0 hl hlo hc hs T hT X
  subst hT
  have hnm : ∃ mk, s.methodNamed? N.1 = some mk := by
    rcases hcode with ⟨-, h⟩ | h
    · exact Cond.code_named (C0.word h args)
    · obtain ⟨mk, -, -, h0, -⟩ := Cond.codeWith_spec (C0.word h args)
      exact ⟨mk, h0⟩
  obtain ⟨mk, hnamed⟩ := hnm
  obtain ⟨methM, ck, h1, h2, h3, h4, h5, h6, h7, h8⟩ := hcode.spec C0.1 C0.warm hnamed
  have hstatic : methM.isStatic = true := Cond.static_spec hnamed h1 (C0.word hstat args)
  obtain ⟨kP, hkP, -⟩ := className_of_methodNamed hnamed
  have hinitP : kP.init = .initialized := Cond.initialized_spec (findClass_of_methodNamed hnamed) hkP (C0.word hinit args)
  obtain ⟨vm₁, X₁, hstep₁⟩ := X.invokestatic C0.hx C0.hown (C0.word hlink args) hnamed h1 hstatic hkP hinitP (okN_2 hy) (g := F0 m pc ls (sV st)) rfl (argsL := sV as) (rest := sV rest) (by rw [← okN_3 hy h8]; exact List.length_map ..) (by rw [hst, sV_app, sV_rev]) (by rw [C0.hb]; exact of_decide_eq_true hdg)
  exact U.fin C0 hl hlo hc hs hh X₁ (of_decide_eq_true hdg) hnamed hcode (okN_1 hy) as has hd hw hstep₁ k
theorem U.ci {i b : Nat} (as rest : List LV) (hh : nocov M pc = true) (hdg : d1 M.2.1 pc (.invokespecial i) 3 = true) (hlink : Cond.methodLink M.1.cls i N.1 ∈ lw_all) (hinst : Cond.instanceMethod N.1 ∈ lw_all) (hnm : N.1.name = "<init>") (hcode : Cond.code N.1 N.2.1 N.2.2.1 none ∈ lw_all) (hret : N.2.2.2.1 = none) (hhN : N.2.2.2.2 = []) (hy : okN N.1 as.length = true)
    (hst : st = as.reverse ++ vr (some b) :: rest) (has : Nat.ble (lW (vr (some b) :: as)) N.2.2.1 = true) (hd : d' + 1 ≤ d) (hw : Nat.ble (2 * rest.length + N.2.2.1 + 11) 64 = true)
    (k : U g N d' 0 (lA 0 (vr (some b) :: as)) [] H rc rs (fun v H' rc' rs' => U g M d (pc + 3) l (v.toList ++ rest) H' rc' rs' Q, Q.2)) : U g M d pc l st H rc rs Q := by
  intro R s m args below meth c locs cells slots ls C0 hl hlo hc hs T hT X
  subst hT
  have hpl : (ge g).platform.magicAccessors = ({} : Platform).magicAccessors := by rw [X.admits.platform]
  obtain ⟨mk, methM, cM, kP, vm₁, hnamed, -, -, -, -, -, -, -, hW₁, hstep₁⟩ := Steps.initColdArgs (e := ge g) X.here C0.hx X.warmed hpl C0.hown hnm (okN_2 hy) (C0.word hlink args) (C0.word hinst args) (C0.word hcode args) (f := F0 m pc ls (sV st)) rfl (argsL := sV as) (rest := sV rest) (a := b) (fun sig h => by rw [← okN_3 hy h]; exact List.length_map ..) (by rw [hst, sV_app, sV_rev]; rfl) (by rw [C0.hb]; exact of_decide_eq_true hdg)
  exact U.fin C0 hl hlo hc hs hh (X.noted hW₁) (of_decide_eq_true hdg) hnamed (Or.inl ⟨hhN, by rw [hret]; exact hcode⟩) (okN_1 hy) (vr (some b) :: as) has hd hw hstep₁ k
theorem U.ciN {i b : Nat} {host : String} (as rest : List LV) (hh : nocov M pc = true) (hdg : d1 M.2.1 pc (.invokespecial i) 3 = true) (hlink : Cond.methodLinkNest M.1.cls i N.1 host ∈ lw_tbl) (hinst : Cond.instanceMethod N.1 ∈ lw_all) (hnm : N.1.name = "<init>") (hcode : Cond.code N.1 N.2.1 N.2.2.1 none ∈ lw_all) (hret : N.2.2.2.1 = none) (hhN : N.2.2.2.2 = []) (hy : okN N.1 as.length = true)
    (hst : st = as.reverse ++ vr (some b) :: rest) (has : Nat.ble (lW (vr (some b) :: as)) N.2.2.1 = true) (hd : d' + 1 ≤ d) (hw : Nat.ble (2 * rest.length + N.2.2.1 + 11) 64 = true)
    (k : U g N d' 0 (lA 0 (vr (some b) :: as)) [] H rc rs (fun v H' rc' rs' => U g M d (pc + 3) l (v.toList ++ rest) H' rc' rs' Q, Q.2)) : U g M d pc l st H rc rs Q := by
  intro R s m args below meth c locs cells slots ls C0 hl hlo hc hs T hT X
  subst hT
  have hpl : (ge g).platform.magicAccessors = ({} : Platform).magicAccessors := by rw [X.admits.platform]
  obtain ⟨mk, methM, cM, kP, vm₁, hnamed, -, -, -, -, -, -, -, hW₁, hstep₁⟩ := Steps.initColdArgsNest (e := ge g) X.here C0.hx X.warmed hpl C0.hown hnm (okN_2 hy) (C0.nM hlink args) (C0.word hinst args) (C0.word hcode args) (f := F0 m pc ls (sV st)) rfl (argsL := sV as) (rest := sV rest) (a := b) (fun sig h => by rw [← okN_3 hy h]; exact List.length_map ..) (by rw [hst, sV_app, sV_rev]; rfl) (by rw [C0.hb]; exact of_decide_eq_true hdg)
  exact U.fin C0 hl hlo hc hs hh (X.noted hW₁) (of_decide_eq_true hdg) hnamed (Or.inl ⟨hhN, by rw [hret]; exact hcode⟩) (okN_1 hy) (vr (some b) :: as) has hd hw hstep₁ k
/-- the end of a return -/
theorem EQ.ret {R : Room} {s : State} {m : MethodId} {args : Array Value} {below : List Frame} {meth : Method} {c : Code} {T : State} {locs : List Loc} {cells slots : Nat} (X : Stand (gp g) (gl g) (ge g) R s m args below meth c T locs cells slots) (hlo : LO g locs) (hc : cells + rc ≤ R.cells) (hs : slots + rs ≤ R.slots) (v : Option LV) (hq : Q.1 v T.heap rc rs) {fs : List Frame}
    (h1 : (T.setFrames fs).status = .running) (h2 : Ended (T.setFrames fs) below (.returned (v.map vV))) (h3 : s.WarmedH (T.setFrames fs).vm) (h4 : s.sameButNew ({ T.setFrames fs with vm := s.vm } : State) locs cells slots) : EQ g R s below Q (T.setFrames fs) :=
  ⟨.returned (v.map vV), locs, cells, slots, rc, rs, h1, h2, h3, h4, hlo, hc, hs, Or.inl ⟨v, rfl, hq⟩⟩
set_option maxHeartbeats 1000000 in
theorem U.iret {x : Int} (hr : M.2.2.2.1 = some .int) (hd : d1 M.2.1 pc .ireturn 1 = true) (hq : Q.1 (some (vi x)) H rc rs) : U g M d pc l (vi x :: st) H rc rs Q := by
  intro R s m args below meth c locs cells slots ls C hl hlo hc hs T hT X
  subst hT
  obtain ⟨fs, hret, hrun, hended, hW, hframe⟩ := X.leave (v := some (.int (Int32.ofInt x))) (fun h => by rw [C.hr, hr] at h; cases h) C.hlk
  have hmeth' : T.vm.method? m = some meth := X.method'
  have hr' := C.hr
  rw [hr] at hr'
  have hdd : decode M.2.1 pc = .ok (.ireturn, 1) := of_decide_eq_true hd
  refine ⟨T.setFrames fs, ?_, EQ.ret X hlo hc hs (some (vi x)) hq hrun hended hW hframe⟩
  show Steps _ _ _ (T.setTop (F0 m pc ls (.int (Int32.ofInt x) :: sV st))) _
  jvm_step X.here [X.here.top, C.hx, C.hb, hdd, hmeth', hr', narrow]
  (try refine ⟨rfl, ?_⟩); (try refine ⟨rfl, ?_⟩)
  first | (intro acts; rw [hret _ acts rfl rfl rfl]) | rw [hret _ _ rfl rfl rfl]
  exact Steps.refl _
/-- a truth value -/
def bz (x : Int) : Prop := x = 0 ∨ x = 1
theorem bz_and {x : Int} (h : bz x) : Int32.ofInt x &&& 1 = Int32.ofInt x := by rcases h with rfl | rfl <;> decide
set_option maxHeartbeats 1000000 in
theorem U.zret {x : Int} (hr : M.2.2.2.1 = some .boolean) (hd : d1 M.2.1 pc .ireturn 1 = true) (hz : bz x) (hq : Q.1 (some (vi x)) H rc rs) : U g M d pc l (vi x :: st) H rc rs Q := by
  intro R s m args below meth c locs cells slots ls C hl hlo hc hs T hT X
  subst hT
  obtain ⟨fs, hret, hrun, hended, hW, hframe⟩ := X.leave (v := some (.int (Int32.ofInt x))) (fun h => by rw [C.hr, hr] at h; cases h) C.hlk
  have hmeth' : T.vm.method? m = some meth := X.method'
  have hr' := C.hr
  rw [hr] at hr'
  have hdd : decode M.2.1 pc = .ok (.ireturn, 1) := of_decide_eq_true hd
  have hz' := bz_and hz
  refine ⟨T.setFrames fs, ?_, EQ.ret X hlo hc hs (some (vi x)) hq hrun hended hW hframe⟩
  show Steps _ _ _ (T.setTop (F0 m pc ls (.int (Int32.ofInt x) :: sV st))) _
  jvm_step X.here [X.here.top, C.hx, C.hb, hdd, hmeth', hr', narrow, hz']
  (try refine ⟨rfl, ?_⟩); (try refine ⟨rfl, ?_⟩)
  first | (intro acts; rw [hret _ acts rfl rfl rfl]) | rw [hret _ _ rfl rfl rfl]
  exact Steps.refl _
set_option maxHeartbeats 1000000 in
theorem U.lret {x : Int64} (hr : M.2.2.2.1 = some .long) (hd : d1 M.2.1 pc .lreturn 1 = true) (hq : Q.1 (some (vl x)) H rc rs) : U g M d pc l (vl x :: st) H rc rs Q := by
  intro R s m args below meth c locs cells slots ls C hl hlo hc hs T hT X
  subst hT
  obtain ⟨fs, hret, hrun, hended, hW, hframe⟩ := X.leave (v := some (.long x)) (fun h => by rw [C.hr, hr] at h; cases h) C.hlk
  have hmeth' : T.vm.method? m = some meth := X.method'
  have hdd : decode M.2.1 pc = .ok (.lreturn, 1) := of_decide_eq_true hd
  refine ⟨T.setFrames fs, ?_, EQ.ret X hlo hc hs (some (vl x)) hq hrun hended hW hframe⟩
  show Steps _ _ _ (T.setTop (F0 m pc ls (.long x :: sV st))) _
  jvm_step X.here [X.here.top, C.hx, C.hb, hdd, hmeth']
  refine ⟨by rw [C.hr]; exact hr, ?_⟩
  first | (intro acts; rw [hret _ acts rfl rfl rfl]) | rw [hret _ _ rfl rfl rfl]
  exact Steps.refl _
set_option maxHeartbeats 1000000 in
theorem U.vret (hr : M.2.2.2.1 = none) (hd : d1 M.2.1 pc .return_ 1 = true) (hq : Q.1 none H rc rs) : U g M d pc l st H rc rs Q := by
  intro R s m args below meth c locs cells slots ls C hl hlo hc hs T hT X
  subst hT
  obtain ⟨fs, hret, hrun, hended, hW, hframe⟩ := X.leave (v := none) (fun _ => rfl) C.hlk
  have hmeth' : T.vm.method? m = some meth := X.method'
  have hdd : decode M.2.1 pc = .ok (.return_, 1) := of_decide_eq_true hd
  refine ⟨T.setFrames fs, ?_, EQ.ret X hlo hc hs none hq hrun hended hW hframe⟩
  jvm_step X.here [X.here.top, C.hx, C.hb, hdd, hmeth']
  (try refine ⟨rfl, ?_⟩); (try refine ⟨rfl, ?_⟩)
  first | (intro acts; rw [hret _ acts rfl rfl rfl]) | rw [hret _ _ rfl rfl rfl]
  exact Steps.refl _
set_option maxHeartbeats 1000000 in
theorem U.aret {x : Option Nat} {ty : FieldType} (hr : M.2.2.2.1 = some ty) (hrf : ty.isReference = true) (hd : d1 M.2.1 pc .areturn 1 = true) (hq : Q.1 (some (vr x)) H rc rs) : U g M d pc l (vr x :: st) H rc rs Q := by
  intro R s m args below meth c locs cells slots ls C hl hlo hc hs T hT X
  subst hT
  obtain ⟨fs, hret, hrun, hended, hW, hframe⟩ := X.leave (v := some (va_rf x)) (fun h => by rw [C.hr, hr] at h; cases h) C.hlk
  have hmeth' : T.vm.method? m = some meth := X.method'
  have hdd : decode M.2.1 pc = .ok (.areturn, 1) := of_decide_eq_true hd
  refine ⟨T.setFrames fs, ?_, EQ.ret X hlo hc hs (some (vr x)) hq hrun hended hW hframe⟩
  cases x with
  | none =>
    show Steps _ _ _ (T.setTop (F0 m pc ls (.null :: sV st))) _
    jvm_step X.here [X.here.top, C.hx, C.hb, hdd, hmeth', Value.isRef]
    refine ⟨⟨ty, by rw [C.hr]; exact hr, hrf⟩, ?_⟩
    intro acts
    rw [show (doReturn (ge g) (T.setTop { method := m, pc := pc, locals := ls, stack := sV st, locked := none }) acts (some Value.null)).fst = T.setFrames fs from hret _ acts rfl rfl rfl]
    exact Steps.refl _
  | some x =>
    show Steps _ _ _ (T.setTop (F0 m pc ls (.ref x :: sV st))) _
    jvm_step X.here [X.here.top, C.hx, C.hb, hdd, hmeth', Value.isRef]
    refine ⟨⟨ty, by rw [C.hr]; exact hr, hrf⟩, ?_⟩
    intro acts
    rw [show (doReturn (ge g) (T.setTop { method := m, pc := pc, locals := ls, stack := sV st, locked := none }) acts (some (Value.ref x))).fst = T.setFrames fs from hret _ acts rfl rfl rfl]
    exact Steps.refl _
end Calls
