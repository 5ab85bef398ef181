set_option maxRecDepth 100000
/-! EXCEPTIONS: caught in the method; over the abstract states -/
section Catch
variable {g : GE} {M N : Mt} {d d' pc : Nat} {l l' : List (Nat × LV)} {st st' rest : List LV} {H H' : Heap} {rc rs : Nat} {Q : UQ} {R : Room} {s : State} {m : MethodId} {meth : Method} {c : Code} {args : Array Value} {below : List Frame} {T : State} {locs : List Loc} {cells slots : Nat}
theorem go_cold {e : Env} {s : State} {f : JFrame} {a : Addr} {Q : Handler → Pre} {E : CtlPost} {d : Bool} {acts : List Action} {x : ExceptionTableEntry} {t : List ExceptionTableEntry} {c : ClassId} {cell : Cell} {vm' : Vm} (hx : covers x f.pc = true) (h0 : x.catchType ≠ 0)
    (hg : (Jvm.resolveClass f.method.cls x.catchType).Gives e.toSetting s.vm (.ok c) vm') (hsz : vm'.classes.size ≤ s.vm.classes.size) (hcell : s.heap[a]? = some cell) (hobj : ∀ k, cell.vm ≠ .statics k)
    (hk : ∃ k, vm'.classes[cell.cls]? = some k) (hc : ∃ k, vm'.classes[c]? = some k) (hfit : vm'.assignable cell.cls c = true) :
    Sem.wp (findHandler.go f a (x :: t)) Q E e d acts s ↔ Q (.found x.handlerPc) d acts (s.setVm vm') := by
  simp only [covers] at hx
  obtain ⟨ha, ht⟩ := hg.op (op := VmOp.resolveClass f.method.cls x.catchType) rfl
  simp [findHandler.go, hx, h0, ha, ht, hsz, hcell, hobj, hk, hc, hfit, VmOp.dirties, VmOp.acts]
theorem step_cold {e : Env} {s s' : State} {a : Addr} {f : JFrame} {r : List Frame} {pc : Nat} (hfind : ∀ (Q : Handler → Pre) (E : CtlPost) (d : Bool) (acts : List Action), Sem.wp (findHandler f a) Q E e d acts s ↔ Q (.found pc) d acts s') :
    (stepThrowing e s a (.java f :: r)).Is (s'.setFrames (.java { f with pc := pc, stack := [.ref a] } :: r)) [] := by
  simp only [stepThrowing, searchFrame, vmDo]
  generalize hr : Sem.go _ e false [] s = res
  obtain ⟨as, rfl, ha⟩ := Sem.eq_ok_of hr (a := Handler.found pc) (s' := s') (acts' := []) (by simp [hfind _ _ _ _])
  exact ⟨rfl, ha⟩
theorem catchCold {a lo hi hp ct : Nat} {sv : List Value} {ls : Array Slot} (X : Stand (gp g) (gl g) (ge g) R s m args below meth c T locs cells slots) (C : Cx g M d R s m meth c) (hrv : Rv g "java/lang/IllegalArgumentException" a T.heap) (hM : M.2.2.2.2 = [(lo, hi, hp, ct)]) (hcv : (Nat.ble lo pc && Nat.blt pc hi && !(Nat.beq ct 0)) = true) (hclink : Cond.classLink M.1.cls ct "java/lang/IllegalArgumentException" ∈ lw_all) :
    ∃ vm', Stand (gp g) (gl g) (ge g) R s m args below meth c (T.setVm vm') locs cells slots ∧ ∀ target, Steps (gp g).tables (ge g) below ((T.setVm vm').setTop (F0 m hp ls [.ref a])) target → Steps (gp g).tables (ge g) below ((T.setTop (F0 m pc ls sv)).pushFrame (.throwing a)) target := by
  obtain ⟨cell, hcell, hst, hfc⟩ := hrv
  have hpl : (ge g).platform.magicAccessors = ({} : Platform).magicAccessors := by rw [X.admits.platform]
  obtain ⟨cT, hc', hcl⟩ := Cond.classLink_spec C.hown (C.word hclink args) (ge g).platform hpl
  have hcT : cT = cell.cls := by
    rw [C.warm.alike.findClass] at hc'
    exact Option.some.inj (hc'.symm.trans hfc)
  subst hcT
  obtain ⟨dk, _, _, kt, hd, _, _, _, _, hkt, _, hopen⟩ := hcl.here
  have hcl₀ := X.warmed.classLinks hcl
  have hW' : s.WarmedH (T.vm.noted m.cls ct (.cls cell.cls)) := X.warmed.noted hd hopen (State.rightAt_cls hcl)
  obtain ⟨kt', hkt', -⟩ := hW'.alike.2.2 _ _ hkt
  have hasg : (T.vm.noted m.cls ct (.cls cell.cls)).assignable cell.cls cell.cls = true := by
    rw [hW'.alike.assignable]
    exact va_assign (C.hK.1 16 _ cd16.1 |>.2 |> fun h => by
      have e : (gD g).1 16 = cell.cls := Option.some.inj (h.1.symm.trans hc')
      rw [← e]; exact h)
  simp only [Bool.and_eq_true, Bool.not_eq_true'] at hcv
  have htab : ∃ x : ExceptionTableEntry, c.exceptionTable.toList = [x] ∧ x.startPc = lo ∧ x.endPc = hi ∧ x.handlerPc = hp ∧ x.catchType = ct := by
    have h := C.tab
    rw [hM] at h
    cases he : c.exceptionTable.toList with
    | nil => rw [he] at h; cases h
    | cons x r =>
      rw [he] at h
      simp only [List.map_cons, List.cons.injEq, Prod.mk.injEq, List.map_eq_nil_iff] at h
      exact ⟨x, by rw [h.2], h.1.1, h.1.2.1, h.1.2.2.1, h.1.2.2.2⟩
  obtain ⟨x, hx1, hx2, hx3, hx4, hx5⟩ := htab
  have hcov : covers x pc = true := by
    unfold covers
    rw [hx2, hx3]
    simp [Nat.le_of_ble_eq_true hcv.1.1, show pc < hi from Nat.le_of_ble_eq_true hcv.1.2]
  have hct0 : x.catchType ≠ 0 := by
    rw [hx5]
    intro e
    rw [e] at hcv
    exact absurd hcv.2 (by decide)
  have h := X.here
  have hme : T.vm.method? m = some meth := X.method'
  have hcode : meth.code = some c := X.code
  refine ⟨_, X.noted hW', fun target hrest => ?_⟩
  have hfind : ∀ (Q : Handler → Pre) (E : CtlPost) (d : Bool) (acts : List Action), Sem.wp (findHandler (F0 m pc ls sv) a) Q E (ge g) d acts ((T.setTop (F0 m pc ls sv)).pushFrame (.throwing a)) ↔ Q (.found hp) d acts (((T.setTop (F0 m pc ls sv)).pushFrame (.throwing a)).setVm (T.vm.noted m.cls ct (.cls cell.cls))) := by
    intro Q E d acts
    rw [W.findHandler_eq (meth := meth) (code := c) (by rw [Stand.throwing_vm]; exact hme) hcode, hx1, ← hx4]
    refine go_cold (cell := cell) hcov hct0 ?_ ?_ (by rw [Stand.throwing_heap]; exact hcell) (VmData.noStatics_of hst) ⟨kt', hkt'⟩ ⟨kt', hkt'⟩ hasg
    · rw [Stand.throwing_vm, hx5]
      exact resolveClass_links (ge g).toSetting hcl₀
    · rw [Stand.throwing_vm]; simp
  obtain ⟨hgo, hw⟩ := h.throwing (g := F0 m pc ls sv) a
  refine Steps.head hgo hw ?_
  rw [stepThread_throwing (frames_entered h.top _), (step_cold hfind).1]
  obtain ⟨g₀, hg⟩ := Option.isSome_iff_exists.mp h.top
  obtain ⟨r, hr⟩ := State.topJava?_eq_some.mp hg
  have hr2 : (T.setVm (T.vm.noted m.cls ct (.cls cell.cls))).frames = .java g₀ :: r := hr
  rw [State.setTop_of_frames _ hr2] at hrest
  rw [hr]
  have e : ((((T.setTop (F0 m pc ls sv)).pushFrame (.throwing a)).setVm (T.vm.noted m.cls ct (.cls cell.cls))).setFrames (.java { F0 m pc ls sv with pc := hp, stack := [.ref a] } :: r)) = (T.setVm (T.vm.noted m.cls ct (.cls cell.cls))).setFrames (.java (F0 m hp ls [.ref a]) :: r) := by
    rw [State.pushFrame, State.setTop_of_frames _ hr]
    show (((T.setVm _).setFrames _).setFrames _).setFrames _ = _
    rw [State.setFrames_setFrames, State.setFrames_setFrames]
    rfl
  first | (rw [e]; exact hrest) | (simp only [List.tail_cons]; rw [e]; exact hrest)
/-- a call has been made ready (the machine stands at doInvoke): go on -/
theorem U.finC {st0 : List Value} {R : Room} {s : State} {m : MethodId} {args : Array Value} {below : List Frame} {meth : Method} {c : Code} {T T1 : State} {locs : List Loc} {cells slots : Nat} {ls : Array Slot} (C : Cx g M d R s m meth c) (hl : lv_has ls M.2.2.1 (lV l)) (hlo : LO g locs) (hc : cells + rc ≤ R.cells) (hs : slots + rs ≤ R.slots) (lo hi hp ct : Nat) (hM : M.2.2.2.2 = [(lo, hi, hp, ct)]) (hcv : (Nat.ble lo pc && Nat.blt pc hi && !(Nat.beq ct 0)) = true) (hcl : Cond.classLink M.1.cls ct "java/lang/IllegalArgumentException" ∈ lw_all)
    (X1 : Stand (gp g) (gl g) (ge g) R s m args below meth c T1 locs cells slots) {ig : Instr} (hdg : decode M.2.1 pc = .ok (ig, 3)) {mk : MethodId} (hn : s.methodNamed? N.1 = some mk) (hcode : CI N) (hpl : plainFor N.1 = true) (as : List LV) (has : Nat.ble (lW as) N.2.2.1 = true) (hd : d' + 1 ≤ d) (hw : Nat.ble (2 * rest.length + N.2.2.1 + 11) 64 = true)
    (hst : ∀ target, (∀ acts, Steps (gp g).tables (ge g) below (doInvoke (ge g) (T1.setTop (F0 m pc ls (sV rest))) acts mk (sV as).toArray).1 target) → Steps (gp g).tables (ge g) below (T.setTop (F0 m pc ls st0)) target)
    (k : U g N d' 0 (lA 0 as) [] T1.heap rc rs (fun v H' rc' rs' => U g M d (pc + 3) l (v.toList ++ rest) H' rc' rs' Q, fun a H' rc' rs' => Rv g "java/lang/IllegalArgumentException" a H' ∧ U g M d hp l [vr (some a)] H' rc' rs' Q)) :
    ∃ t, Steps (gp g).tables (ge g) below (T.setTop (F0 m pc ls st0)) t ∧ EQ g R s below Q t := by
  obtain ⟨T', L, kk, nn, rc', rs', X', hlo', hc', hs', h | h⟩ := ent C X1 hlo hc hs (rest := rest) (by rw [hl.1, C.hml]) (by rw [C.hb]; exact hdg) hn hcode hpl as (Nat.le_of_ble_eq_true has) hd (Nat.le_of_ble_eq_true hw) k
  · obtain ⟨v, hq, hsteps⟩ := h
    obtain ⟨t, a, b⟩ := hq R s m args below meth c (locs ++ L) (cells + kk) (slots + nn) ls C hl hlo' hc' hs' T' rfl X'
    exact ⟨t, hst t fun acts => (hsteps acts).trans a, b⟩
  · obtain ⟨a, ⟨hrv, hq⟩, hsteps⟩ := h
    obtain ⟨vm', X2, hcat⟩ := catchCold (a := a) (sv := sV rest) (ls := ls) X' C hrv hM hcv hcl
    obtain ⟨t, a1, b1⟩ := hq R s m args below meth c (locs ++ L) (cells + kk) (slots + nn) ls C hl hlo' hc' hs' (T'.setVm vm') rfl X2
    exact ⟨t, hst t fun acts => (hsteps acts).trans (hcat t a1), b1⟩
theorem U.cvC {C : String} {i b : Nat} (as rest : List LV) (lo hi hp ct : Nat) (hM : M.2.2.2.2 = [(lo, hi, hp, ct)]) (hcv : (Nat.ble lo pc && Nat.blt pc hi && !(Nat.beq ct 0)) = true) (hcl : Cond.classLink M.1.cls ct "java/lang/IllegalArgumentException" ∈ lw_all) (hdg : d1 M.2.1 pc (.invokevirtual i) 3 = true) (hlink : Cond.methodLink M.1.cls i N.1 ∈ lw_all) (hinst : Cond.instanceMethod N.1 ∈ lw_all) (hsel : Cond.selects C N.1 N.1 ∈ lw_all) (hcode : CI N) (hy : okN N.1 as.length = true)
    (hrv : Rv g C b H) (hst : st = as.reverse ++ vr (some b) :: rest) (has : Nat.ble (lW (vr (some b) :: as)) N.2.2.1 = true) (hd : d' + 1 ≤ d) (hw : Nat.ble (2 * rest.length + N.2.2.1 + 11) 64 = true)
    (k : U g N d' 0 (lA 0 (vr (some b) :: as)) [] H rc rs (fun v H' rc' rs' => U g M d (pc + 3) l (v.toList ++ rest) H' rc' rs' Q, fun a H' rc' rs' => Rv g "java/lang/IllegalArgumentException" a H' ∧ U g M d hp l [vr (some a)] H' rc' rs' Q)) : U g M d pc l st H rc rs Q := by
  intro R s m args below meth c locs cells slots ls C0 hl hlo hc hs T hT X
  subst hT
  obtain ⟨cellB, hcell, hobj, hcls0⟩ := hrv
  have hcls : s.vm.findClass C = some cellB.cls := by rw [C0.warm.alike.findClass]; exact hcls0
  obtain ⟨mk, methM, hnamed, hmethM, hstM, habM⟩ := Cond.instanceMethod_spec (C0.word hinst args)
  obtain ⟨methk, ck, h1, h2, h3, h4, h5, h6, h7, h8⟩ := hcode.spec C0.1 C0.warm hnamed
  cases hmethM.symm.trans h1
  obtain ⟨c2, r2, m2, q1, q2, q3, q4, kP, hkP, hkPi⟩ := Cond.selects_spec (C0.word hsel args)
  cases hcls.symm.trans q1
  cases (State.methodFound?_of_named hnamed (okN_2 hy)).symm.trans q2
  cases hnamed.symm.trans q3
  have hselP : selectMethod (ge g).platform s.vm cellB.cls mk = .method mk := by rw [Launch.admits_selectMethod X.admits]; exact q4
  obtain ⟨vm₁, X₁, hstep₁⟩ := X.invokevirtual C0.hx C0.hown (C0.word hlink args) hnamed hmethM hstM hkP hkPi (okN_2 hy) (a := b) (cell := cellB) hcell
    (fun z h => by rw [h] at hobj; cases hobj) hselP hmethM habM hkP hkPi (g := F0 m pc ls (sV st)) rfl (argsL := sV as) (rest := sV rest) (by rw [← okN_3 hy h8]; exact List.length_map ..) (by rw [hst, sV_app, sV_rev]; rfl) (by rw [C0.hb]; exact of_decide_eq_true hdg)
  exact U.finC C0 hl hlo hc hs lo hi hp ct hM hcv hcl X₁ (of_decide_eq_true hdg) hnamed hcode (okN_1 hy) (vr (some b) :: as) has hd hw hstep₁ k
theorem U.csC {i : Nat} (as rest : List LV) (lo hi hp ct : Nat) (hM : M.2.2.2.2 = [(lo, hi, hp, ct)]) (hcv : (Nat.ble lo pc && Nat.blt pc hi && !(Nat.beq ct 0)) = true) (hcl : Cond.classLink M.1.cls ct "java/lang/IllegalArgumentException" ∈ lw_all) (hdg : d1 M.2.1 pc (.invokestatic i) 3 = true) (hlink : Cond.methodLink M.1.cls i N.1 ∈ lw_all) (hstat : Cond.static N.1 ∈ lw_all) (hinit : Cond.initialized N.1.cls ∈ lw_all) (hcode : CI N) (hy : okN N.1 as.length = true)
    (hst : st = as.reverse ++ rest) (has : Nat.ble (lW as) N.2.2.1 = true) (hd : d' + 1 ≤ d) (hw : Nat.ble (2 * rest.length + N.2.2.1 + 11) 64 = true)
    (k : U g N d' 0 (lA 0 as) [] H rc rs (fun v H' rc' rs' => U g M d (pc + 3) l (v.toList ++ rest) H' rc' rs' Q, fun a H' rc' rs' => Rv g "java/lang/IllegalArgumentException" a H' ∧ U g M d hp l [vr (some a)] H' rc' rs' Q)) : U g M d pc l st H rc rs Q := by
  intro R s m args below meth c locs cells slots ls C0 hl hlo hc hs T hT X
  subst hT
  have hnm : ∃ mk, s.methodNamed? N.1 = some mk := by
    rcases hcode with ⟨-, h⟩ | h
    · exact Cond.code_named (C0.word h args)
    · obtain ⟨mk, -, -, h0, -⟩ := Cond.codeWith_spec (C0.word h args)
      exact ⟨mk, h0⟩
  obtain ⟨mk, hnamed⟩ := hnm
  obtain ⟨methM, ck, h1, h2, h3, h4, h5, h6, h7, h8⟩ := hcode.spec C0.1 C0.warm hnamed
  have hstatic : methM.isStatic = true := Cond.static_spec hnamed h1 (C0.word hstat args)
  obtain ⟨kP, hkP, -⟩ := className_of_methodNamed hnamed
  have hinitP : kP.init = .initialized := Cond.initialized_spec (findClass_of_methodNamed hnamed) hkP (C0.word hinit args)
  obtain ⟨vm₁, X₁, hstep₁⟩ := X.invokestatic C0.hx C0.hown (C0.word hlink args) hnamed h1 hstatic hkP hinitP (okN_2 hy) (g := F0 m pc ls (sV st)) rfl (argsL := sV as) (rest := sV rest) (by rw [← okN_3 hy h8]; exact List.length_map ..) (by rw [hst, sV_app, sV_rev]) (by rw [C0.hb]; exact of_decide_eq_true hdg)
  exact U.finC C0 hl hlo hc hs lo hi hp ct hM hcv hcl X₁ (of_decide_eq_true hdg) hnamed hcode (okN_1 hy) as has hd hw hstep₁ k
end Catch
/-- a new exception -/
def nX (σ : ST) : ST := (up (sc σ) (sZ σ) 17, sI σ, sJ σ, sR σ, sW σ, sA σ, sN σ, sB σ, sE σ, sF σ, sH σ, sZ σ + 1, sC σ + 1, sS σ + 6)
/-- the end of a method that may throw: none is thrown, some is returned -/
def tQ (Q : VQ) (τ : TT) {Y : Type} (ret : Y → Option LV) (r : Option Y × ST) : Prop := match r.1 with
  | some v => Q.1 (ret v) r.2 τ
  | none => ∀ a, sc r.2 a = 17 → Q.2 a r.2 τ
/-- what comes behind such a call: out of the method, or on -/
def tB {Y X : Type} (thr : ST → X) (G : Y → ST → Option X) (y : Option Y × ST) : Option X := match y.1 with
  | none => some (thr y.2)
  | some v => G v y.2
/-- caught -/
def tC {Y X : Type} (Hn : ST → Option X) (G : Y → ST → Option X) (y : Option Y × ST) : Option X := match y.1 with
  | none => Hn y.2
  | some v => G v y.2
def VE (g : GE) (N : Mt) (d : Nat) (as : List LV) (σ : ST) (τ : TT) (Q : VQ) : Prop := ∀ H : Heap, Rep g σ τ H → UE g N d as H (rC g σ) (rS g σ) (lQ g Q)
def s_must (bb : Nat × Nat) (a1 : Int) (σ : ST) : Option (Option Unit × ST) := gd (rg a1) (if a1 = 0 then gd (rm bb σ 6) (some (none, nX σ)) else some (some (), σ))
section ThrowV
variable {g : GE} {M N : Mt} {d d' pc pc' tgt : Nat} {off : Int} {l l' : List (Nat × LV)} {st st' : List LV} {σ σ' : ST} {τ : TT} {Q : VQ} {X Y : Type} {F A B : Option X} {K : X → Prop} {P : Prop} {H H' : Heap}
theorem Rep.thrown (h : Rep g σ τ H) (h1 : ∃ fs : List Value, va_at (gD g) vCl (sZ σ, .inr (16, fs)) H') (h2 : H'.size = H.size + 1) (h3 : ∀ q, q < H.size → H'[q]? = H[q]?) : Rep g (nX σ) τ H' := by
  refine h.grow (t := 17) (by decide) rfl rfl (fun b hb => ⟨rfl, rfl, rfl, rfl, rfl, rfl, rfl, fun _ => rfl, fun _ => rfl, fun _ => rfl⟩) h2 h3 (fun own ho => ?_)
  unfold cellC
  have e1 : sc (nX σ) (sZ σ) = 17 := up_at _ _ _
  rw [if_neg (by rw [e1]; decide), if_neg (by rw [e1]; decide), if_pos e1]
  exact h1
theorem Rep.rvX {a : Nat} (G : GF g) (h : Rep g σ τ H) (ha : sc σ a = 17) : Rv g "java/lang/IllegalArgumentException" a H := by
  obtain ⟨⟨own, hC, -⟩, -⟩ := h
  obtain ⟨c1, c2, c3⟩ := hC a (by omega)
  unfold cellC at c3
  rw [if_neg (by rw [ha]; decide), if_neg (by rw [ha]; decide), if_pos ha] at c3
  obtain ⟨fs, r, h1, cell, q1, q2, q3, q4⟩ := c3
  have hr : r = (RJ10, TJ10, 6) := Option.some.inj (h1.symm.trans cd16.1)
  subst hr
  obtain ⟨-, hfc, -⟩ := G.2.2.1 16 _ cd16.1
  exact ⟨cell, q1, by rw [q3]; rfl, by rw [q2]; exact hfc⟩
theorem jr_must_ok (G : GG g) (d : Nat) (hd1 : 6 ≤ d) (a1 : Int) (σ : ST) (Q : VQ) : Sm (VE g mX14_must d [vi a1] σ τ Q) (s_must (gRm g) a1 σ) (tQ Q τ (fun _ : Unit => none)) := by
  unfold s_must
  refine sm_gd (fun hr => ?_)
  refine sm_if (fun c => ?_) (fun c => ?_)
  · refine sm_gd (fun hg => ?_)
    intro hx H hR R s m args below meth cc ls C hl hsH hrc hrs
    have hK := (Ex_some (K := tQ Q τ (fun _ : Unit => none))).mp hx
    refine bks_ok C.hx C.hb [(.iload_n 0, vi 0, 1)] 0 ls _ [(0, vi a1)] [] [vi a1] (by decide +kernel) hl rfl (fun ls' hl' => ?_)
    refine lv_if_ne C.hx C.hb (dj_1 (show dj cX14_must 1 (.ifCond .ne 11) 11 12 = true by decide +kernel)) (dj_2 (show dj cX14_must 1 (.ifCond .ne 11) 11 12 = true by decide +kernel)) (fun h => absurd (by rw [c]; rfl) h) (fun _ => ?_)
    refine W.throw0 (l := [(0, vi a1)]) C hl' hsH hR.2.2.2.2 hR.2.2.1 G.2.2.2.2.2.2.2.1 G.2.2.2.2.2.2.2.2.1 G.2.2.2.2.2.2.2.2.2 q1240 q1241 rfl (by decide +kernel) (by decide +kernel) (by decide +kernel) (by decide +kernel) hd1 (rm_1 hg) (rm_2 hg) hrc hrs (fun H' h1 h2 h3 => ?_)
    have hz : H.size = sZ σ := hR.2.1
    rw [hz] at h1 ⊢
    exact ⟨nX σ, τ, hR.thrown h1 h2 h3, rfl, (Nat.sub_sub _ _ _).symm, hK _ (up_at _ _ _)⟩
  · intro hx H hR R s m args below meth cc ls C hl hsH hrc hrs
    have hK := (Ex_some (K := tQ Q τ (fun _ : Unit => none))).mp hx
    have hU : U g mX14_must d 0 [(0, vi a1)] [] H (rC g σ) (rS g σ) (lQ g Q) := by
      refine U.b (l' := [(0, vi a1)]) (st' := [vi a1]) (pc' := 1) (is := [(.iload_n 0, vi 0, 1)]) (by decide +kernel) rfl rfl ?_
      refine U.if_ne (off := 11) (tgt := 12) hr (by decide +kernel) (fun _ => ?_) (fun e => absurd e c)
      exact U.vret rfl (by decide +kernel) (V.end1 hR hK)
    exact hU R s m args below meth cc [] 0 0 ls C hl (fun q hq => by cases hq) (by omega) (by omega)
theorem wr_must_ok (G : GG g) (d : Nat) (hd1 : 6 ≤ d) (a1 : Int) (σ : ST) (Q : VQ) : Sm (VE g mX11_must d [vi a1] σ τ Q) (s_must (gRm g) a1 σ) (tQ Q τ (fun _ : Unit => none)) := by
  unfold s_must
  refine sm_gd (fun hr => ?_)
  refine sm_if (fun c => ?_) (fun c => ?_)
  · refine sm_gd (fun hg => ?_)
    intro hx H hR R s m args below meth cc ls C hl hsH hrc hrs
    have hK := (Ex_some (K := tQ Q τ (fun _ : Unit => none))).mp hx
    refine bks_ok C.hx C.hb [(.iload_n 0, vi 0, 1)] 0 ls _ [(0, vi a1)] [] [vi a1] (by decide +kernel) hl rfl (fun ls' hl' => ?_)
    refine lv_if_ne C.hx C.hb (dj_1 (show dj cX11_must 1 (.ifCond .ne 11) 11 12 = true by decide +kernel)) (dj_2 (show dj cX11_must 1 (.ifCond .ne 11) 11 12 = true by decide +kernel)) (fun h => absurd (by rw [c]; rfl) h) (fun _ => ?_)
    refine W.throw0 (l := [(0, vi a1)]) C hl' hsH hR.2.2.2.2 hR.2.2.1 G.2.2.2.2.2.2.2.1 G.2.2.2.2.2.2.2.2.1 G.2.2.2.2.2.2.2.2.2 q987 q988 rfl (by decide +kernel) (by decide +kernel) (by decide +kernel) (by decide +kernel) hd1 (rm_1 hg) (rm_2 hg) hrc hrs (fun H' h1 h2 h3 => ?_)
    have hz : H.size = sZ σ := hR.2.1
    rw [hz] at h1 ⊢
    exact ⟨nX σ, τ, hR.thrown h1 h2 h3, rfl, (Nat.sub_sub _ _ _).symm, hK _ (up_at _ _ _)⟩
  · intro hx H hR R s m args below meth cc ls C hl hsH hrc hrs
    have hK := (Ex_some (K := tQ Q τ (fun _ : Unit => none))).mp hx
    have hU : U g mX11_must d 0 [(0, vi a1)] [] H (rC g σ) (rS g σ) (lQ g Q) := by
      refine U.b (l' := [(0, vi a1)]) (st' := [vi a1]) (pc' := 1) (is := [(.iload_n 0, vi 0, 1)]) (by decide +kernel) rfl rfl ?_
      refine U.if_ne (off := 11) (tgt := 12) hr (by decide +kernel) (fun _ => ?_) (fun e => absurd e c)
      exact U.vret rfl (by decide +kernel) (V.end1 hR hK)
    exact hU R s m args below meth cc [] 0 0 ls C hl (fun q hq => by cases hq) (by omega) (by omega)
def s_fail (bb : Nat × Nat) (σ : ST) : Option (Option Unit × ST) := gd (rm bb σ 6) (some (none, nX σ))
theorem s_fail_ok (G : GG g) (d : Nat) (hd1 : 6 ≤ d) (σ : ST) (Q : VQ) : Sm (VE g mX5_fail d [] σ τ Q) (s_fail (gRm g) σ) (tQ Q τ (fun _ : Unit => none)) := by
  unfold s_fail
  refine sm_gd (fun hg => ?_)
  intro hx H hR R s m args below meth cc ls C hl hsH hrc hrs
  have hK := (Ex_some (K := tQ Q τ (fun _ : Unit => none))).mp hx
  refine W.throw0 (l := []) C hl hsH hR.2.2.2.2 hR.2.2.1 G.2.2.2.2.2.2.2.1 G.2.2.2.2.2.2.2.2.1 G.2.2.2.2.2.2.2.2.2 q444 q483 rfl (by decide +kernel) (by decide +kernel) (by decide +kernel) (by decide +kernel) hd1 (rm_1 hg) (rm_2 hg) hrc hrs (fun H' h1 h2 h3 => ?_)
  have hz : H.size = sZ σ := hR.2.1
  rw [hz] at h1 ⊢
  exact ⟨nX σ, τ, hR.thrown h1 h2 h3, rfl, (Nat.sub_sub _ _ _).symm, hK _ (up_at _ _ _)⟩
/-! calls of methods that may throw -/
theorem thr_mono {Y : Type} {ret : Y → Option LV} {F : Option (Option Y × ST)} {G : Y → ST → Option X} {thr : ST → X} {K1 : Option LV → ST → TT → Prop} {K2 : Nat → ST → TT → Prop} (hthr : ∀ σ', K (thr σ') → ∀ a, sc σ' a = 17 → K2 a σ' τ) (kk : ∀ v σ', Ex (G v σ') K → K1 (ret v) σ' τ) (hx : Ex (F.bind (tB thr G)) K) : Ex F (tQ (K1, K2) τ ret) := by
  refine (Ex_bind.mp hx).mono fun y hy => ?_
  obtain ⟨y1, y2⟩ := y
  cases y1 with
  | none => exact hthr y2 (Ex_some.mp hy)
  | some v => exact kk v y2 hy
theorem sm_cvT {C : String} {b : Nat} {i : Nat} {F : Option (Option Y × ST)} {G : Y → ST → Option X} (ret : Y → Option LV) (thr : ST → X) (as rest : List LV) (hh : nocov M pc = true) (hdg : d1 M.2.1 pc (.invokevirtual i) 3 = true) (hlink : Cond.methodLink M.1.cls i N.1 ∈ lw_all) (hinst : Cond.instanceMethod N.1 ∈ lw_all) (hsel : Cond.selects C N.1 N.1 ∈ lw_all) (hcode : CI N) (hy : okN N.1 as.length = true)
    (hrv : ∀ H, Rep g σ τ H → Rv g C b H) (hst : st = as.reverse ++ vr (some b) :: rest) (has : Nat.ble (lW (vr (some b) :: as)) N.2.2.1 = true) (hd : d' + 1 ≤ d) (hw : Nat.ble (2 * rest.length + N.2.2.1 + 11) 64 = true)
    (thm : ∀ Q' : VQ, Sm (V g N d' 0 (lA 0 (vr (some b) :: as)) [] σ τ Q') F (tQ Q' τ ret)) (hthr : ∀ σ', K (thr σ') → ∀ a, sc σ' a = 17 → Q.2 a σ' τ) (kk : ∀ v σ', Sm (V g M d (pc + 3) l ((ret v).toList ++ rest) σ' τ Q) (G v σ') K) : Sm (V g M d pc l st σ τ Q) (F.bind (tB thr G)) K :=
  fun hx => V.cv as rest hh hdg hlink hinst hsel hcode hy hrv hst has hd hw (thm _ (thr_mono hthr (fun v σ' h => kk v σ' h) hx))
theorem sm_csT {i : Nat} {F : Option (Option Y × ST)} {G : Y → ST → Option X} (ret : Y → Option LV) (thr : ST → X) (as rest : List LV) (hh : nocov M pc = true) (hdg : d1 M.2.1 pc (.invokestatic i) 3 = true) (hlink : Cond.methodLink M.1.cls i N.1 ∈ lw_all) (hstat : Cond.static N.1 ∈ lw_all) (hinit : Cond.initialized N.1.cls ∈ lw_all) (hcode : CI N) (hy : okN N.1 as.length = true)
    (hst : st = as.reverse ++ rest) (has : Nat.ble (lW as) N.2.2.1 = true) (hd : d' + 1 ≤ d) (hw : Nat.ble (2 * rest.length + N.2.2.1 + 11) 64 = true)
    (thm : ∀ Q' : VQ, Sm (V g N d' 0 (lA 0 as) [] σ τ Q') F (tQ Q' τ ret)) (hthr : ∀ σ', K (thr σ') → ∀ a, sc σ' a = 17 → Q.2 a σ' τ) (kk : ∀ v σ', Sm (V g M d (pc + 3) l ((ret v).toList ++ rest) σ' τ Q) (G v σ') K) : Sm (V g M d pc l st σ τ Q) (F.bind (tB thr G)) K :=
  fun hx => V.cs as rest hh hdg hlink hstat hinit hcode hy hst has hd hw (thm _ (thr_mono hthr (fun v σ' h => kk v σ' h) hx))
theorem sm_csTE {i : Nat} {F : Option (Option Y × ST)} {G : Y → ST → Option X} (ret : Y → Option LV) (thr : ST → X) (as rest : List LV) (hh : nocov M pc = true) (hdg : d1 M.2.1 pc (.invokestatic i) 3 = true) (hlink : Cond.methodLink M.1.cls i N.1 ∈ lw_all) (hstat : Cond.static N.1 ∈ lw_all) (hinit : Cond.initialized N.1.cls ∈ lw_all) (hcode : CI N) (hy : okN N.1 as.length = true)
    (hst : st = as.reverse ++ rest) (has : Nat.ble (lW as) N.2.2.1 = true) (hd : d' + 1 ≤ d) (hw : Nat.ble (2 * rest.length + N.2.2.1 + 11) 64 = true)
    (thm : ∀ Q' : VQ, Sm (VE g N d' as σ τ Q') F (tQ Q' τ ret)) (hthr : ∀ σ', K (thr σ') → ∀ a, sc σ' a = 17 → Q.2 a σ' τ) (kk : ∀ v σ', Sm (V g M d (pc + 3) l ((ret v).toList ++ rest) σ' τ Q) (G v σ') K) : Sm (V g M d pc l st σ τ Q) (F.bind (tB thr G)) K := by
  intro hx H hR
  have h1 := thm (fun v σ' τ' => V g M d (pc + 3) l (v.toList ++ rest) σ' τ' Q, Q.2) (thr_mono hthr (fun v σ' h => kk v σ' h) hx) H hR
  refine U.csE as rest hh hdg hlink hstat hinit hcode hy hst has hd hw ?_
  intro R s m args below meth c ls C hl hsH hrc hrs T hT X
  obtain ⟨t, hs1, o, L, k, n, rc', rs', e1, e2, e3, e4, e5, e6, e7, e8⟩ := h1 R s m args below meth c ls C hl hsH hrc hrs T hT X
  refine ⟨t, hs1, o, L, k, n, rc', rs', e1, e2, e3, e4, e5, e6, e7, ?_⟩
  rcases e8 with ⟨v, e8, σ', τ', hR', rfl, rfl, hq⟩ | ⟨v, e8, e9⟩
  · exact Or.inl ⟨v, e8, hq _ hR'⟩
  · exact Or.inr ⟨v, e8, e9⟩
/-! calls in a try: a thrown exception comes to the handler -/
theorem sm_cvC {C : String} {b : Nat} {i : Nat} {F : Option (Option Y × ST)} {G : Y → ST → Option X} {Hn : ST → Option X} (GG0 : GG g) (ret : Y → Option LV) (as rest : List LV) (lo hi hp ct : Nat) (hM : M.2.2.2.2 = [(lo, hi, hp, ct)]) (hcv : (Nat.ble lo pc && Nat.blt pc hi && !(Nat.beq ct 0)) = true) (hcl : Cond.classLink M.1.cls ct "java/lang/IllegalArgumentException" ∈ lw_all) (hdg : d1 M.2.1 pc (.invokevirtual i) 3 = true) (hlink : Cond.methodLink M.1.cls i N.1 ∈ lw_all) (hinst : Cond.instanceMethod N.1 ∈ lw_all) (hsel : Cond.selects C N.1 N.1 ∈ lw_all) (hcode : CI N) (hy : okN N.1 as.length = true)
    (hrv : ∀ H, Rep g σ τ H → Rv g C b H) (hst : st = as.reverse ++ vr (some b) :: rest) (has : Nat.ble (lW (vr (some b) :: as)) N.2.2.1 = true) (hd : d' + 1 ≤ d) (hw : Nat.ble (2 * rest.length + N.2.2.1 + 11) 64 = true)
    (thm : ∀ Q' : VQ, Sm (V g N d' 0 (lA 0 (vr (some b) :: as)) [] σ τ Q') F (tQ Q' τ ret)) (kh : ∀ a σ', sc σ' a = 17 → Sm (V g M d hp l [vr (some a)] σ' τ Q) (Hn σ') K) (kk : ∀ v σ', Sm (V g M d (pc + 3) l ((ret v).toList ++ rest) σ' τ Q) (G v σ') K) : Sm (V g M d pc l st σ τ Q) (F.bind (tC Hn G)) K := by
  intro hx H hR
  have hF : Ex F (tQ (fun v σ' τ' => V g M d (pc + 3) l (v.toList ++ rest) σ' τ' Q, fun a σ' τ' => sc σ' a = 17 ∧ V g M d hp l [vr (some a)] σ' τ' Q) τ ret) := by
    refine (Ex_bind.mp hx).mono fun y hy => ?_
    obtain ⟨y1, y2⟩ := y
    cases y1 with
    | none => exact fun a ha => ⟨ha, kh a y2 ha hy⟩
    | some v => exact kk v y2 hy
  refine U.cvC as rest lo hi hp ct hM hcv hcl hdg hlink hinst hsel hcode hy (hrv H hR) hst has hd hw ((thm _ hF H hR).mono ?_ ?_)
  · intro v H' rc' rs' h
    obtain ⟨σ', τ', hR', rfl, rfl, hq⟩ := h
    exact hq H' hR'
  · intro v H' rc' rs' h
    obtain ⟨σ', τ', hR', rfl, rfl, hq⟩ := h
    exact ⟨hR'.rvX GG0.1 hq.1, hq.2 H' hR'⟩
theorem sm_csC {i : Nat} {F : Option (Option Y × ST)} {G : Y → ST → Option X} {Hn : ST → Option X} (GG0 : GG g) (ret : Y → Option LV) (as rest : List LV) (lo hi hp ct : Nat) (hM : M.2.2.2.2 = [(lo, hi, hp, ct)]) (hcv : (Nat.ble lo pc && Nat.blt pc hi && !(Nat.beq ct 0)) = true) (hcl : Cond.classLink M.1.cls ct "java/lang/IllegalArgumentException" ∈ lw_all) (hdg : d1 M.2.1 pc (.invokestatic i) 3 = true) (hlink : Cond.methodLink M.1.cls i N.1 ∈ lw_all) (hstat : Cond.static N.1 ∈ lw_all) (hinit : Cond.initialized N.1.cls ∈ lw_all) (hcode : CI N) (hy : okN N.1 as.length = true)
    (hst : st = as.reverse ++ rest) (has : Nat.ble (lW as) N.2.2.1 = true) (hd : d' + 1 ≤ d) (hw : Nat.ble (2 * rest.length + N.2.2.1 + 11) 64 = true)
    (thm : ∀ Q' : VQ, Sm (V g N d' 0 (lA 0 as) [] σ τ Q') F (tQ Q' τ ret)) (kh : ∀ a σ', sc σ' a = 17 → Sm (V g M d hp l [vr (some a)] σ' τ Q) (Hn σ') K) (kk : ∀ v σ', Sm (V g M d (pc + 3) l ((ret v).toList ++ rest) σ' τ Q) (G v σ') K) : Sm (V g M d pc l st σ τ Q) (F.bind (tC Hn G)) K := by
  intro hx H hR
  have hF : Ex F (tQ (fun v σ' τ' => V g M d (pc + 3) l (v.toList ++ rest) σ' τ' Q, fun a σ' τ' => sc σ' a = 17 ∧ V g M d hp l [vr (some a)] σ' τ' Q) τ ret) := by
    refine (Ex_bind.mp hx).mono fun y hy => ?_
    obtain ⟨y1, y2⟩ := y
    cases y1 with
    | none => exact fun a ha => ⟨ha, kh a y2 ha hy⟩
    | some v => exact kk v y2 hy
  refine U.csC as rest lo hi hp ct hM hcv hcl hdg hlink hstat hinit hcode hy hst has hd hw ((thm _ hF H hR).mono ?_ ?_)
  · intro v H' rc' rs' h
    obtain ⟨σ', τ', hR', rfl, rfl, hq⟩ := h
    exact hq H' hR'
  · intro v H' rc' rs' h
    obtain ⟨σ', τ', hR', rfl, rfl, hq⟩ := h
    exact ⟨hR'.rvX GG0.1 hq.1, hq.2 H' hR'⟩
/-! constructors -/
theorem sm_ci {i b : Nat} {F : Option ST} {G : ST → Option X} (as rest : List LV) (hh : nocov M pc = true) (hdg : d1 M.2.1 pc (.invokespecial i) 3 = true) (hlink : Cond.methodLink M.1.cls i N.1 ∈ lw_all) (hinst : Cond.instanceMethod N.1 ∈ lw_all) (hnm : N.1.name = "<init>") (hcode : Cond.code N.1 N.2.1 N.2.2.1 none ∈ lw_all) (hret : N.2.2.2.1 = none) (hhN : N.2.2.2.2 = []) (hy : okN N.1 as.length = true)
    (hst : st = as.reverse ++ vr (some b) :: rest) (has : Nat.ble (lW (vr (some b) :: as)) N.2.2.1 = true) (hd : d' + 1 ≤ d) (hw : Nat.ble (2 * rest.length + N.2.2.1 + 11) 64 = true)
    (thm : ∀ Q' : VQ, Sm (V g N d' 0 (lA 0 (vr (some b) :: as)) [] σ τ Q') F (fun y => Q'.1 none y τ)) (kk : ∀ y, Sm (V g M d (pc + 3) l rest y τ Q) (G y) K) : Sm (V g M d pc l st σ τ Q) (F.bind G) K := by
  intro hx H hR
  have hF : Ex F (fun y => V g M d (pc + 3) l rest y τ Q) := (Ex_bind.mp hx).mono fun y hy => kk y hy
  refine U.ci as rest hh hdg hlink hinst hnm hcode hret hhN hy hst has hd hw ((thm (fun v σ' τ' => V g M d (pc + 3) l (v.toList ++ rest) σ' τ' Q, Q.2) hF H hR).mono ?_ ?_)
  · intro v H' rc' rs' h
    obtain ⟨σ', τ', hR', rfl, rfl, hq⟩ := h
    exact hq H' hR'
  · intro v H' rc' rs' h
    exact h
theorem sm_ciN {i b : Nat} {host : String} {F : Option ST} {G : ST → Option X} (as rest : List LV) (hh : nocov M pc = true) (hdg : d1 M.2.1 pc (.invokespecial i) 3 = true) (hlink : Cond.methodLinkNest M.1.cls i N.1 host ∈ lw_tbl) (hinst : Cond.instanceMethod N.1 ∈ lw_all) (hnm : N.1.name = "<init>") (hcode : Cond.code N.1 N.2.1 N.2.2.1 none ∈ lw_all) (hret : N.2.2.2.1 = none) (hhN : N.2.2.2.2 = []) (hy : okN N.1 as.length = true)
    (hst : st = as.reverse ++ vr (some b) :: rest) (has : Nat.ble (lW (vr (some b) :: as)) N.2.2.1 = true) (hd : d' + 1 ≤ d) (hw : Nat.ble (2 * rest.length + N.2.2.1 + 11) 64 = true)
    (thm : ∀ Q' : VQ, Sm (V g N d' 0 (lA 0 (vr (some b) :: as)) [] σ τ Q') F (fun y => Q'.1 none y τ)) (kk : ∀ y, Sm (V g M d (pc + 3) l rest y τ Q) (G y) K) : Sm (V g M d pc l st σ τ Q) (F.bind G) K := by
  intro hx H hR
  have hF : Ex F (fun y => V g M d (pc + 3) l rest y τ Q) := (Ex_bind.mp hx).mono fun y hy => kk y hy
  refine U.ciN as rest hh hdg hlink hinst hnm hcode hret hhN hy hst has hd hw ((thm (fun v σ' τ' => V g M d (pc + 3) l (v.toList ++ rest) σ' τ' Q, Q.2) hF H hR).mono ?_ ?_)
  · intro v H' rc' rs' h
    obtain ⟨σ', τ', hR', rfl, rfl, hq⟩ := h
    exact hq H' hR'
  · intro v H' rc' rs' h
    exact h
end ThrowV
