set_option maxRecDepth 100000
/-! MORE RULES for the system's methods -/
section CallZ
variable {g : GE} {M N : Mt} {d d' pc : Nat} {l l' : List (Nat × LV)} {st st' rest : List LV} {H H' : Heap} {rc rs : Nat} {Q : UQ}
/-- a call has been made ready (the machine stands at doInvoke): go on -/
theorem U.finZ {st0 : List Value} {R : Room} {s : State} {m : MethodId} {args : Array Value} {below : List Frame} {meth : Method} {c : Code} {T T1 : State} {locs : List Loc} {cells slots : Nat} {ls : Array Slot} (C : Cx g M d R s m meth c) (hl : lv_has ls M.2.2.1 (lV l)) (hlo : LO g locs) (hc : cells + rc ≤ R.cells) (hs : slots + rs ≤ R.slots)
    (X1 : Stand (gp g) (gl g) (ge g) R s m args below meth c T1 locs cells slots) {ig : Instr} (hdg : decode M.2.1 pc = .ok (ig, 3)) {mk : MethodId} (hn : s.methodNamed? N.1 = some mk) (hcode : CI N) (hpl : plainFor N.1 = true) (as : List LV) (has : Nat.ble (lW as) N.2.2.1 = true) (hd : d' + 1 ≤ d) (hw : Nat.ble (2 * rest.length + N.2.2.1 + 11) 64 = true)
    (hst : ∀ target, (∀ acts, Steps (gp g).tables (ge g) below (doInvoke (ge g) (T1.setTop (F0 m pc ls (sV rest))) acts mk (sV as).toArray).1 target) → Steps (gp g).tables (ge g) below (T.setTop (F0 m pc ls st0)) target)
    (k : U g N d' 0 (lA 0 as) [] T1.heap rc rs (fun v H' rc' rs' => U g M d (pc + 3) l (v.toList ++ rest) H' rc' rs' Q, fun _ _ _ _ => False)) :
    ∃ t, Steps (gp g).tables (ge g) below (T.setTop (F0 m pc ls st0)) t ∧ EQ g R s below Q t := by
  obtain ⟨T', L, kk, nn, rc', rs', X', hlo', hc', hs', h | h⟩ := ent C X1 hlo hc hs (rest := rest) (by rw [hl.1, C.hml]) (by rw [C.hb]; exact hdg) hn hcode hpl as (Nat.le_of_ble_eq_true has) hd (Nat.le_of_ble_eq_true hw) k
  · obtain ⟨v, hq, hsteps⟩ := h
    obtain ⟨t, a, b⟩ := hq R s m args below meth c (locs ++ L) (cells + kk) (slots + nn) ls C hl hlo' hc' hs' T' rfl X'
    exact ⟨t, hst t fun acts => (hsteps acts).trans a, b⟩
  · obtain ⟨a, hq, hsteps⟩ := h
    exact hq.elim
theorem U.ciZ {i b : Nat} (as rest : List LV) (hdg : d1 M.2.1 pc (.invokespecial i) 3 = true) (hlink : Cond.methodLink M.1.cls i N.1 ∈ lw_all) (hinst : Cond.instanceMethod N.1 ∈ lw_all) (hnm : N.1.name = "<init>") (hcode : Cond.code N.1 N.2.1 N.2.2.1 none ∈ lw_all) (hret : N.2.2.2.1 = none) (hhN : N.2.2.2.2 = []) (hy : okN N.1 as.length = true)
    (hst : st = as.reverse ++ vr (some b) :: rest) (has : Nat.ble (lW (vr (some b) :: as)) N.2.2.1 = true) (hd : d' + 1 ≤ d) (hw : Nat.ble (2 * rest.length + N.2.2.1 + 11) 64 = true)
    (k : U g N d' 0 (lA 0 (vr (some b) :: as)) [] H rc rs (fun v H' rc' rs' => U g M d (pc + 3) l (v.toList ++ rest) H' rc' rs' Q, fun _ _ _ _ => False)) : U g M d pc l st H rc rs Q := by
  intro R s m args below meth c locs cells slots ls C0 hl hlo hc hs T hT X
  subst hT
  have hpl : (ge g).platform.magicAccessors = ({} : Platform).magicAccessors := by rw [X.admits.platform]
  obtain ⟨mk, methM, cM, kP, vm₁, hnamed, -, -, -, -, -, -, -, hW₁, hstep₁⟩ := Steps.initColdArgs (e := ge g) X.here C0.hx X.warmed hpl C0.hown hnm (okN_2 hy) (C0.word hlink args) (C0.word hinst args) (C0.word hcode args) (f := F0 m pc ls (sV st)) rfl (argsL := sV as) (rest := sV rest) (a := b) (fun sig h => by rw [← okN_3 hy h]; exact List.length_map ..) (by rw [hst, sV_app, sV_rev]; rfl) (by rw [C0.hb]; exact of_decide_eq_true hdg)
  exact U.finZ C0 hl hlo hc hs (X.noted hW₁) (of_decide_eq_true hdg) hnamed (Or.inl ⟨hhN, by rw [hret]; exact hcode⟩) (okN_1 hy) (vr (some b) :: as) has hd hw hstep₁ k
theorem U.csCN {i : Nat} {host : String} (as rest : List LV) (lo hi hp ct : Nat) (hM : M.2.2.2.2 = [(lo, hi, hp, ct)]) (hcv : (Nat.ble lo pc && Nat.blt pc hi && !(Nat.beq ct 0)) = true) (hcl : Cond.classLink M.1.cls ct "java/lang/IllegalArgumentException" ∈ lw_all) (hdg : d1 M.2.1 pc (.invokestatic i) 3 = true) (hlink : Cond.methodLinkNest M.1.cls i N.1 host ∈ lw_tbl) (hstat : Cond.static N.1 ∈ lw_all) (hinit : Cond.initialized N.1.cls ∈ lw_all) (hcode : CI N) (hy : okN N.1 as.length = true)
    (hst : st = as.reverse ++ rest) (has : Nat.ble (lW as) N.2.2.1 = true) (hd : d' + 1 ≤ d) (hw : Nat.ble (2 * rest.length + N.2.2.1 + 11) 64 = true)
    (k : U g N d' 0 (lA 0 as) [] H rc rs (fun v H' rc' rs' => U g M d (pc + 3) l (v.toList ++ rest) H' rc' rs' Q, fun a H' rc' rs' => Rv g "java/lang/IllegalArgumentException" a H' ∧ U g M d hp l [vr (some a)] H' rc' rs' Q)) : U g M d pc l st H rc rs Q := by
  intro R s m args below meth c locs cells slots ls C0 hl hlo hc hs T hT X
  subst hT
  have hnm : ∃ mk, s.methodNamed? N.1 = some mk := by
    rcases hcode with ⟨-, h⟩ | h
    · exact Cond.code_named (C0.word h args)
    · obtain ⟨mk, -, -, h0, -⟩ := Cond.codeWith_spec (C0.word h args)
      exact ⟨mk, h0⟩
  obtain ⟨mk, hnamed⟩ := hnm
  obtain ⟨methM, ck, h1, h2, h3, h4, h5, h6, h7, h8⟩ := hcode.spec C0.1 C0.warm hnamed
  have hstatic : methM.isStatic = true := Cond.static_spec hnamed h1 (C0.word hstat args)
  obtain ⟨kP, hkP, -⟩ := className_of_methodNamed hnamed
  have hinitP : kP.init = .initialized := Cond.initialized_spec (findClass_of_methodNamed hnamed) hkP (C0.word hinit args)
  obtain ⟨vm₁, X₁, hstep₁⟩ := X.invokestaticNest C0.hx C0.hown (C0.nM hlink args) hnamed h1 hstatic hkP hinitP (okN_2 hy) (g := F0 m pc ls (sV st)) rfl (argsL := sV as) (rest := sV rest) (by rw [← okN_3 hy h8]; exact List.length_map ..) (by rw [hst, sV_app, sV_rev]) (by rw [C0.hb]; exact of_decide_eq_true hdg)
  exact U.finC C0 hl hlo hc hs lo hi hp ct hM hcv hcl X₁ (of_decide_eq_true hdg) hnamed hcode (okN_1 hy) as has hd hw hstep₁ k
end CallZ
/-- the first n bytes of an array, written anew -/
def pC (σ : ST) (a : Nat) (f : Nat → UInt8) (n : Nat) : ST := (sc σ, sI σ, sJ σ, sR σ, sW σ, sA σ, sN σ, up (sB σ) a (fun j => if j < n then f j else sB σ a j), sE σ, sF σ, sH σ, sZ σ, sC σ, sS σ)
/-- the address, where there is one -/
def ad (x : Option Nat) : Nat := x.getD 0
section SysV
variable {g : GE} {M N : Mt} {d d' pc pc' tgt : Nat} {off : Int} {l l' : List (Nat × LV)} {st st' : List LV} {σ σ' : ST} {τ : TT} {Q : VQ} {X Y : Type} {F A B : Option X} {K : X → Prop} {P : Prop} {H H' : Heap}
theorem sm_ciZ {i b : Nat} {F : Option ST} {G : ST → Option X} (as rest : List LV) (hdg : d1 M.2.1 pc (.invokespecial i) 3 = true) (hlink : Cond.methodLink M.1.cls i N.1 ∈ lw_all) (hinst : Cond.instanceMethod N.1 ∈ lw_all) (hnm : N.1.name = "<init>") (hcode : Cond.code N.1 N.2.1 N.2.2.1 none ∈ lw_all) (hret : N.2.2.2.1 = none) (hhN : N.2.2.2.2 = []) (hy : okN N.1 as.length = true)
    (hst : st = as.reverse ++ vr (some b) :: rest) (has : Nat.ble (lW (vr (some b) :: as)) N.2.2.1 = true) (hd : d' + 1 ≤ d) (hw : Nat.ble (2 * rest.length + N.2.2.1 + 11) 64 = true)
    (thm : ∀ Q' : VQ, Sm (V g N d' 0 (lA 0 (vr (some b) :: as)) [] σ τ Q') F (fun y => Q'.1 none y τ)) (kk : ∀ y, Sm (V g M d (pc + 3) l rest y τ Q) (G y) K) : Sm (V g M d pc l st σ τ Q) (F.bind G) K := by
  intro hx H hR
  have hF : Ex F (fun y => V g M d (pc + 3) l rest y τ Q) := (Ex_bind.mp hx).mono fun y hy => kk y hy
  refine U.ciZ as rest hdg hlink hinst hnm hcode hret hhN hy hst has hd hw ((thm (fun v σ' τ' => V g M d (pc + 3) l (v.toList ++ rest) σ' τ' Q, fun _ _ _ => False) hF H hR).mono ?_ ?_)
  · intro v H' rc' rs' h
    obtain ⟨σ', τ', hR', rfl, rfl, hq⟩ := h
    exact hq H' hR'
  · intro v H' rc' rs' h
    obtain ⟨_, _, _, _, _, hq⟩ := h
    exact hq
theorem sm_csCN {i : Nat} {host : String} {F : Option (Option Y × ST)} {G : Y → ST → Option X} {Hn : ST → Option X} (GG0 : GG g) (ret : Y → Option LV) (as rest : List LV) (lo hi hp ct : Nat) (hM : M.2.2.2.2 = [(lo, hi, hp, ct)]) (hcv : (Nat.ble lo pc && Nat.blt pc hi && !(Nat.beq ct 0)) = true) (hcl : Cond.classLink M.1.cls ct "java/lang/IllegalArgumentException" ∈ lw_all) (hdg : d1 M.2.1 pc (.invokestatic i) 3 = true) (hlink : Cond.methodLinkNest M.1.cls i N.1 host ∈ lw_tbl) (hstat : Cond.static N.1 ∈ lw_all) (hinit : Cond.initialized N.1.cls ∈ lw_all) (hcode : CI N) (hy : okN N.1 as.length = true)
    (hst : st = as.reverse ++ rest) (has : Nat.ble (lW as) N.2.2.1 = true) (hd : d' + 1 ≤ d) (hw : Nat.ble (2 * rest.length + N.2.2.1 + 11) 64 = true)
    (thm : ∀ Q' : VQ, Sm (V g N d' 0 (lA 0 as) [] σ τ Q') F (tQ Q' τ ret)) (kh : ∀ a σ', sc σ' a = 17 → Sm (V g M d hp l [vr (some a)] σ' τ Q) (Hn σ') K) (kk : ∀ v σ', Sm (V g M d (pc + 3) l ((ret v).toList ++ rest) σ' τ Q) (G v σ') K) : Sm (V g M d pc l st σ τ Q) (F.bind (tC Hn G)) K := by
  intro hx H hR
  have hF : Ex F (tQ (fun v σ' τ' => V g M d (pc + 3) l (v.toList ++ rest) σ' τ' Q, fun a σ' τ' => sc σ' a = 17 ∧ V g M d hp l [vr (some a)] σ' τ' Q) τ ret) := by
    refine (Ex_bind.mp hx).mono fun y hy => ?_
    obtain ⟨y1, y2⟩ := y
    cases y1 with
    | none => exact fun a ha => ⟨ha, kh a y2 ha hy⟩
    | some v => exact kk v y2 hy
  refine U.csCN as rest lo hi hp ct hM hcv hcl hdg hlink hstat hinit hcode hy hst has hd hw ((thm _ hF H hR).mono ?_ ?_)
  · intro v H' rc' rs' h
    obtain ⟨σ', τ', hR', rfl, rfl, hq⟩ := h
    exact hq H' hR'
  · intro v H' rc' rs' h
    obtain ⟨σ', τ', hR', rfl, rfl, hq⟩ := h
    exact ⟨hR'.rvX GG0.1 hq.1, hq.2 H' hR'⟩
theorem sm_de {x : Option Nat} {G : Nat → Option X} (kk : ∀ a, x = some a → Sm P (G a) K) : Sm P (x.bind G) K := by
  cases x with
  | none => exact sm_none
  | some a => exact kk a rfl
theorem ad_some {x : Option Nat} (h : ¬ x = none) : x = some (ad x) := by
  cases x with
  | none => exact absurd rfl h
  | some a => rfl
theorem sm_st (st' : List LV) (h : st = st') (kk : Sm (V g M d pc l st' σ τ Q) F K) : Sm (V g M d pc l st σ τ Q) F K := h ▸ kk
theorem nar_i (x : Int) : narrow .int (vV (vi x)) = vV (vi x) := rfl
theorem nar_j (x : Int64) : narrow .long (vV (vl x)) = vV (vl x) := rfl
theorem nar_r (x : Option Nat) {ty : FieldType} (h : ty.isReference = true) : narrow ty (vV (vr x)) = vV (vr x) := by
  cases x <;> cases ty <;> first | rfl | cases h
theorem fit_i (x : Int) : fits .int (vV (vi x)) = true := rfl
theorem fit_z {x : Int} (h : zb x) : fits .boolean (vV (vi x)) = true := by
  rcases h with rfl | rfl <;> rfl
theorem nar_z {x : Int} (h : zb x) : narrow .boolean (vV (vi x)) = vV (vi x) := by
  rcases h with rfl | rfl <;> rfl
theorem fit_j (x : Int64) : fits .long (vV (vl x)) = true := rfl
theorem fit_r (x : Option Nat) {ty : FieldType} (h : ty.isReference = true) : fits ty (vV (vr x)) = true := by
  cases x <;> cases ty <;> first | rfl | cases h
theorem at_pC (σ : ST) (a : Nat) (f : Nat → UInt8) (n : Nat) : At1 σ (pC σ a f n) a := ⟨rfl, rfl, rfl, fun b hb => ⟨rfl, rfl, rfl, up_ne _ _ hb, rfl, rfl, rfl, fun _ => rfl, fun _ => rfl, fun _ => rfl⟩, rfl, rfl⟩
theorem sbW_fit (b : UInt8) : (sbW b).toInt8.toInt32 = sbW b := by
  unfold sbW
  simp
theorem cpy_eq (f f1 : Nat → UInt8) (n : Nat) (fI : Nat → Int32) (h : ∀ j, j < n → fI j = sbW (f j)) : va_cpy fI (fun j => sbW (f1 j)) (Int.toNat 0) (Int.toNat 0) n = fun j => sbW (if j < n then f j else f1 j) := by
  funext j
  unfold va_cpy
  by_cases hj : j < n
  · simp [hj, h j hj]
  · simp [hj]
theorem Rep.cpy {a n : Nat} {f : Nat → UInt8} (hR : Rep g σ τ H) (ha : sc σ a = 101) (hq : Pt1 g a (.inl (ga g 0, sN σ a, .inl (fun j => sbW (if j < n then f j else sB σ a j)))) H H') : Rep g (pC σ a f n) τ H' := by
  obtain ⟨e1, e2, e3, e4, -⟩ := at_pC σ a f n
  refine hR.loc (by omega) e1 e2 e3 e4 hq.2.1 hq.2.2 (fun own _ => ?_)
  unfold cellC
  rw [e1, ha]
  refine ⟨?_, (hR.arB ha).1.2⟩
  rw [show sB (pC σ a f n) a = (fun j => if j < n then f j else sB σ a j) from up_at _ _ _]
  exact hq.1
theorem sm_cpA {i a b : Nat} {n : Int} (hlink : Cond.methodLink M.1.cls i arraycopyName ∈ lw_all) (ha : sc σ a = 101) (hb : sc σ b = 101) (hn : 0 ≤ n ∧ n ≤ sN σ a ∧ n ≤ sN σ b) (hd1 : 1 ≤ d) (hw : Nat.ble (2 * st.length + 30) 64 = true) (hd : d1 M.2.1 pc (.invokestatic i) 3 = true)
    (kk : Sm (V g M d (pc + 3) l st (pC σ a (sB σ b) n.toNat) τ Q) F K) : Sm (V g M d pc l (vi n :: vi 0 :: vr (some a) :: vi 0 :: vr (some b) :: st) σ τ Q) F K := by
  intro hx H hR
  refine U.copyb hlink (hR.arB hb).1.1 (hR.arB ha).1.1 (hR.arB ha).2 (fun j => sbW_fit _) (by decide) (by decide) hn.1 (by omega) (by omega) (hR.arB hb).1.2 (hR.arB ha).1.2 hd1 hw hd (fun H' hq => kk hx H' (hR.cpy ha ?_))
  rw [cpy_eq (sB σ b) (sB σ a) n.toNat _ (fun _ _ => rfl)] at hq
  exact hq
theorem sm_cpR {i a p : Nat} {n : Int} (G : GG g) (hlink : Cond.methodLink M.1.cls i arraycopyName ∈ lw_all) (ha : sc σ a = 101) (hp : sc σ p = 4) (hn : 0 ≤ n ∧ n ≤ sN σ a ∧ n ≤ (sW σ p).length) (hd1 : 1 ≤ d) (hw : Nat.ble (2 * st.length + 30) 64 = true) (hd : d1 M.2.1 pc (.invokestatic i) 3 = true)
    (kk : Sm (V g M d (pc + 3) l st (pC σ a (fun j => (sW σ p).getD j 0) n.toNat) τ Q) F K) : Sm (V g M d pc l (vi n :: vi 0 :: vr (some a) :: vi 0 :: vr (some (sH σ p)) :: st) σ τ Q) F K := by
  intro hx H hR
  obtain ⟨-, -, h3, h4, ⟨f, hf, hb⟩, -⟩ := hR.row hp
  refine U.copybT hlink (fun s' hv => hf.T h4 G.1 s' hv) (hR.arB ha).1.1 (hR.arB ha).2 (fun j => sbW_fit _) (by decide) (by decide) hn.1 (by omega) (by omega) h4 (hR.arB ha).1.2 hd1 hw hd (fun H' hq => kk hx H' (hR.cpy ha ?_))
  rw [cpy_eq (fun j => (sW σ p).getD j 0) (sB σ a) n.toNat _ (fun j hj => by
    have hlt : j < (sW σ p).length := by omega
    show sbW (f j) = sbW ((sW σ p).getD j 0)
    rw [hb j _ (List.getElem?_eq_getElem hlt), List.getD_eq_getElem?_getD, List.getElem?_eq_getElem hlt]
    rfl)] at hq
  exact hq
theorem rwl_rg {a : Nat} (h : (sW σ a).length < 16777216) : rg ((sW σ a).length : Nat) := ⟨by omega, by omega⟩
def dl1 (cc : ByteArray) (pc : Nat) (df : Int) (ps : List (Int × Int)) (n : Nat) (k off : Int) (tgt : Nat) : Bool := decide (decode cc pc = .ok (.lookupswitch df ps.toArray, n)) && (decide (rg k) && (decide ((ps.zip (ps.drop 1)).all (fun (a, next) => a.1 < next.1) = true) && (decide (Op.lookupswitch.offset ps df k = off) && decide ((pc : Int) + off = (tgt : Int)))))
theorem off_def {ps : List (Int × Int)} {df x : Int} (h : ∀ q ∈ ps, ¬ x = q.1) : Op.lookupswitch.offset ps df x = df := by
  induction ps with
  | nil => rfl
  | cons q r ih =>
    obtain ⟨q1, q2⟩ := q
    rw [Op.lookupswitch.offset_cons, if_neg, ih (fun p hp => h p (List.mem_cons_of_mem _ hp))]
    have := h (q1, q2) (List.mem_cons_self ..)
    first | exact this | (intro e; exact this e.symm) | (simpa using this) | (simp at this ⊢; omega)
theorem sm_lcase {df : Int} {ps : List (Int × Int)} {n : Nat} {x k : Int} (hd : dl1 M.2.1 pc df ps n k off tgt = true) (he : x = k) (kk : Sm (V g M d tgt l st σ τ Q) F K) : Sm (V g M d pc l (vi x :: st) σ τ Q) F K := by
  intro hx H hR
  subst he
  simp only [dl1, Bool.and_eq_true, decide_eq_true_eq] at hd
  have h := rg_to hd.2.1
  exact fun R s m args below meth c locs cells slots ls C hl hlo hc hs => lv_lookup C.hx C.hb hd.1 hd.2.2.1 (by rw [h]; exact hd.2.2.2.1) hd.2.2.2.2 (kk hx H hR R s m args below meth c locs cells slots ls C hl hlo hc hs)
theorem sm_ldef {df : Int} {ps : List (Int × Int)} {n : Nat} {x : Int} (hrx : rg x) (hd : (decide (decode M.2.1 pc = .ok (.lookupswitch df ps.toArray, n)) && (decide ((ps.zip (ps.drop 1)).all (fun (a, next) => a.1 < next.1) = true) && decide ((pc : Int) + df = (tgt : Int)))) = true) (he : ∀ q ∈ ps, ¬ x = q.1) (kk : Sm (V g M d tgt l st σ τ Q) F K) : Sm (V g M d pc l (vi x :: st) σ τ Q) F K := by
  intro hx H hR
  simp only [Bool.and_eq_true, decide_eq_true_eq] at hd
  exact fun R s m args below meth c locs cells slots ls C hl hlo hc hs => lv_lookup C.hx C.hb hd.1 hd.2.1 (by rw [rg_to hrx]; exact off_def he) hd.2.2 (kk hx H hR R s m args below meth c locs cells slots ls C hl hlo hc hs)
end SysV
