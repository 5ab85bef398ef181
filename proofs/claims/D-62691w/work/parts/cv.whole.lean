set_option maxRecDepth 100000
/-! THE CLAIM, GIVEN THE ROOM (turned from the SKELETON's end) -/
def R_law : String := "WireSchemasLaw"
def lw_P (b : Addr) (xs : List Int32) (args : Array Value) (s : State) : Prop := args = #[.ref b] ∧ s.IntsAt b xs ∧ xs.length ≤ 384 ∧ (Jvm.Cond.and given_1 narrow_1).before args s = true
def lw_Q (_ : Array Value) (s : State) (o : Outcome) (t : State) : Prop := o = .returned (some (.int 1)) ∧ Framed s o t [] 973681 6175061
def lw_Z (below : List Frame) (a : Array Value) (s : State) : State → Prop := fun t => ∃ o, t.status = .running ∧ Ended t below o ∧ lw_Q a s o t
def lw_At (p : Program) (s : State) (m : MethodId) (meth : Method) (c : Code) (b L : Nat) (xs : Nat → Int32) : Prop :=
  p.tables.exec = Jvm.exec ∧ c.code = code ∧ meth.sig.returnType = ret ∧ c.maxLocals = 4 ∧ s.vm.findClass R_law = some m.cls ∧ (∀ w ∈ lw_tbl, w.before #[Value.ref b] s = true) ∧ va_X b L xs s s.heap ∧ b < s.heap.size ∧ meth.locks = false ∧ (Jvm.Cond.and given_1 narrow_1).before #[Value.ref b] s = true
/-- from the entry, for every script of at most 384 ints, the law comes to its end with true -/
theorem whole_start (hroom : RoomOK) {p : Program} {e : Env} {s : State} {m : MethodId} {below : List Frame} {meth : Method} {c : Code} (l : Launch) (hfl : l.flags = flags0) {b L : Nat} {xs : Nat → Int32} (hL : L ≤ 384) (C0 : lw_At p s m meth c b L xs) (hnm : meth.name = x.name) (hex : c.exceptionTable.isEmpty = true) : W p l e room_1 s m #[Value.ref b] below meth c s.heap [] 0 0 (lw_Z below #[Value.ref b] s) (entryFrame m ([Value.ref b] : List Value).toArray 4) := by
  obtain ⟨hx1, hb1, hr1, hml, hown, hts, hX, hbl, hlk, hgv⟩ := C0
  intro T hT X
  have hst : e.platform.stackTraces = false := by
    rw [X.admits.platform]
    show l.stackTraces = false
    unfold Launch.stackTraces
    rw [hfl]
    decide +kernel
  have hs : ∀ c ∈ nl, c.before #[Value.ref b] s = true := flat_of_before _ hgv
  have hA : ∀ a : Nat, a < s.heap.size → ¬ (fun q : Nat => s.heap.size ≤ q) a := fun a ha h => absurd h (Nat.not_le.mpr ha)
  obtain ⟨D, cA, hK⟩ := ground_K hts
  obtain ⟨K, hKs⟩ := Classical.axiomOfChoice (str_all hs hA)
  obtain ⟨z0, hz0, ht0⟩ := ground_T (ty := .byte) (hts _ q273) (hts _ (lw_all_tbl q137)) (hs _ (List.mem_of_getElem? (i := 9) rfl)) (hs _ (List.mem_of_getElem? (i := 10) rfl)) hA
  obtain ⟨z1, hz1, ht1⟩ := ground_T (ty := .object "java/lang/Object") (hts _ q199) (hts _ (lw_all_tbl q136)) (hs _ (List.mem_of_getElem? (i := 5) rfl)) (hs _ (List.mem_of_getElem? (i := 7) rfl)) hA
  have hgf : GF (p, l, e, s, D, cA, K, 0, T00) := ⟨hx1, ⟨_, hts⟩, hK⟩
  have hZ1 := va_Zof (hts _ q398) (hts _ (lw_all_tbl q141)) (va_eqt (hs _ (List.mem_of_getElem? (i := 11) rfl))) hA
  have hZ2 := va_Zqof (hts _ q414) (hts _ (lw_all_tbl q143)) (hs _ (List.mem_of_getElem? (i := 12) rfl)) hA
  have hM := va_Mi.of (hs _ (List.mem_of_getElem? (i := 52) rfl))
  have hq1 := va_Zqof (hts _ q471) (hts _ (lw_all_tbl q145)) (hs _ (List.mem_of_getElem? (i := 16) rfl)) hA
  have hq2 := va_Zqof (hts _ q473) (hts _ (lw_all_tbl q145)) (hs _ (List.mem_of_getElem? (i := 17) rfl)) hA
  have hGG : ∀ w, w ≠ 0 → GG (p, l, e, s, D, cA, K, w, T11 w) := fun w hw => mkGG (g := (p, l, e, s, D, cA, K, w, T11 w)) ⟨hx1, ⟨_, hts⟩, hK⟩ hw (fun k => (hKs k).2) (fun k q hq => vk_R.of (hts _ ((hKs k).1 q hq).1) ((hKs k).1 q hq).2) ⟨hZ1, hZ2⟩ hM hst hq1 hq2
  have hS : ScA (p, l, e, s, D, cA, K, 0, T00) b L (fun j => (xs j).toInt) := by
    obtain ⟨scr, x1, x2, x3, x4, x5⟩ := hX
    refine ⟨hbl, hL, scr, x1, x2, x3, by omega, by rw [x4], fun j hj => ?_, hA b hbl⟩
    rw [x5 j hj]
    show some (Value.int (xs j)) = some (Value.int (Int32.ofInt (xs j).toInt))
    rw [Int32.ofInt_toInt]
  have hx : ∀ j, rg ((fun j => (xs j).toInt) j) := fun j => ⟨Int32.le_toInt (xs j), Int32.toInt_lt (xs j)⟩
  have two : 2 ≤ s.heap.size := by
    obtain ⟨v, -, -, -, c1, u1, -, -, -, u5, -, -⟩ := (hKs 0).2
    obtain ⟨c0, w1, -, -, -, w5, -, -⟩ := id ht0
    have a1 := (Array.getElem?_eq_some_iff.mp u1).1
    have a2 := (Array.getElem?_eq_some_iff.mp w1).1
    have ne : z0 ≠ v := fun q => by
      rw [q, u1] at w1
      have := Option.some.inj w1
      rw [this] at u5
      rw [u5] at w5
      revert w5
      decide +kernel
    omega
  have zl0 : z0 < s.heap.size := by
    obtain ⟨c0, w1, -⟩ := ht0
    exact (Array.getElem?_eq_some_iff.mp w1).1
  have zl1 : z1 < s.heap.size := by
    obtain ⟨c0, w1, -⟩ := ht1
    exact (Array.getElem?_eq_some_iff.mp w1).1
  have hZs : Zs (p, l, e, s, D, cA, K, 0, T00) (st0 s.heap.size z0 z1) := ⟨two, zl0, zl1, hz0, hz1, zA_of (g := (p, l, e, s, D, cA, K, 0, T00)) ht0, zA_of (g := (p, l, e, s, D, cA, K, 0, T00)) ht1⟩
  have u := law_go hroom hgf hGG hS hx hZs
  have cx : Cx (p, l, e, s, D, cA, K, 0, T00) mlaw 120 room_1 s m meth c := ⟨hgf, hb1, hr1, hlk, hml, hown, State.WarmedH.refl s, by decide, by decide, hnm, by
    have : c.exceptionTable = #[] := Array.isEmpty_iff.mp hex
    rw [this]; rfl⟩
  have hl := lv_entry (sV [vr (some b)]) (n := 4) (by rw [lW_len]; exact Nat.le_of_ble_eq_true rfl)
  rw [← lA_args] at hl
  rw [lg_entry_eq]
  obtain ⟨t, hstp, o, Lc, kk, nn, rc', rs', e1, e2, e3, e4, e5, e6, e7, e8⟩ := u room_1 s m #[Value.ref b] below meth c [] 0 0 _ cx hl (fun _ h => by cases h) (by decide) (by decide) T hT X
  have e6 : kk + rc' ≤ 973681 := e6
  have e7 : nn + rs' ≤ 6175061 := e7
  rcases e8 with ⟨v, rfl, σ, τ, -, -, -, hv⟩ | ⟨a, rfl, σ, τ, -, -, -, hv⟩
  · have hv : v = some (vi 1) := hv
    subst hv
    exact ⟨t, hstp, _, e1, e2, rfl, ⟨_, rfl⟩, e3, sbn_fresh e4 e5 (by omega) (by omega)⟩
  · exact hv.elim
set_option maxHeartbeats 4000000 in
theorem lw_walk (hroom : RoomOK) (l : Launch) (hfl : l.flags = flags0) (b : Addr) (xs : List Int32) : MetFree l x (headSpec (Jvm.Cond.code x code maxLocals ret :: tables_1) room_1) (lw_P b xs) (fun _ _ _ _ _ => True) lw_Q := by
  refine MetFree.of_bodyS (code := code) (maxLocals := maxLocals) (ret := ret) (by decide) ?_ ?_
  · intro args s m h hn
    obtain ⟨meth, c, h1, h2, h3, h4, h5, h6, -, -⟩ := Cond.code_spec hn (atoms_spec (ws := Jvm.Cond.code x code maxLocals ret :: tables_1) h _ List.mem_cons_self)
    exact ⟨meth, c, h1, h2, h3, h4, h5, h6⟩
  · intro p e s m args below meth c s₁ B hml0 hP _
    obtain ⟨rfl, hx, hbd, hgv⟩ := hP
    obtain ⟨scr, harrAt, hlist, hof, hsmall⟩ := hx
    obtain ⟨hcb, hkn, -, -⟩ := State.arrayAt?_spec harrAt
    have hown : s.vm.findClass R_law = some m.cls := findClass_of_methodNamed B.named
    have hts0 : ∀ c ∈ (Jvm.Cond.code x code maxLocals ret :: tables_1), c.before #[Value.ref b] s = true := atoms_spec (ws := Jvm.Cond.code x code maxLocals ret :: tables_1) B.pre
    have hts : ∀ w ∈ lw_tbl, w.before #[Value.ref b] s = true := k2_hts_sels lw_privs (fun w hw => hts0 w (List.mem_cons_of_mem _ hw)) lw_privs_ok
    obtain ⟨hnm, hex⟩ : meth.name = x.name ∧ c.exceptionTable.isEmpty = true := by
      obtain ⟨meth', c', hm', hc', -, -, -, -, h7, -⟩ := Cond.code_spec B.named (hts0 _ List.mem_cons_self)
      cases B.method.symm.trans hm'
      cases (Stand.of_body B).code.symm.trans hc'
      exact ⟨(name_of_methodNamed B.named B.method).1, h7⟩
    have hml : c.maxLocals = 4 := B.maxLocals_eq (hts0 _ List.mem_cons_self)
    have X₀ : Stand p l e room_1 s m #[Value.ref b] below meth c s₁ [] 0 0 := Stand.of_body B
    have hh0 : s₁.heap = s.heap := by rw [B.state]; rfl
    have hsz : scr.slots.size = xs.length := by rw [← Array.length_toList, hlist, List.length_map]
    have hval : ∀ j : Nat, j < xs.length → scr.slots[j]? = some (.int (xs.getD j 0)) := fun j hj => by
      rw [← Array.getElem?_toList, hlist]
      simp [hj]
    have hbl : b < s.heap.size := (Array.getElem?_eq_some_iff.mp hcb).1
    have hX : va_X b xs.length (fun j => xs.getD j 0) s s.heap := ⟨scr, hcb, hof, hkn, hsz, hval⟩
    have K : W p l e room_1 s m #[Value.ref b] below meth c s₁.heap [] 0 0 (lw_Z below #[Value.ref b] s) (entryFrame m ([Value.ref b] : List Value).toArray 4) := by
      rw [hh0]
      exact whole_start hroom l hfl hbd ⟨B.exec, B.bytes, B.returns, hml, hown, hts, hX, hbl, B.notSynchronized, hgv⟩ hnm hex
    obtain ⟨t, a1, o, b1, b2, b3⟩ := K s₁ rfl X₀
    exact ⟨t, o, a1, b1, b2, b3⟩
theorem lw_pre_spec {args : Array Value} {s : State} (h : (Jvm.Cond.and given_1 narrow_1).before args s = true) (hr : rest_1_c.before args s = true) : ∃ (b : Addr) (xs : List Int32), lw_P b xs args s := by
  have hs := flat_of_before _ h
  have hq := flat_of_before _ hr
  have hc : (Cond.count 1).before args s = true := hs _ (by decide +kernel)
  have harr : (Cond.arrayOf (.arg 0) .int).before args s = true := hs _ (by decide +kernel)
  have hle : (Cond.le (.length (.arg 0)) (.int 384)).before args s = true := hs _ (by decide +kernel)
  have hlen : (Cond.isInt (.length (.arg 0))).before args s = true := hq _ (by decide +kernel)
  have hall : (Cond.all (.arg 0) (.isInt (.elem (.arg 0) (.index 0)))).before args s = true := hq _ (by decide +kernel)
  obtain ⟨b, xs, hb, hx⟩ := State.ints_of_pre rfl harr hlen hall
  have hsm : xs.length < 2 ^ 31 := hx.choose_spec.2.2.2
  have hev : (Term.length (.arg 0)).eval args s none [] s = some (.int xs.length.toInt32) := hx.length_eval hb
  have hv := Cond.le_ints hev (show (Term.int 384).eval args s none [] s = some (.int 384) from rfl)
  have hd : xs.length.toInt32 ≤ 384 := by
    simpa [Cond.before, Cond.holds, hv] using hle
  have hN : xs.length ≤ 384 := (Int32.ofNat_le_ofNat hsm (by decide)).mp (show Int32.ofNat xs.length ≤ Int32.ofNat 384 from hd)
  exact ⟨b, xs, Cond.one_arg hc (show args[0]? = some (.ref b) from hb), hx, hN, h⟩
theorem lw_comes (hroom : RoomOK) (l : Launch) (hfl : l.flags = flags0) : Comes l x (Jvm.Cond.code x code maxLocals ret :: tables_1) room_1 (fun tb e args s => Calls_1 tb e args s ∧ rest_1 tb e args s ∧ Pre_1 tb e args s)
    (fun _ _ args s o t => lw_Q args s o t) := by
  intro p e ha hc hk s m args below hf hfit hheap happ hpre
  obtain ⟨b, xs, hP⟩ := lw_pre_spec hpre.2.2 hpre.2.1
  obtain ⟨k, o, h1, h2, h3, hQ⟩ := lw_walk hroom l hfl b xs p e ha hc hk s m args below hf ((Spec.applies_iff_loose hf).mp happ).1 hP trivial
  exact ⟨k, o, h1, h2, h3, hQ⟩
theorem lw_frame {s t : State} {o : Outcome} {args : Array Value} (h : Framed s o t [] 973681 6175061) :
    Framed s o t (fieldLocs frame_1_writes args s ++ arrayLocs frame_1_arrays args s ++ staticLocs frame_1_statics s) 973681 6175061 := h
theorem lw_limb (hroom : RoomOK) (L : Cond) (hL : ∀ (args : Array Value) (s t : State), L.after args s (.returned (some (.int 1))) t = true) :
    ArmFor flags0 classFile x code maxLocals ret World_1 tables_1 room_1 Calls_1 rest_1 Pre_1
      (fun tb e a s o t => postC L tb e a s o t ∧ Framed s o t (fieldLocs frame_1_writes a s ++ arrayLocs frame_1_arrays a s ++ staticLocs frame_1_statics s) 973681 6175061) := by
  intro l hfl _ _ p e ha hc hk s m args below hf hfit hheap happ hpre
  obtain ⟨k, o, h1, h2, h3, rfl, hF⟩ := lw_comes hroom l hfl p e ha hc hk s m args below hf hfit hheap happ hpre
  exact ⟨k, _, h1, h2, h3, hL args s _, lw_frame hF⟩
theorem i_vc_of (hroom : RoomOK) : Claimed_1_1 ∧ Claimed_1_2 := ⟨lw_limb hroom limb_1_1 (fun args s t => by simp [limb_1_1, Cond.after, Cond.holds, Cond.value]), lw_limb hroom limb_1_2 (fun args s t => Cond.after_iff.mpr (by
  first | (rw [show limb_1_2 = Cond.eq .result (.int 1) from rfl, Cond.eq_ints (x := 1) (y := 1) rfl rfl]; simp; done) | (simp [limb_1_2, Cond.value, Term.eval]; done)))⟩
