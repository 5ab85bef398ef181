set_option maxRecDepth 100000
/-! LISTS, by the heap: arrays of objects, their copy, the JDK's helpers -/
abbrev qA (g : GE) (n : Nat) (f : Nat → Option Nat) : va_E := .inl (ga g 4, n, .inr (.inr (.inr (.inr f))))
/-- an object that a list may hold -/
def AnyO (g : GE) (x : Nat) (H : Heap) : Prop := ∃ (cell : Cell) (ci : Nat) (q : vw_C), H[x]? = some cell ∧ cell.vm.isStatics = false ∧ vCl[ci]? = some q ∧ (gs g).vm.findClass q.1 = some cell.cls ∧ Cond.castable q.1 "java/lang/Object" ∈ lw_tbl
section ListU
variable {g : GE} {M N : Mt} {d d' pc pc' tgt : Nat} {off : Int} {l l' : List (Nat × LV)} {st st' : List LV} {H H' : Heap} {rc rs : Nat} {Q : UQ} {R : Room} {s : State} {m : MethodId} {meth : Method} {c : Code}
theorem Cx.cast (C : Cx g M d R s m meth c) {a b : String} (hw : Cond.castable a b ∈ lw_tbl) (args : Array Value) : (Cond.castable a b).before args s = true := (va_Nw.warmC C.warm (C.nw hw rfl)).use rfl
theorem AnyO.kept {x : Nat} (h : AnyO g x H) (e : H'[x]? = H[x]?) : AnyO g x H' := by
  obtain ⟨cell, ci, q, h1, h2⟩ := h
  exact ⟨cell, ci, q, by rw [e]; exact h1, h2⟩
theorem AnyO.any (C : Cx g M d R s m meth c) {x : Nat} (h : AnyO g x H) : va_Any "java/lang/Object" s H x := by
  obtain ⟨cell, ci, q, h1, h2, h3, h4, h5⟩ := h
  obtain ⟨c0, t1, f1, f2, f3⟩ := Cond.castable_spec (C.cast h5 #[])
  have e1 : c0 = cell.cls := by
    have := C.warm.alike.findClass q.1
    rw [this] at f1
    exact Option.some.inj (f1.symm.trans h4)
  subst e1
  obtain ⟨kC, hkC, -⟩ := Vm.findClass_spec f1
  exact ⟨cell, h1, h2, ⟨kC, hkC⟩, fun comp hc => by cases f2.symm.trans hc; exact f3⟩
theorem U.aastO {a x n : Nat} {f : Nat → Option Nat} {i : Int} (hat : va_at (gD g) vCl (a, qA g n f) H) (hx : AnyO g x H) (hi : ib i n) (hn : n < 2 ^ 24) (hB : (gs g).heap.size ≤ a) (hd : d1 M.2.1 pc .aastore 1 = true)
    (kk : ∀ H', Pt1 g a (qA g n (up f i.toNat (some x))) H H' → U g M d (pc + 1) l st H' rc rs Q) : U g M d pc l (vr (some x) :: vi i :: vr (some a) :: st) H rc rs Q := by
  intro R s m args below meth c locs cells slots ls C0 hl0 hlo hc hs
  have hri := ib_rg hi hn
  have hlt : i.toNat < n := by have := hi.1; have := hi.2; omega
  obtain ⟨cellV, g1, g2, ⟨kC, hkC⟩, hasg⟩ := hx.any C0
  obtain ⟨kA, comp, k1, k2, k3, -⟩ := (C0.hK.2 4 _ rfl).2
  obtain ⟨kE, hkE, -⟩ := Vm.findClass_spec k3
  refine W.aast (j := Int32.ofInt i) C0.hx C0.hb hat (fun q h => by cases h) (fun h => by cases h) k1 k2 rfl hkE ⟨by rw [show ((0 : Int32)) = Int32.ofInt 0 from rfl, rLt hri rg0]; have := hi.1; omega, by show _ < (arrV _ _ _).slots.size; rw [arrV_size, clamp hri hi.1]; exact hlt⟩ g1 (fun q h => by rw [h] at g2; cases g2) hkC (hasg _ k3) rfl rfl (of_decide_eq_true hd) fun H1 e z oq => ?_
  refine kk H1 ⟨?_, z, oq⟩ R s m args below meth c _ cells slots ls C0 hl0 (hlo.put hB) hc hs
  show H1[a]? = some (vp_cell _ _)
  rw [e, vp_cell_q, vp_cell_q, arrV_store, clamp hri hi.1]
  congr 2
  funext q
  by_cases hq : q = i.toNat
  · subst hq; simp [updV, up, va_rf]
  · simp [updV, up, hq]
theorem U.aaldO {a n : Nat} {f : Nat → Option Nat} {i : Int} (hat : va_at (gD g) vCl (a, qA g n f) H) (hi : ib i n) (hn : n < 2 ^ 24) (hd : d1 M.2.1 pc .aaload 1 = true) (kk : U g M d (pc + 1) l (vr (f i.toNat) :: st) H rc rs Q) : U g M d pc l (vi i :: vr (some a) :: st) H rc rs Q := by
  intro R s m args below meth c locs cells slots ls C0 hl0 hlo hc hs
  have hri := ib_rg hi hn
  refine va_aldq (tys := tys_ g) C0.hx C0.hb C0.hK (vP1 hat) 0 4 rfl rfl (in_vp hri hi) (of_decide_eq_true hd) ?_
  rw [clamp hri hi.1]
  exact kk R s m args below meth c locs cells slots ls C0 hl0 hlo hc hs
theorem U.anewO {i : Nat} {n : Int} (hcl : Cond.classLink M.1.cls i "java/lang/Object" ∈ lw_all) (hr : 0 ≤ n ∧ n < 16777216) (hrc : 1 ≤ rc) (hrs : n.toNat ≤ rs) (hd : d1 M.2.1 pc (.anewarray i) 3 = true)
    (kk : ∀ H', va_at (gD g) vCl (H.size, qA g n.toNat (fun _ => none)) H' → H'.size = H.size + 1 → (∀ q, q < H.size → H'[q]? = H[q]?) → U g M d (pc + 3) l (vr (some H.size) :: st) H' (rc - 1) (rs - n.toNat) Q) : U g M d pc l (vi n :: st) H rc rs Q := by
  intro R s m args below meth c locs cells slots ls C0 hl0 hlo hc hs
  have hrn : rg n := ⟨by omega, by omega⟩
  have hov' : va_AO "java/lang/Object" s := by
    obtain ⟨A0, hA0⟩ := C0.1.2.1
    exact va_AO.moved C0.warm.alike (va_AO.of (hA0 _ q644))
  have hcl0 := clamp hrn hr.1
  refine W.anew C0.hx C0.hb C0.hown (C0.word hcl args) (va_AO.use hov') rfl (of_decide_eq_true hd) rfl (by rw [show ((0 : Int32)) = Int32.ofInt 0 from rfl, rLt hrn rg0]; omega) (by rw [hcl0]; omega) (by omega) (by rw [hcl0]; omega) fun cA kA comp f1 f2 f3 f4 => ?_
  rw [hcl0]
  have e := ga_RA (k := 4) C0.hK rfl f1
  subst e
  generalize hH1 : H.push ({ cls := ga g 4, slots := Array.replicate n.toNat .null, vm := .none } : Cell) = H1
  have z1 : H1.size = H.size + 1 := by rw [← hH1, Array.size_push]
  have e1 : H1[H.size]? = some (arrV (ga g 4) n.toNat (fun _ => .null)) := by rw [← hH1, Array.getElem?_push_size, ← arrV_new]
  have o1 : ∀ q : Nat, q < H.size → H1[q]? = H[q]? := fun q hq => by rw [← hH1, Array.getElem?_push, if_neg (Nat.ne_of_lt hq)]
  exact kk H1 e1 z1 o1 R s m args below meth c locs (cells + 1) (slots + n.toNat) ls C0 hl0 hlo (by omega) (by omega)
theorem U.copyq {i a a0 n0 n1 : Nat} {f f1 : Nat → Option Nat} {n : Int} (hlink : Cond.methodLink M.1.cls i arraycopyName ∈ lw_all) (hat0 : va_at (gD g) vCl (a0, qA g n0 f) H) (hat1 : va_at (gD g) vCl (a, qA g n1 f1) H) (hB : (gs g).heap.size ≤ a) (hel : ∀ (j x : Nat), f j = some x → AnyO g x H) (h3 : 0 ≤ n) (h4 : n ≤ n0) (h5 : n ≤ n1) (hn0 : n0 < 2 ^ 24) (hn1 : n1 < 2 ^ 24) (hd1 : 1 ≤ d) (hw : Nat.ble (2 * st.length + 30) 64 = true) (hd : d1 M.2.1 pc (.invokestatic i) 3 = true)
    (kk : ∀ H', Pt1 g a (qA g n1 (va_cpy f f1 0 0 n.toNat)) H H' → U g M d (pc + 3) l st H' rc rs Q) : U g M d pc l (vi n :: vi 0 :: vr (some a) :: vi 0 :: vr (some a0) :: st) H rc rs Q := by
  intro R s m args below meth c locs cells slots ls C0 hl0 hlo hc hs T hT X
  have rn : rg n := ⟨by omega, by omega⟩
  have z0 : ((0 : Int32)) = Int32.ofInt 0 := rfl
  have hc0 : H[a0]? = some (vp_cell (ga g 4) (n0, .inr (.inr (.inr (.inr f))))) := hat0
  have hc1 : H[a]? = some (vp_cell (ga g 4) (n1, .inr (.inr (.inr (.inr f1))))) := hat1
  obtain ⟨-, k0, hk0, cm0, hkk0⟩ := (C0.hK.2 4 _ rfl).1 n0 (fun j => va_rf (f j))
  obtain ⟨-, k1, hk1, cm1, hkk1⟩ := (C0.hK.2 4 _ rfl).1 n1 (fun j => va_rf (f1 j))
  have e0 : (Int32.ofInt 0).toNatClampNeg = 0 := clamp rg0 (by omega)
  have en := clamp rn h3
  have hw' := Nat.le_of_ble_eq_true hw
  have hcs := cat_sum st
  have hfr := C0.frames
  have hlc := C0.locals
  have hnf : nativeFrameWords "java/lang/System" "arraycopy" 5 ≤ 19 := by decide +kernel
  obtain ⟨vm', X', step⟩ := X.arraycopy C0.hx C0.hown (C0.word hlink args) (C0.word q326 args) (C0.word q325 args) (C0.word q139 args) (src := a0) (dst := a) (cs := vp_cell (ga g 4) (n0, .inr (.inr (.inr (.inr f))))) (cd := vp_cell (ga g 4) (n1, .inr (.inr (.inr (.inr f1))))) (srcPos := Int32.ofInt 0) (destPos := Int32.ofInt 0) (n := Int32.ofInt n) (by rw [hT]; exact hc0) (by rw [hT]; exact hc1)
    (fun _ h => by cases h) (fun _ h => by cases h) (fun h => by cases h) (fun h => by cases h) hk0 hk1 hkk0 hkk1 rfl (by decide) (by decide) (by rw [z0, rLt rn rg0]; omega)
    (by rw [rg_to rg0, rg_to rn]; show ¬ _ > ((arrV (ga g 4) n0 (fun j => va_rf (f j))).slots.size : Int); rw [arrV_size]; omega)
    (by rw [rg_to rg0, rg_to rn]; show ¬ _ > ((arrV (ga g 4) n1 (fun j => va_rf (f1 j))).slots.size : Int); rw [arrV_size]; omega)
    (fun vm₁ hal j hj => by
      rw [en] at hj
      have e : (vp_cell (ga g 4) (n0, .inr (.inr (.inr (.inr f))))).slots.getD ((Int32.ofInt 0).toNatClampNeg + j) .null = va_rf (f j) := by
        rw [e0, Nat.zero_add]
        show (arrV (ga g 4) n0 (fun j => va_rf (f j))).slots.getD _ _ = _
        rw [Array.getD_eq_getD_getElem?, arrV_read _ _ (by omega)]
        rfl
      rw [e]
      cases hy : f j with
      | none => exact ⟨rfl, trivial⟩
      | some y =>
        obtain ⟨cellV, g1, g2, ⟨kC, hkC⟩, hasg⟩ := (hel j y hy).any C0
        obtain ⟨kA, comp, r1, r2, r3, -⟩ := (C0.hK.2 4 _ rfl).2
        cases hk1.symm.trans r1
        cases hkk1.symm.trans r2
        obtain ⟨kE, hkE, -⟩ := Vm.findClass_spec r3
        obtain ⟨kC', hkC', -⟩ := hal.2.2 _ _ hkC
        obtain ⟨kE', hkE', -⟩ := hal.2.2 _ _ hkE
        refine ⟨rfl, cellV, (show T.heap[y]? = some cellV by rw [hT]; exact g1), (fun q h => by rw [h] at g2; cases g2), ⟨kC', hkC'⟩, ⟨kE', hkE'⟩, ?_⟩
        show vm₁.assignable _ _ = true
        rw [hal.assignable]
        exact hasg _ r3)
    (g := F0 m pc ls (.int (Int32.ofInt n) :: .int (Int32.ofInt 0) :: .ref a :: .int (Int32.ofInt 0) :: .ref a0 :: sV st)) rfl (by show ls.size = _; rw [hl0.1, C0.hml]) (rest := sV st) rfl (by rw [C0.hb]; exact of_decide_eq_true hd) (by omega) (by show 2 * 0 + ((sV st).map fun v => v.category).sum + _ ≤ R.locals; omega)
  have e1 : copied (vp_cell (ga g 4) (n0, .inr (.inr (.inr (.inr f))))) (vp_cell (ga g 4) (n1, .inr (.inr (.inr (.inr f1))))) (Int32.ofInt 0) (Int32.ofInt 0) (Int32.ofInt n) = vp_cell (ga g 4) (n1, .inr (.inr (.inr (.inr (va_cpy f f1 0 0 n.toNat))))) := by
    have h := va_copied (n0 := n0) (n1 := n1) (sp := 0) (dp := 0) (n := n.toNat) (fun z => va_rf z) (ga g 4) (ga g 4) f f1 (by omega)
    rw [vp_cell_q, vp_cell_q, vp_cell_q]
    rw [← en] at h ⊢
    exact h
  rw [e1] at X' step
  have hl : a < H.size := (Array.getElem?_eq_some_iff.mp hc1).1
  have hheap : ((T.setVm vm').setCell a (vp_cell (ga g 4) (n1, .inr (.inr (.inr (.inr (va_cpy f f1 0 0 n.toNat))))))).heap = H.setIfInBounds a (vp_cell (ga g 4) (n1, .inr (.inr (.inr (.inr (va_cpy f f1 0 0 n.toNat)))))) := by rw [← hT]; rfl
  have oq : ∀ q : Nat, q ≠ a → (H.setIfInBounds a (vp_cell (ga g 4) (n1, .inr (.inr (.inr (.inr (va_cpy f f1 0 0 n.toNat)))))))[q]? = H[q]? := fun q hq => by simp [Array.getElem?_setIfInBounds, Ne.symm hq]
  obtain ⟨t, a1, b1⟩ := kk _ ⟨show (H.setIfInBounds a _)[a]? = some _ by simp [Array.getElem?_setIfInBounds, hl], by simp, oq⟩ R s m args below meth c _ cells slots ls C0 hl0 (fun q hq => by
      rcases List.mem_append.mp hq with h | h
      · exact hlo q h
      · obtain ⟨z, -, hz⟩ := List.mem_map.mp h
        rw [← hz]; exact hB) hc hs _ hheap X'
  exact ⟨t, step t a1, b1⟩
theorem U.ldcM {i mi : Nat} {C : String} (hl : Cond.classLink M.1.cls i C ∈ lw_all) (hM : va_Mi C mi (gs g)) (hd : d1 M.2.1 pc (.ldc i) 2 = true) (kk : U g M d (pc + 2) l (vr (some mi) :: st) H rc rs Q) : U g M d pc l st H rc rs Q :=
  fun R s m args below meth c locs cells slots ls C hl0 hlo hc hs => va_ldcM C.hx C.hb C.hown (C.word hl args) (hM.moved C.warm.alike) (of_decide_eq_true hd) (kk R s m args below meth c locs cells slots ls C hl0 hlo hc hs)
theorem U.dupx1 {x y : Option Nat} (hd : d1 M.2.1 pc .dup_x1 1 = true) (kk : U g M d (pc + 1) l (vr x :: vr y :: vr x :: st) H rc rs Q) : U g M d pc l (vr x :: vr y :: st) H rc rs Q :=
  fun R s m args below meth c locs cells slots ls C hl0 hlo hc hs => lv_dup_x1 C.hx C.hb (of_decide_eq_true hd) (vrf_cat x) (vrf_cat y) (kk R s m args below meth c locs cells slots ls C hl0 hlo hc hs)
theorem Cx.dcl (C : Cx g M d R s m meth c) (args : Array Value) : (Cond.declares ⟨"java/lang/Object", "getClass", "()Ljava/lang/Class;"⟩).before args s = true := by
  obtain ⟨A0, hA0⟩ := C.1.2.1
  exact va_Dc.use (va_Dc.moved C.warm.alike (va_Dc.of (hA0 _ q2053)))
theorem U.getC {i a n mi : Nat} {f : Nat → Option Nat} (hl : Cond.methodLink M.1.cls i ⟨"java/lang/Object", "getClass", "()Ljava/lang/Class;"⟩ ∈ lw_all) (hM : va_Mi "[Ljava/lang/Object;" mi (gs g)) (hat : va_at (gD g) vCl (a, qA g n f) H) (hd1 : 1 ≤ d) (hw : Nat.ble (2 * st.length + 14) 64 = true) (hd : d1 M.2.1 pc (.invokevirtual i) 3 = true) (kk : U g M d (pc + 3) l (vr (some mi) :: st) H rc rs Q) : U g M d pc l (vr (some a) :: st) H rc rs Q := by
  intro R s m args below meth c locs cells slots ls C0 hl0 hlo hc hs
  have hw' := Nat.le_of_ble_eq_true hw
  have hcs := cat_sum st
  have hfr := C0.frames
  have hlc := C0.locals
  exact va_getC C0.hx C0.hb (by rw [hl0.1, C0.hml]) C0.hown (C0.word hl args) (C0.dcl args) (C0.word q2052 args) (C0.word q620 args) (C0.word q639 args) (hM.moved C0.warm.alike) ⟨_, hat, rfl, va_nmO (C0.hK.2 4 _ rfl).2 (by decide +kernel)⟩ (by omega) (by show ((sV st).map fun v => v.category).sum + 14 ≤ R.locals; omega) (of_decide_eq_true hd) (kk R s m args below meth c locs cells slots ls C0 hl0 hlo hc hs)
/-! the JDK's helpers -/
theorem U.jmax {x y : Int} (hx : rg x) (hy : rg y) (hq : Q.1 (some (vi (max x y))) H rc rs) : U g mJ11_max d 0 [(0, vi x), (1, vi y)] [] H rc rs Q := by
  refine U.b (l' := [(0, vi x), (1, vi y)]) (st' := [vi y, vi x]) (pc' := 2) (is := [(.iload_n 0, vi 0, 1), (.iload_n 1, vi 0, 2)]) (by decide +kernel) rfl rfl ?_
  refine U.icmp_lt (off := 7) (tgt := 9) hx hy (by decide +kernel) (fun c => ?_) (fun c => ?_)
  · refine U.b (l' := [(0, vi x), (1, vi y)]) (st' := [vi y]) (pc' := 10) (is := [(.iload_n 1, vi 0, 10)]) (by decide +kernel) rfl rfl ?_
    exact U.iret rfl (by decide +kernel) (by rw [show max x y = y by omega] at hq; exact hq)
  · refine U.b (l' := [(0, vi x), (1, vi y)]) (st' := [vi x]) (pc' := 10) (is := [(.iload_n 0, vi 0, 6), (.goto 4, vi 0, 10)]) (by decide +kernel) rfl rfl ?_
    exact U.iret rfl (by decide +kernel) (by rw [show max x y = x by omega] at hq; exact hq)
theorem U.jmin {x y : Int} (hx : rg x) (hy : rg y) (hq : Q.1 (some (vi (min x y))) H rc rs) : U g mJ11_min d 0 [(0, vi x), (1, vi y)] [] H rc rs Q := by
  refine U.b (l' := [(0, vi x), (1, vi y)]) (st' := [vi y, vi x]) (pc' := 2) (is := [(.iload_n 0, vi 0, 1), (.iload_n 1, vi 0, 2)]) (by decide +kernel) rfl rfl ?_
  refine U.icmp_gt (off := 7) (tgt := 9) hx hy (by decide +kernel) (fun c => ?_) (fun c => ?_)
  · refine U.b (l' := [(0, vi x), (1, vi y)]) (st' := [vi y]) (pc' := 10) (is := [(.iload_n 1, vi 0, 10)]) (by decide +kernel) rfl rfl ?_
    exact U.iret rfl (by decide +kernel) (by rw [show min x y = y by omega] at hq; exact hq)
  · refine U.b (l' := [(0, vi x), (1, vi y)]) (st' := [vi x]) (pc' := 10) (is := [(.iload_n 0, vi 0, 6), (.goto 4, vi 0, 10)]) (by decide +kernel) rfl rfl ?_
    exact U.iret rfl (by decide +kernel) (by rw [show min x y = x by omega] at hq; exact hq)
end ListU
