set_option maxRecDepth 100000
/-! ROWS: size, cells; a byte more; the whole row of another -/
theorem nI_ofI (n : Nat) : nI n = Int32.ofInt (n : Int) := Int32.ofInt_eq_ofNat.symm
def sWu (σ : ST) (a : Nat) (w : List UInt8) : ST := (sc σ, sI σ, sJ σ, sR σ, up (sW σ) a w, sA σ, sN σ, sB σ, sE σ, sF σ, sH σ, sZ σ, sC σ, sS σ)
/-- a row grows: a new array of c cells -/
def sWg (σ : ST) (a : Nat) (w : List UInt8) (c : Nat) : ST := (sc σ, sI σ, sJ σ, sR σ, up (sW σ) a w, sA σ, up (sN σ) a c, sB σ, sE σ, sF σ, up (sH σ) a (sZ σ), sZ σ + 1, sC σ + 1, sS σ + c)
/-- a new row, without cells -/
def nW (σ : ST) : ST := (up (sc σ) (sZ σ) 4, sI σ, sJ σ, sR σ, up (sW σ) (sZ σ) [], sA σ, up (sN σ) (sZ σ) 0, sB σ, sE σ, sF σ, up (sH σ) (sZ σ) (sH σ 0), sZ σ + 1, sC σ + 1, sS σ + 2)
section RowR
variable {g : GE} {M N : Mt} {d d' pc pc' tgt : Nat} {off : Int} {l l' : List (Nat × LV)} {st st' : List LV} {σ σ' : ST} {τ : TT} {Q : VQ} {X Y : Type} {F A B : Option X} {K : X → Prop} {P : Prop} {H H' : Heap} {own : Nat → Nat}
theorem Rep.row {a : Nat} (h : Rep g σ τ H) (ha : sc σ a = 4) : va_at (gD g) vCl (a, .inr (3, [.ref (sH σ a), .int (nI (sW σ a).length)])) H ∧ gB g ≤ a ∧ (sW σ a).length ≤ sN σ a ∧ sN σ a < 2 ^ 24 ∧ (∃ f : Nat → UInt8, bA g (sH σ a) (sN σ a) (fun j => sbW (f j)) H ∧ ∀ (j : Nat) (b : UInt8), (sW σ a)[j]? = some b → f j = b) ∧ ((sH σ a < gB g ∧ sN σ a = 0) ∨ (gB g ≤ sH σ a ∧ sH σ a ≠ a)) := by
  obtain ⟨⟨own, hC, -⟩, -⟩ := h
  obtain ⟨c1, c2, c3⟩ := hC a (by omega)
  unfold cellC at c3
  rw [if_pos ha] at c3
  refine ⟨c3.1, c1, c3.2.1, c3.2.2.1, c3.2.2.2.1, ?_⟩
  rcases c3.2.2.2.2 with q | q
  · exact Or.inl q
  · exact Or.inr ⟨q.1, fun e => by rw [e] at q; omega⟩
theorem sm_rsz {i a : Nat} (ha : sc σ a = 4) (hl : Cond.fieldLink M.1.cls i "WireSchemas$Row" "size" "I" ∈ lw_all) (hd : d1 M.2.1 pc (.getfield i) 3 = true) (kk : Sm (V g M d (pc + 3) l (vi ((sW σ a).length : Nat) :: st) σ τ Q) F K) : Sm (V g M d pc l (vr (some a) :: st) σ τ Q) F K :=
  fun hx H hR => U.gf (k := 1) cd3 (hR.row ha).1 rfl hl (by rw [nI_ofI]; rfl) hd (kk hx H hR)
theorem sm_rszN {i a : Nat} {host : String} (ha : sc σ a = 4) (hl : Cond.fieldLinkNest M.1.cls i "WireSchemas$Row" "size" "I" host ∈ lw_tbl) (hd : d1 M.2.1 pc (.getfield i) 3 = true) (kk : Sm (V g M d (pc + 3) l (vi ((sW σ a).length : Nat) :: st) σ τ Q) F K) : Sm (V g M d pc l (vr (some a) :: st) σ τ Q) F K :=
  fun hx H hR => U.gfN (k := 1) cd3 (hR.row ha).1 rfl hl (by rw [nI_ofI]; rfl) hd (kk hx H hR)
theorem sm_rcl {i a : Nat} (ha : sc σ a = 4) (hl : Cond.fieldLink M.1.cls i "WireSchemas$Row" "cells" "[B" ∈ lw_all) (hd : d1 M.2.1 pc (.getfield i) 3 = true) (kk : Sm (V g M d (pc + 3) l (vr (some (sH σ a)) :: st) σ τ Q) F K) : Sm (V g M d pc l (vr (some a) :: st) σ τ Q) F K :=
  fun hx H hR => U.gf (k := 0) cd3 (hR.row ha).1 rfl hl rfl hd (kk hx H hR)
theorem sm_rclN {i a : Nat} {host : String} (ha : sc σ a = 4) (hl : Cond.fieldLinkNest M.1.cls i "WireSchemas$Row" "cells" "[B" host ∈ lw_tbl) (hd : d1 M.2.1 pc (.getfield i) 3 = true) (kk : Sm (V g M d (pc + 3) l (vr (some (sH σ a)) :: st) σ τ Q) F K) : Sm (V g M d pc l (vr (some a) :: st) σ τ Q) F K :=
  fun hx H hR => U.gfN (k := 0) cd3 (hR.row ha).1 rfl hl rfl hd (kk hx H hR)
theorem zA.T {ty : FieldType} {b : Nat} {f : Nat → Value} {s : State} (h : zA g ty b H) (hv : (gs g).vm.Alike s.vm) : va_T ty b 0 f (fun _ => False) s H := by
  obtain ⟨cell, h1, h2, h3, h4⟩ := h
  exact va_T.moved hv ⟨cell, h1, h2, h3, Nat.zero_le _, h4, fun j hj => absurd hj (Nat.not_lt_zero j), fun e => e⟩
theorem U.alenZ {rc rs : Nat} {Q : UQ} {ty : FieldType} {b : Nat} (h : zA g ty b H) (hd : d1 M.2.1 pc .arraylength 1 = true) (kk : U g M d (pc + 1) l (vi ((0 : Nat) : Int) :: st) H rc rs Q) : U g M d pc l (vr (some b) :: st) H rc rs Q := by
  intro R s m args below meth c locs cells slots ls C0 hl0 hlo hc hs
  obtain ⟨cell, h1, h2, h3, h4, h5, h6, h7⟩ := h.T (f := fun _ => .null) C0.warm.alike
  have hk := kk R s m args below meth c locs cells slots ls C0 hl0 hlo hc hs
  exact W.alen (n := Int32.ofNat 0) C0.hx C0.hb h1 h2 h5 rfl rfl (of_decide_eq_true hd) hk
theorem U.alenB {rc rs : Nat} {Q : UQ} {b n : Nat} {f : Nat → Int32} (h : bA g b n f H) (hd : d1 M.2.1 pc .arraylength 1 = true) (kk : U g M d (pc + 1) l (vi (n : Nat) :: st) H rc rs Q) : U g M d pc l (vr (some b) :: st) H rc rs Q := by
  rcases h with q | q
  · exact U.alen (t := 0) q.2 rfl hd kk
  · obtain ⟨rfl, q⟩ := q
    exact U.alenZ q hd kk
theorem U.alenO {rc rs : Nat} {Q : UQ} {b n : Nat} {f : Nat → Option Nat} (h : oA g b n f H) (hd : d1 M.2.1 pc .arraylength 1 = true) (kk : U g M d (pc + 1) l (vi (n : Nat) :: st) H rc rs Q) : U g M d pc l (vr (some b) :: st) H rc rs Q := by
  rcases h with q | q
  · exact U.alen (t := 4) q.2 rfl hd kk
  · obtain ⟨rfl, q⟩ := q
    exact U.alenZ q hd kk
theorem sm_ral {a : Nat} (ha : sc σ a = 4) (hd : d1 M.2.1 pc .arraylength 1 = true) (kk : Sm (V g M d (pc + 1) l (vi (sN σ a : Nat) :: st) σ τ Q) F K) : Sm (V g M d pc l (vr (some (sH σ a)) :: st) σ τ Q) F K := by
  intro hx H hR
  obtain ⟨-, -, -, -, ⟨f, hf, -⟩, -⟩ := hR.row ha
  exact U.alenB hf hd (kk hx H hR)
/-- a byte of a row, by its number -/
def rB (σ : ST) (a : Nat) (i : Int) : UInt8 := (sW σ a).getD i.toNat 0
theorem sm_rbl {a : Nat} {i : Int} (ha : sc σ a = 4) (hi : ib i (sW σ a).length) (hd : d1 M.2.1 pc .baload 1 = true) (kk : Sm (V g M d (pc + 1) l (vi (sbI (rB σ a i)) :: st) σ τ Q) F K) : Sm (V g M d pc l (vi i :: vr (some (sH σ a)) :: st) σ τ Q) F K := by
  intro hx H hR
  obtain ⟨-, -, h3, h4, ⟨f, hf, hb⟩, -⟩ := hR.row ha
  have hlt : i.toNat < (sW σ a).length := by have := hi.1; have := hi.2; omega
  have hfi : f i.toNat = rB σ a i := by
    rw [hb i.toNat _ (List.getElem?_eq_getElem hlt)]
    unfold rB
    rw [List.getD_eq_getElem?_getD, List.getElem?_eq_getElem hlt]
    rfl
  exact U.bald (ib_rg (n := sN σ a) ⟨hi.1, by have := hi.2; omega⟩ h4) (by rw [sbI_W, ← hfi]) (hf.own (by omega)) ⟨hi.1, by have := hi.2; omega⟩ hd (kk hx H hR)
/-- the copy of bytes -/
theorem U.copyb {rc rs : Nat} {Q : UQ} {i a a0 n0 n1 : Nat} {f f1 : Nat → Int32} {sp dp n : Int} (hlink : Cond.methodLink M.1.cls i arraycopyName ∈ lw_all) (hat0 : va_at (gD g) vCl (a0, .inl (ga g 0, n0, .inl f)) H) (hat1 : va_at (gD g) vCl (a, .inl (ga g 0, n1, .inl f1)) H) (hB : (gs g).heap.size ≤ a) (hfit : ∀ j, (f j).toInt8.toInt32 = f j) (h1 : 0 ≤ sp) (h2 : 0 ≤ dp) (h3 : 0 ≤ n) (h4 : sp + n ≤ n0) (h5 : dp + n ≤ n1) (hn0 : n0 < 2 ^ 24) (hn1 : n1 < 2 ^ 24) (hd1 : 1 ≤ d) (hw : Nat.ble (2 * st.length + 30) 64 = true) (hd : d1 M.2.1 pc (.invokestatic i) 3 = true)
    (kk : ∀ H', Pt1 g a (.inl (ga g 0, n1, .inl (va_cpy f f1 sp.toNat dp.toNat n.toNat))) H H' → U g M d (pc + 3) l st H' rc rs Q) : U g M d pc l (vi n :: vi dp :: vr (some a) :: vi sp :: vr (some a0) :: st) H rc rs Q := by
  intro R s m args below meth c locs cells slots ls C0 hl0 hlo hc hs T hT X
  have rsp : rg sp := ⟨by omega, by omega⟩
  have rdp : rg dp := ⟨by omega, by omega⟩
  have rn : rg n := ⟨by omega, by omega⟩
  have z0 : ((0 : Int32)) = Int32.ofInt 0 := rfl
  have hc0 : H[a0]? = some (vp_cell (ga g 0) (n0, .inl f)) := hat0
  have hc1 : H[a]? = some (vp_cell (ga g 0) (n1, .inl f1)) := hat1
  obtain ⟨-, k0, hk0, cm0, hkk0⟩ := (C0.hK.2 0 _ rfl).1 n0 (fun j => .int (f j))
  obtain ⟨-, k1, hk1, cm1, hkk1⟩ := (C0.hK.2 0 _ rfl).1 n1 (fun j => .int (f1 j))
  have esp := clamp rsp h1
  have edp := clamp rdp h2
  have en := clamp rn h3
  have hw' := Nat.le_of_ble_eq_true hw
  have hcs := cat_sum st
  have hfr := C0.frames
  have hlc := C0.locals
  have hnf : nativeFrameWords "java/lang/System" "arraycopy" 5 ≤ 19 := by decide +kernel
  obtain ⟨vm', X', step⟩ := X.arraycopy C0.hx C0.hown (C0.word hlink args) (C0.word q326 args) (C0.word q325 args) (C0.word q139 args) (src := a0) (dst := a) (cs := vp_cell (ga g 0) (n0, .inl f)) (cd := vp_cell (ga g 0) (n1, .inl f1)) (srcPos := Int32.ofInt sp) (destPos := Int32.ofInt dp) (n := Int32.ofInt n) (by rw [hT]; exact hc0) (by rw [hT]; exact hc1)
    (fun _ h => by cases h) (fun _ h => by cases h) (fun h => by cases h) (fun h => by cases h) hk0 hk1 hkk0 hkk1 (by simp [refKind]) (by rw [z0, rLt rsp rg0]; omega) (by rw [z0, rLt rdp rg0]; omega) (by rw [z0, rLt rn rg0]; omega)
    (by rw [rg_to rsp, rg_to rn]; show ¬ _ > ((arrV (ga g 0) n0 (fun j => .int (f j))).slots.size : Int); rw [arrV_size]; omega)
    (by rw [rg_to rdp, rg_to rn]; show ¬ _ > ((arrV (ga g 0) n1 (fun j => .int (f1 j))).slots.size : Int); rw [arrV_size]; omega)
    (fun vm₁ _ j hj => by
      rw [en] at hj
      have e : (vp_cell (ga g 0) (n0, .inl f)).slots.getD ((Int32.ofInt sp).toNatClampNeg + j) .null = .int (f (sp.toNat + j)) := by
        rw [esp]
        show (arrV (ga g 0) n0 (fun j => .int (f j))).slots.getD _ _ = _
        rw [Array.getD_eq_getD_getElem?, arrV_read _ _ (by omega)]
        rfl
      refine ⟨?_, ?_⟩
      · rw [e]
        have := hfit (sp.toNat + j)
        rw [← this]
        generalize (f (sp.toNat + j)).toInt8 = b
        revert b
        show ∀ b : Int8, fits .byte (.int b.toInt32) = true
        intro b
        simp [fits]
        have h1 := Int8.le_toInt b
        have h2 := Int8.toInt_lt b
        constructor <;> simp [Int32.le_iff_toInt_le] <;> omega
      · rw [e]
        exact trivial)
    (g := F0 m pc ls (.int (Int32.ofInt n) :: .int (Int32.ofInt dp) :: .ref a :: .int (Int32.ofInt sp) :: .ref a0 :: sV st)) rfl (by show ls.size = _; rw [hl0.1, C0.hml]) (rest := sV st) rfl (by rw [C0.hb]; exact of_decide_eq_true hd) (by omega) (by show 2 * 0 + ((sV st).map fun v => v.category).sum + _ ≤ R.locals; omega)
  have e1 : copied (vp_cell (ga g 0) (n0, .inl f)) (vp_cell (ga g 0) (n1, .inl f1)) (Int32.ofInt sp) (Int32.ofInt dp) (Int32.ofInt n) = vp_cell (ga g 0) (n1, .inl (va_cpy f f1 sp.toNat dp.toNat n.toNat)) := by
    have h := va_copied (n0 := n0) (n1 := n1) (sp := sp.toNat) (dp := dp.toNat) (n := n.toNat) (fun z => Value.int z) (ga g 0) (ga g 0) f f1 (by omega)
    rw [← esp, ← edp, ← en] at h ⊢
    exact h
  rw [e1] at X' step
  have hl : a < H.size := (Array.getElem?_eq_some_iff.mp hc1).1
  have hheap : ((T.setVm vm').setCell a (vp_cell (ga g 0) (n1, .inl (va_cpy f f1 sp.toNat dp.toNat n.toNat)))).heap = H.setIfInBounds a (vp_cell (ga g 0) (n1, .inl (va_cpy f f1 sp.toNat dp.toNat n.toNat))) := by rw [← hT]; rfl
  have oq : ∀ q : Nat, q ≠ a → (H.setIfInBounds a (vp_cell (ga g 0) (n1, .inl (va_cpy f f1 sp.toNat dp.toNat n.toNat))))[q]? = H[q]? := fun q hq => by simp [Array.getElem?_setIfInBounds, Ne.symm hq]
  obtain ⟨t, a1, b1⟩ := kk _ ⟨show (H.setIfInBounds a _)[a]? = some _ by simp [Array.getElem?_setIfInBounds, hl], by simp, oq⟩ R s m args below meth c _ cells slots ls C0 hl0 (fun q hq => by
      rcases List.mem_append.mp hq with h | h
      · exact hlo q h
      · obtain ⟨z, -, hz⟩ := List.mem_map.mp h
        rw [← hz]; exact hB) hc hs _ hheap X'
  exact ⟨t, step t a1, b1⟩
theorem U.copybT {rc rs : Nat} {Q : UQ} {i a a0 n0 n1 : Nat} {f f1 : Nat → Int32} {sp dp n : Int} (hlink : Cond.methodLink M.1.cls i arraycopyName ∈ lw_all) (hT0 : ∀ s : State, (gs g).vm.Alike s.vm → va_T .byte a0 n0 (fun j => .int (f j)) (fun _ => False) s H) (hat1 : va_at (gD g) vCl (a, .inl (ga g 0, n1, .inl f1)) H) (hB : (gs g).heap.size ≤ a) (hfit : ∀ j, (f j).toInt8.toInt32 = f j) (h1 : 0 ≤ sp) (h2 : 0 ≤ dp) (h3 : 0 ≤ n) (h4 : sp + n ≤ n0) (h5 : dp + n ≤ n1) (hn0 : n0 < 2 ^ 24) (hn1 : n1 < 2 ^ 24) (hd1 : 1 ≤ d) (hw : Nat.ble (2 * st.length + 30) 64 = true) (hd : d1 M.2.1 pc (.invokestatic i) 3 = true)
    (kk : ∀ H', Pt1 g a (.inl (ga g 0, n1, .inl (va_cpy f f1 sp.toNat dp.toNat n.toNat))) H H' → U g M d (pc + 3) l st H' rc rs Q) : U g M d pc l (vi n :: vi dp :: vr (some a) :: vi sp :: vr (some a0) :: st) H rc rs Q := by
  intro R s m args below meth c locs cells slots ls C0 hl0 hlo hc hs T hT X
  have rsp : rg sp := ⟨by omega, by omega⟩
  have rdp : rg dp := ⟨by omega, by omega⟩
  have rn : rg n := ⟨by omega, by omega⟩
  have z0 : ((0 : Int32)) = Int32.ofInt 0 := rfl
  obtain ⟨cell, hc0, ⟨g2, k0, hk0, cm0, hkk0⟩, g3, g4, g5, g6, g7⟩ := hT0 s C0.warm.alike
  have hc1 : H[a]? = some (vp_cell (ga g 0) (n1, .inl f1)) := hat1
  obtain ⟨-, k1, hk1, cm1, hkk1⟩ := (C0.hK.2 0 _ rfl).1 n1 (fun j => .int (f1 j))
  have esp := clamp rsp h1
  have edp := clamp rdp h2
  have en := clamp rn h3
  have hw' := Nat.le_of_ble_eq_true hw
  have hcs := cat_sum st
  have hfr := C0.frames
  have hlc := C0.locals
  have hnf : nativeFrameWords "java/lang/System" "arraycopy" 5 ≤ 19 := by decide +kernel
  obtain ⟨vm', X', step⟩ := X.arraycopy C0.hx C0.hown (C0.word hlink args) (C0.word q326 args) (C0.word q325 args) (C0.word q139 args) (src := a0) (dst := a) (cs := cell) (cd := vp_cell (ga g 0) (n1, .inl f1)) (srcPos := Int32.ofInt sp) (destPos := Int32.ofInt dp) (n := Int32.ofInt n) (by rw [hT]; exact hc0) (by rw [hT]; exact hc1)
    g2 (fun _ h => by cases h) g3 (fun h => by cases h) hk0 hk1 hkk0 hkk1 (by simp [refKind]) (by rw [z0, rLt rsp rg0]; omega) (by rw [z0, rLt rdp rg0]; omega) (by rw [z0, rLt rn rg0]; omega)
    (by rw [rg_to rsp, rg_to rn]; omega)
    (by rw [rg_to rdp, rg_to rn]; show ¬ _ > ((arrV (ga g 0) n1 (fun j => .int (f1 j))).slots.size : Int); rw [arrV_size]; omega)
    (fun vm₁ _ j hj => by
      rw [en] at hj
      have e : cell.slots.getD ((Int32.ofInt sp).toNatClampNeg + j) .null = .int (f (sp.toNat + j)) := by
        rw [esp]
        rw [Array.getD_eq_getD_getElem?, g6 _ (by omega)]
        rfl
      refine ⟨?_, ?_⟩
      · rw [e]
        have := hfit (sp.toNat + j)
        rw [← this]
        generalize (f (sp.toNat + j)).toInt8 = b
        revert b
        show ∀ b : Int8, fits .byte (.int b.toInt32) = true
        intro b
        simp [fits]
        have h1 := Int8.le_toInt b
        have h2 := Int8.toInt_lt b
        constructor <;> simp [Int32.le_iff_toInt_le] <;> omega
      · rw [e]
        exact trivial)
    (g := F0 m pc ls (.int (Int32.ofInt n) :: .int (Int32.ofInt dp) :: .ref a :: .int (Int32.ofInt sp) :: .ref a0 :: sV st)) rfl (by show ls.size = _; rw [hl0.1, C0.hml]) (rest := sV st) rfl (by rw [C0.hb]; exact of_decide_eq_true hd) (by omega) (by show 2 * 0 + ((sV st).map fun v => v.category).sum + _ ≤ R.locals; omega)
  have e1 : copied cell (vp_cell (ga g 0) (n1, .inl f1)) (Int32.ofInt sp) (Int32.ofInt dp) (Int32.ofInt n) = vp_cell (ga g 0) (n1, .inl (va_cpy f f1 sp.toNat dp.toNat n.toNat)) := by
    have h := va_copiedX (n0 := n0) (n1 := n1) (sp := sp.toNat) (dp := dp.toNat) (n := n.toNat) (fun z => Value.int z) cell (ga g 0) f f1 g6 (by omega)
    rw [← esp, ← edp, ← en] at h ⊢
    exact h
  rw [e1] at X' step
  have hl : a < H.size := (Array.getElem?_eq_some_iff.mp hc1).1
  have hheap : ((T.setVm vm').setCell a (vp_cell (ga g 0) (n1, .inl (va_cpy f f1 sp.toNat dp.toNat n.toNat)))).heap = H.setIfInBounds a (vp_cell (ga g 0) (n1, .inl (va_cpy f f1 sp.toNat dp.toNat n.toNat))) := by rw [← hT]; rfl
  have oq : ∀ q : Nat, q ≠ a → (H.setIfInBounds a (vp_cell (ga g 0) (n1, .inl (va_cpy f f1 sp.toNat dp.toNat n.toNat))))[q]? = H[q]? := fun q hq => by simp [Array.getElem?_setIfInBounds, Ne.symm hq]
  obtain ⟨t, a1, b1⟩ := kk _ ⟨show (H.setIfInBounds a _)[a]? = some _ by simp [Array.getElem?_setIfInBounds, hl], by simp, oq⟩ R s m args below meth c _ cells slots ls C0 hl0 (fun q hq => by
      rcases List.mem_append.mp hq with h | h
      · exact hlo q h
      · obtain ⟨z, -, hz⟩ := List.mem_map.mp h
        rw [← hz]; exact hB) hc hs _ hheap X'
  exact ⟨t, step t a1, b1⟩
theorem bA.T {b n : Nat} {f : Nat → Int32} (h : bA g b n f H) (hn : n < 2 ^ 24) (G : GF g) (s : State) (hv : (gs g).vm.Alike s.vm) : va_T .byte b n (fun j => .int (f j)) (fun _ => False) s H := by
  rcases h with q | q
  · have hc : H[b]? = some (arrV (ga g 0) n (fun j => .int (f j))) := q.2
    refine va_T.moved hv ⟨_, hc, (G.2.2.2 0 _ rfl).1 n _, (fun e => by cases e), by rw [arrV_size]; exact Nat.le_refl _, by rw [arrV_size] <;> rfl, fun j hj => arrV_read _ _ hj, fun e => e⟩
  · obtain ⟨rfl, q⟩ := q
    exact q.T hv
end RowR
