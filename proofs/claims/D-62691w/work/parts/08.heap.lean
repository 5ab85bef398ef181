set_option maxRecDepth 100000
/-- what the tables say of the class with number ci -/
def CDt (ci : Nat) (C : String) (T : u_T) (N : Nat) (ty : Nat → FieldType) : Prop := vCl[ci]? = some (C, T, N) ∧ (∀ w ∈ u_ws C T N, w ∈ lw_all) ∧ (∀ k, k < N → parseFieldDescriptor (T k).2.2.1 = some (ty k)) ∧ (∀ a, a < N → ∀ b, b < N → a ≠ b → (T a).2.1 ≠ (T b).2.1)
theorem cd0 : CDt 0 RX0 TX0 7 tyX0 := ⟨rfl, in_X0, tyX0_ok, nmX0⟩
theorem cd1 : CDt 1 RX1 TX1 7 tyX1 := ⟨rfl, in_X1, tyX1_ok, nmX1⟩
theorem cd2 : CDt 2 RX2 TX2 4 tyX2 := ⟨rfl, in_X2, tyX2_ok, nmX2⟩
theorem cd3 : CDt 3 RX3 TX3 2 tyX3 := ⟨rfl, in_X3, tyX3_ok, nmX3⟩
theorem cd4 : CDt 4 RX4 TX4 61 tyX4 := ⟨rfl, in_X4, tyX4_ok, nmX4⟩
theorem cd5 : CDt 5 RX5 TX5 7 tyX5 := ⟨rfl, in_X5, tyX5_ok, nmX5⟩
theorem cd6 : CDt 6 RX6 TX6 8 tyX6 := ⟨rfl, in_X6, tyX6_ok, nmX6⟩
theorem cd7 : CDt 7 RX7 TX7 4 tyX7 := ⟨rfl, in_X7, tyX7_ok, nmX7⟩
theorem cd8 : CDt 8 RX8 TX8 12 tyX8 := ⟨rfl, in_X8, tyX8_ok, nmX8⟩
theorem cd9 : CDt 9 RX9 TX9 1 tyX9 := ⟨rfl, in_X9, tyX9_ok, nmX9⟩
theorem cd10 : CDt 10 RX10 TX10 4 tyX10 := ⟨rfl, in_X10, tyX10_ok, nmX10⟩
theorem cd11 : CDt 11 RX11 TX11 2 tyX11 := ⟨rfl, in_X11, tyX11_ok, nmX11⟩
theorem cd12 : CDt 12 RX12 TX12 5 tyX12 := ⟨rfl, in_X12, tyX12_ok, nmX12⟩
theorem cd13 : CDt 13 RX14 TX14 5 tyX14 := ⟨rfl, in_X14, tyX14_ok, nmX14⟩
theorem cd14 : CDt 14 RX15 TX15 3 tyX15 := ⟨rfl, in_X15, tyX15_ok, nmX15⟩
theorem cd15 : CDt 15 RJ2 TJ2 3 tyJ2 := ⟨rfl, in_J2, tyJ2_ok, nmJ2⟩
theorem cd16 : CDt 16 RJ10 TJ10 6 tyJ10 := ⟨rfl, in_J10, tyJ10_ok, nmJ10⟩
theorem clamp {i : Int} (hr : rg i) (h0 : 0 ≤ i) : (Int32.ofInt i).toNatClampNeg = i.toNat := by
  have h := rg_to hr
  unfold Int32.toNatClampNeg
  rw [h]
theorem in_vp {i : Int} {n : Nat} (hr : rg i) (h : 0 ≤ i ∧ i < n) : vp_in (Int32.ofInt i) n := by
  show ¬ (Int32.ofInt i < 0 ∨ n ≤ (Int32.ofInt i).toNatClampNeg)
  rw [clamp hr h.1, show ((0 : Int32)) = Int32.ofInt 0 from rfl, rLt hr rg0]
  omega
section HeapU
variable {g : GE} {M N : Mt} {d d' pc : Nat} {l l' : List (Nat × LV)} {st st' : List LV} {H : Heap} {rc rs : Nat} {Q : UQ}
theorem vP1 {D : va_G} {cl : List vw_C} {q : Nat × va_E} {H : Heap} (h : va_at D cl q H) : va_P D cl [q] H := by
  intro k x hk
  match k, hk with
  | 0, hk => cases hk; exact h
  | k + 1, hk => simp at hk
theorem U.gf {ci Nf i k a : Nat} {C : String} {T : u_T} {ty : Nat → FieldType} {fs : List Value} {x : LV} (cd : CDt ci C T Nf ty) (hat : va_at (gD g) vCl (a, .inr (ci, fs)) H) (hk : Nat.ble (k + 1) Nf = true) (hl : Cond.fieldLink M.1.cls i (T k).1 (T k).2.1 (T k).2.2.1 ∈ lw_all) (hv : fs[k]? = some (vV x)) (hd : d1 M.2.1 pc (.getfield i) 3 = true)
    (kk : U g M d (pc + 3) l (x :: st) H rc rs Q) : U g M d pc l (vr (some a) :: st) H rc rs Q :=
  fun R s m args below meth c locs cells slots ls C0 hl0 hlo hc hs => va_get (tys := tys_ g) C0.hx C0.hb (C0.words args) cd.2.1 C0.hown C0.hK (vP1 hat) 0 rfl cd.1 k (Nat.le_of_ble_eq_true hk) (C0.word hl args) (fun _ h => h) hv (of_decide_eq_true hd) (kk R s m args below meth c locs cells slots ls C0 hl0 hlo hc hs)
theorem U.gfN {ci Nf i k a : Nat} {C host : String} {T : u_T} {ty : Nat → FieldType} {fs : List Value} {x : LV} (cd : CDt ci C T Nf ty) (hat : va_at (gD g) vCl (a, .inr (ci, fs)) H) (hk : Nat.ble (k + 1) Nf = true) (hl : Cond.fieldLinkNest M.1.cls i (T k).1 (T k).2.1 (T k).2.2.1 host ∈ lw_tbl) (hv : fs[k]? = some (vV x)) (hd : d1 M.2.1 pc (.getfield i) 3 = true)
    (kk : U g M d (pc + 3) l (x :: st) H rc rs Q) : U g M d pc l (vr (some a) :: st) H rc rs Q :=
  fun R s m args below meth c locs cells slots ls C0 hl0 hlo hc hs => va_getN (tys := tys_ g) C0.hx C0.hb (C0.words args) cd.2.1 C0.hown C0.hK (vP1 hat) 0 rfl cd.1 k (Nat.le_of_ble_eq_true hk) (C0.nF hl args) (fun _ h => h) hv (of_decide_eq_true hd) (kk R s m args below meth c locs cells slots ls C0 hl0 hlo hc hs)
/-- what a store to an object leaves: the object with the new value, all else as it was -/
def Pt1 (g : GE) (a : Nat) (e : va_E) (H H' : Heap) : Prop := va_at (gD g) vCl (a, e) H' ∧ H'.size = H.size ∧ ∀ q, q ≠ a → H'[q]? = H[q]?
theorem LO.put {L : List Loc} {a k : Nat} (h : LO g L) (ha : (gs g).heap.size ≤ a) : LO g (L ++ [⟨a, k⟩]) := fun q hq => by
  rcases List.mem_append.mp hq with h1 | h1
  · exact h q h1
  · rw [List.mem_singleton.mp h1]; exact ha
theorem U.pf {ci Nf i k a : Nat} {C : String} {T : u_T} {ty : Nat → FieldType} {fs : List Value} {x : LV} (cd : CDt ci C T Nf ty) (hat : va_at (gD g) vCl (a, .inr (ci, fs)) H) (hk : Nat.ble (k + 1) Nf = true) (hl : Cond.fieldLink M.1.cls i (T k).1 (T k).2.1 (T k).2.2.1 ∈ lw_all) (hfin : (T k).2.2.2 = false) (hn : narrow (ty k) (vV x) = vV x) (hfit : fits (ty k) (vV x) = true) (hlen : Nat.ble (k + 1) fs.length = true) (hB : (gs g).heap.size ≤ a) (hd : d1 M.2.1 pc (.putfield i) 3 = true)
    (kk : ∀ H', Pt1 g a (.inr (ci, fs.set k (vV x))) H H' → U g M d (pc + 3) l st H' rc rs Q) : U g M d pc l (x :: vr (some a) :: st) H rc rs Q := by
  intro R s m args below meth c locs cells slots ls C0 hl0 hlo hc hs
  have hk' : k < Nf := Nat.le_of_ble_eq_true hk
  have hap := va_apart (own := M.1.cls) (C0.words args) cd.2.1 ty cd.2.2.1 cd.2.2.2 C0.hK cd.1
  obtain ⟨r, h1, cell, q1, q2, q3, q4⟩ := hat
  have hr : r = (C, T, Nf) := Option.some.inj (h1.symm.trans cd.1)
  subst hr
  obtain ⟨hS, hfc, kC, hkC, hkind⟩ := C0.hK.1 ci _ cd.1
  obtain ⟨cf, kf, fi, f, hi, hsl⟩ := hS k hk'
  have hlay := C0.words args _ (cd.2.1 _ (u_in_lay hk'))
  unfold u_lay at hlay
  rw [if_neg (by rw [hfin]; decide)] at hlay
  have hst := (u_facts hfc hkC (u_lays (C0.words args) cd.2.1 hk') hi).1
  have h6 := u_store hfc hkC hkind hlay hi (cd.2.2.1 k hk') hn hfit
  refine W.putK C0.hx C0.hb (f := f) ⟨C0.hown, C0.word hl args, ⟨_, _, _, hi⟩, hst⟩ (by rw [q2]; exact h6) q1 q3 (by rw [hsl]; exact k2_hasslot (q4 k hk')) rfl rfl (of_decide_eq_true hd) fun H' e1 e2 e3 => ?_
  rw [hsl] at e1
  exact kk H' ⟨⟨_, cd.1, t_OB.to (V := updV (vp_V fs) k (vV x)) ⟨_, e1, q2, q3, t_set q4 hap hk' (vV x)⟩ (fun j _ => vp_updV_set (Nat.le_of_ble_eq_true hlen) (vV x) j)⟩, e2, e3⟩ R s m args below meth c _ cells slots ls C0 hl0 (hlo.put hB) hc hs
theorem U.pfN {ci Nf i k a : Nat} {C host : String} {T : u_T} {ty : Nat → FieldType} {fs : List Value} {x : LV} (cd : CDt ci C T Nf ty) (hat : va_at (gD g) vCl (a, .inr (ci, fs)) H) (hk : Nat.ble (k + 1) Nf = true) (hl : Cond.fieldLinkNest M.1.cls i (T k).1 (T k).2.1 (T k).2.2.1 host ∈ lw_tbl) (hfin : (T k).2.2.2 = false) (hn : narrow (ty k) (vV x) = vV x) (hfit : fits (ty k) (vV x) = true) (hlen : Nat.ble (k + 1) fs.length = true) (hB : (gs g).heap.size ≤ a) (hd : d1 M.2.1 pc (.putfield i) 3 = true)
    (kk : ∀ H', Pt1 g a (.inr (ci, fs.set k (vV x))) H H' → U g M d (pc + 3) l st H' rc rs Q) : U g M d pc l (x :: vr (some a) :: st) H rc rs Q := by
  intro R s m args below meth c locs cells slots ls C0 hl0 hlo hc hs
  have hk' : k < Nf := Nat.le_of_ble_eq_true hk
  have hap := va_apart (own := M.1.cls) (C0.words args) cd.2.1 ty cd.2.2.1 cd.2.2.2 C0.hK cd.1
  obtain ⟨r, h1, cell, q1, q2, q3, q4⟩ := hat
  have hr : r = (C, T, Nf) := Option.some.inj (h1.symm.trans cd.1)
  subst hr
  obtain ⟨hS, hfc, kC, hkC, hkind⟩ := C0.hK.1 ci _ cd.1
  obtain ⟨cf, kf, fi, f, hi, hsl⟩ := hS k hk'
  have hlay := C0.words args _ (cd.2.1 _ (u_in_lay hk'))
  unfold u_lay at hlay
  rw [if_neg (by rw [hfin]; decide)] at hlay
  have hst := (u_facts hfc hkC (u_lays (C0.words args) cd.2.1 hk') hi).1
  have h6 := u_store hfc hkC hkind hlay hi (cd.2.2.1 k hk') hn hfit
  refine va_WputK C0.hx C0.hb (f := f) C0.hown (C0.nF hl args) hi hst (by rw [q2]; exact h6) q1 q3 (by rw [hsl]; exact k2_hasslot (q4 k hk')) rfl rfl (of_decide_eq_true hd) fun H' e1 e2 e3 => ?_
  rw [hsl] at e1
  exact kk H' ⟨⟨_, cd.1, t_OB.to (V := updV (vp_V fs) k (vV x)) ⟨_, e1, q2, q3, t_set q4 hap hk' (vV x)⟩ (fun j _ => vp_updV_set (Nat.le_of_ble_eq_true hlen) (vV x) j)⟩, e2, e3⟩ R s m args below meth c _ cells slots ls C0 hl0 (hlo.put hB) hc hs
theorem U.pfF {ci Nf i k a : Nat} {C : String} {T : u_T} {ty : Nat → FieldType} {fs : List Value} {x : LV} (cd : CDt ci C T Nf ty) (hat : va_at (gD g) vCl (a, .inr (ci, fs)) H) (hk : Nat.ble (k + 1) Nf = true) (hl : Cond.fieldLink M.1.cls i (T k).1 (T k).2.1 (T k).2.2.1 ∈ lw_all) (hfin : (T k).2.2.2 = true) (hin2 : M.1.name = "<init>") (hdecl : (T k).1 = M.1.cls) (hn : narrow (ty k) (vV x) = vV x) (hfit : fits (ty k) (vV x) = true) (hlen : Nat.ble (k + 1) fs.length = true) (hB : (gs g).heap.size ≤ a) (hd : d1 M.2.1 pc (.putfield i) 3 = true)
    (kk : ∀ H', Pt1 g a (.inr (ci, fs.set k (vV x))) H H' → U g M d (pc + 3) l st H' rc rs Q) : U g M d pc l (x :: vr (some a) :: st) H rc rs Q := by
  intro R s m args below meth c locs cells slots ls C0 hl0 hlo hc hs
  have hk' : k < Nf := Nat.le_of_ble_eq_true hk
  have hap := va_apart (own := M.1.cls) (C0.words args) cd.2.1 ty cd.2.2.1 cd.2.2.2 C0.hK cd.1
  obtain ⟨r, h1, cell, q1, q2, q3, q4⟩ := hat
  have hr : r = (C, T, Nf) := Option.some.inj (h1.symm.trans cd.1)
  subst hr
  obtain ⟨hS, hfc, kC, hkC, hkind⟩ := C0.hK.1 ci _ cd.1
  obtain ⟨cf, kf, fi, f, hi, hsl⟩ := hS k hk'
  have hlay := C0.words args _ (cd.2.1 _ (u_in_lay hk'))
  unfold u_lay at hlay
  rw [if_pos hfin] at hlay
  have hst := (u_facts hfc hkC (u_lays (C0.words args) cd.2.1 hk') hi).1
  have hcf : m.cls = cf := by
    obtain ⟨_, _, c', _, _, _, -, -, hf', -, -, -, hown2, -⟩ := Cond.laysFinal_spec hlay
    have e1 : c' = cf := by have := hi.symm.trans hf'; simp at this; exact this.1.symm
    rw [hdecl] at hown2
    rw [← e1]; exact Option.some.inj (C0.hown.symm.trans hown2)
  have h6 := u_fits hfc hkC hkind (Or.inr hlay) hi (cd.2.2.1 k hk') hn hfit
  refine W.putFinK C0.hx C0.hb C0.hown (C0.word hl args) hi hst hcf (C0.name.trans hin2) (by rw [q2]; exact h6) q1 q3 (by rw [hsl]; exact k2_hasslot (q4 k hk')) rfl rfl (of_decide_eq_true hd) fun H' e1 e2 e3 => ?_
  rw [hsl] at e1
  exact kk H' ⟨⟨_, cd.1, t_OB.to (V := updV (vp_V fs) k (vV x)) ⟨_, e1, q2, q3, t_set q4 hap hk' (vV x)⟩ (fun j _ => vp_updV_set (Nat.le_of_ble_eq_true hlen) (vV x) j)⟩, e2, e3⟩ R s m args below meth c _ cells slots ls C0 hl0 (hlo.put hB) hc hs
theorem U.iald {a n : Nat} {f : Nat → Int32} {i : Int} {x : Int} (hri : rg i) (hxf : Int32.ofInt x = f i.toNat) (hat : va_at (gD g) vCl (a, .inl (ga g 1, n, .inl f)) H) (hin : 0 ≤ i ∧ i < n) (hd : d1 M.2.1 pc .iaload 1 = true) (kk : U g M d (pc + 1) l (vi x :: st) H rc rs Q) : U g M d pc l (vi i :: vr (some a) :: st) H rc rs Q :=
  fun R s m args below meth c locs cells slots ls C0 hl0 hlo hc hs => va_iald (tys := tys_ g) C0.hx C0.hb C0.hK (vP1 hat) 0 1 rfl rfl (in_vp hri hin) (of_decide_eq_true hd) (by have h := kk R s m args below meth c locs cells slots ls C0 hl0 hlo hc hs; rw [vV_e hxf] at h; rw [clamp hri hin.1]; exact h)
theorem U.bald {a n : Nat} {f : Nat → Int32} {i : Int} {x : Int} (hri : rg i) (hxf : Int32.ofInt x = f i.toNat) (hat : va_at (gD g) vCl (a, .inl (ga g 0, n, .inl f)) H) (hin : 0 ≤ i ∧ i < n) (hd : d1 M.2.1 pc .baload 1 = true) (kk : U g M d (pc + 1) l (vi x :: st) H rc rs Q) : U g M d pc l (vi i :: vr (some a) :: st) H rc rs Q :=
  fun R s m args below meth c locs cells slots ls C0 hl0 hlo hc hs => va_bald (tys := tys_ g) C0.hx C0.hb C0.hK (vP1 hat) 0 0 rfl rfl (in_vp hri hin) (of_decide_eq_true hd) (by have h := kk R s m args below meth c locs cells slots ls C0 hl0 hlo hc hs; rw [vV_e hxf] at h; rw [clamp hri hin.1]; exact h)
theorem U.zald {a n : Nat} {f : Nat → Int32} {i : Int} {x : Int} (hri : rg i) (hxf : Int32.ofInt x = f i.toNat) (hat : va_at (gD g) vCl (a, .inl (ga g 2, n, .inl f)) H) (hin : 0 ≤ i ∧ i < n) (hd : d1 M.2.1 pc .baload 1 = true) (kk : U g M d (pc + 1) l (vi x :: st) H rc rs Q) : U g M d pc l (vi i :: vr (some a) :: st) H rc rs Q :=
  fun R s m args below meth c locs cells slots ls C0 hl0 hlo hc hs => va_zald (tys := tys_ g) C0.hx C0.hb C0.hK (vP1 hat) 0 2 rfl rfl (in_vp hri hin) (of_decide_eq_true hd) (by have h := kk R s m args below meth c locs cells slots ls C0 hl0 hlo hc hs; rw [vV_e hxf] at h; rw [clamp hri hin.1]; exact h)
theorem U.alen {a n t : Nat} {ty : FieldType} {f : (Nat → Int32) ⊕ (Nat → Int64) ⊕ (Nat → UInt32) ⊕ (Nat → UInt64) ⊕ (Nat → Option Nat)} {cA : ClassId} (hat : va_at (gD g) vCl (a, .inl (cA, n, f)) H) (ht : (tys_ g)[t]? = some (cA, ty)) (hd : d1 M.2.1 pc .arraylength 1 = true) (kk : U g M d (pc + 1) l (vi n :: st) H rc rs Q) : U g M d pc l (vr (some a) :: st) H rc rs Q :=
  fun R s m args below meth c locs cells slots ls C0 hl0 hlo hc hs => va_alen (tys := tys_ g) C0.hx C0.hb C0.hK (vP1 hat) 0 t rfl ht rfl (of_decide_eq_true hd) (by have h := kk R s m args below meth c locs cells slots ls C0 hl0 hlo hc hs; rw [vV_e (Int32.ofInt_eq_ofNat)] at h; exact h)
theorem U.iast {a n : Nat} {f : Nat → Int32} {i x : Int} (hri : rg i) (hat : va_at (gD g) vCl (a, .inl (ga g 1, n, .inl f)) H) (hin : 0 ≤ i ∧ i < n) (hB : (gs g).heap.size ≤ a) (hd : d1 M.2.1 pc .iastore 1 = true) (kk : ∀ H', Pt1 g a (.inl (ga g 1, n, .inl (upd f i.toNat (Int32.ofInt x)))) H H' → U g M d (pc + 1) l st H' rc rs Q) : U g M d pc l (vi x :: vi i :: vr (some a) :: st) H rc rs Q := by
  intro R s m args below meth c locs cells slots ls C0 hl0 hlo hc hs
  refine W.iast C0.hx C0.hb hat ((C0.hK.2 1 _ rfl).1 n (fun j => .int (f j))) (fun q => by cases q) (by show ¬ (Int32.ofInt i < 0 ∨ (arrV _ _ _).slots.size ≤ _); rw [arrV_size]; exact in_vp hri hin) rfl rfl (of_decide_eq_true hd) fun H1 e z oq => ?_
  refine kk H1 ⟨?_, z, oq⟩ R s m args below meth c _ cells slots ls C0 hl0 (hlo.put hB) hc hs
  show H1[a]? = some (vp_cell _ _)
  rw [e]
  rw [vp_cell_i, vp_cell_i, arrV_store, clamp hri hin.1]
  congr 2
  funext q
  by_cases hq : q = i.toNat
  · subst hq
    simp [updV, upd]
  · simp [updV, upd, hq]
theorem U.zast {a n : Nat} {f : Nat → Int32} {i x : Int} (hri : rg i) (hat : va_at (gD g) vCl (a, .inl (ga g 2, n, .inl f)) H) (hin : 0 ≤ i ∧ i < n) (hB : (gs g).heap.size ≤ a) (hz : bz x) (hd : d1 M.2.1 pc .bastore 1 = true) (kk : ∀ H', Pt1 g a (.inl (ga g 2, n, .inl (upd f i.toNat (Int32.ofInt x)))) H H' → U g M d (pc + 1) l st H' rc rs Q) : U g M d pc l (vi x :: vi i :: vr (some a) :: st) H rc rs Q := by
  intro R s m args below meth c locs cells slots ls C0 hl0 hlo hc hs
  refine W.zast C0.hx C0.hb hat ((C0.hK.2 2 _ rfl).1 n (fun j => .int (f j))) (fun q => by cases q) (by show ¬ (Int32.ofInt i < 0 ∨ (arrV _ _ _).slots.size ≤ _); rw [arrV_size]; exact in_vp hri hin) rfl rfl (of_decide_eq_true hd) fun H1 e z oq => ?_
  refine kk H1 ⟨?_, z, oq⟩ R s m args below meth c _ cells slots ls C0 hl0 (hlo.put hB) hc hs
  show H1[a]? = some (vp_cell _ _)
  rw [e, show narrow .boolean (.int (Int32.ofInt x)) = .int (Int32.ofInt x) by simp [narrow, bz_and hz]]
  rw [vp_cell_i, vp_cell_i, arrV_store, clamp hri hin.1]
  congr 2
  funext q
  by_cases hq : q = i.toNat
  · subst hq
    simp [updV, upd]
  · simp [updV, upd, hq]
theorem U.bast {a n : Nat} {f : Nat → Int32} {i x : Int} (hri : rg i) (hat : va_at (gD g) vCl (a, .inl (ga g 0, n, .inl f)) H) (hin : 0 ≤ i ∧ i < n) (hB : (gs g).heap.size ≤ a) (hd : d1 M.2.1 pc .bastore 1 = true) (kk : ∀ H', Pt1 g a (.inl (ga g 0, n, .inl (upd f i.toNat (Int32.ofInt x).toInt8.toInt32))) H H' → U g M d (pc + 1) l st H' rc rs Q) : U g M d pc l (vi x :: vi i :: vr (some a) :: st) H rc rs Q := by
  intro R s m args below meth c locs cells slots ls C0 hl0 hlo hc hs
  refine W.bast C0.hx C0.hb hat ((C0.hK.2 0 _ rfl).1 n (fun j => .int (f j))) (fun q => by cases q) (by show ¬ (Int32.ofInt i < 0 ∨ (arrV _ _ _).slots.size ≤ _); rw [arrV_size]; exact in_vp hri hin) rfl rfl (of_decide_eq_true hd) fun H1 e z oq => ?_
  refine kk H1 ⟨?_, z, oq⟩ R s m args below meth c _ cells slots ls C0 hl0 (hlo.put hB) hc hs
  show H1[a]? = some (vp_cell _ _)
  rw [e, show narrow .byte (.int (Int32.ofInt x)) = .int (Int32.ofInt x).toInt8.toInt32 from rfl]
  rw [vp_cell_i, vp_cell_i, arrV_store, clamp hri hin.1]
  congr 2
  funext q
  by_cases hq : q = i.toNat
  · subst hq
    simp [updV, upd]
  · simp [updV, upd, hq]
/-- a weaker end -/
theorem U.mono {Q1 Q2 : UQ} (h : U g M d pc l st H rc rs Q1) (h1 : ∀ v H' rc' rs', Q1.1 v H' rc' rs' → Q2.1 v H' rc' rs') (h2 : ∀ a H' rc' rs', Q1.2 a H' rc' rs' → Q2.2 a H' rc' rs') : U g M d pc l st H rc rs Q2 := by
  intro R s m args below meth c locs cells slots ls C0 hl0 hlo hc hs T hT X
  obtain ⟨t, hs1, o, L, k, n, rc', rs', e1, e2, e3, e4, e5, e6, e7, e8⟩ := h R s m args below meth c locs cells slots ls C0 hl0 hlo hc hs T hT X
  refine ⟨t, hs1, o, L, k, n, rc', rs', e1, e2, e3, e4, e5, e6, e7, ?_⟩
  rcases e8 with ⟨v, e8, e9⟩ | ⟨v, e8, e9⟩
  · exact Or.inl ⟨v, e8, h1 _ _ _ _ e9⟩
  · exact Or.inr ⟨v, e8, h2 _ _ _ _ e9⟩
end HeapU
