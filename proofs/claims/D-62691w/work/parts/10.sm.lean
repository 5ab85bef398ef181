set_option maxRecDepth 100000
/-! IMAGES: what a method computes, as a function. none: it isn't known to end. gd: a check; nm: a name -/
def gd {X : Type} (b : Prop) [Decidable b] (F : Option X) : Option X := if b then F else none
def nm {A X : Type} (e : A) (F : A → X) : X := F e
/-- an image that answers, its answer -/
abbrev ok {Y : Type} (F : Option Y) : Prop := F.isSome = true
def vv (F : Option Int) : Int := F.getD 0
def vw (F : Option Int64) : Int64 := F.getD 0
def vo (F : Option (Option Nat)) : Option Nat := F.getD none
/-- an index is in range; a truth value -/
abbrev ib (i : Int) (n : Nat) : Prop := 0 ≤ i ∧ i < n
abbrev zb (x : Int) : Prop := x = 0 ∨ x = 1
def FU : Nat := 1000000
def Ex {X : Type} (F : Option X) (K : X → Prop) : Prop := ∃ x, F = some x ∧ K x
def Sm {X : Type} (P : Prop) (F : Option X) (K : X → Prop) : Prop := Ex F K → P
section ExR
variable {X Y : Type} {x : X} {K K' : X → Prop} {F A B : Option X}
theorem Ex_some : Ex (some x) K ↔ K x := ⟨fun ⟨_, e, h⟩ => by cases e; exact h, fun h => ⟨x, rfl, h⟩⟩
theorem Ex_none : Ex (none : Option X) K ↔ False := ⟨fun ⟨_, e, _⟩ => (by cases e), fun h => h.elim⟩
theorem Ex_gd {b : Prop} [Decidable b] : Ex (gd b F) K ↔ b ∧ Ex F K := by
  unfold gd
  by_cases h : b
  · rw [if_pos h]; exact ⟨fun q => ⟨h, q⟩, fun q => q.2⟩
  · rw [if_neg h]; exact ⟨fun q => (Ex_none.mp q).elim, fun q => absurd q.1 h⟩
theorem Ex_if {c : Prop} [Decidable c] : Ex (if c then A else B) K ↔ (c → Ex A K) ∧ (¬ c → Ex B K) := by
  by_cases h : c
  · rw [if_pos h]; exact ⟨fun q => ⟨fun _ => q, fun n => absurd h n⟩, fun q => q.1 h⟩
  · rw [if_neg h]; exact ⟨fun q => ⟨fun n => absurd n h, fun _ => q⟩, fun q => q.2 h⟩
theorem Ex_bind {F : Option Y} {G : Y → Option X} : Ex (F.bind G) K ↔ Ex F (fun y => Ex (G y) K) := by
  constructor
  · rintro ⟨x, hx, hK⟩
    obtain ⟨y, hy, h2⟩ := Option.bind_eq_some_iff.mp hx
    exact ⟨y, hy, x, h2, hK⟩
  · rintro ⟨y, hy, x, hx, hK⟩
    exact ⟨x, by rw [hy]; exact hx, hK⟩
theorem Ex_nm {A : Type} {e : A} {G : A → Option X} : Ex (nm e G) K ↔ Ex (G e) K := Iff.rfl
theorem Ex.mono (h : Ex F K) (hk : ∀ x, K x → K' x) : Ex F K' := by
  obtain ⟨x, hx, hK⟩ := h
  exact ⟨x, hx, hk x hK⟩
theorem Ex.eq (h : F = some x) (hk : K x) : Ex F K := ⟨x, h, hk⟩
end ExR
section SmR
variable {g : GE} {M N : Mt} {d d' pc pc' tgt : Nat} {off : Int} {l l' : List (Nat × LV)} {st st' : List LV} {σ : ST} {τ : TT} {Q : VQ} {X Y : Type} {F A B : Option X} {K : X → Prop} {P : Prop}
theorem sm_none : Sm P (none : Option X) K := fun h => (Ex_none.mp h).elim
theorem sm_self {a : X} : Sm (K a) (some a) K := fun h => Ex_some.mp h
theorem sm_leaf {a : X} (h : K a → P) : Sm P (some a) K := fun q => h (Ex_some.mp q)
theorem sm_bind {F : Option Y} {G : Y → Option X} (J : Y → Prop) (h1 : Sm P F J) (h2 : ∀ y, Sm (J y) (G y) K) : Sm P (F.bind G) K := fun h => h1 ((Ex_bind.mp h).mono fun y hy => h2 y hy)
theorem sm_b (is : Bk) (hd : dks M.2.1 pc is = true) (hr : bks M.2.2.1 is l st = some (l', st')) (hp : lst pc is = pc') (k : Sm (V g M d pc' l' st' σ τ Q) F K) : Sm (V g M d pc l st σ τ Q) F K := fun hx H hR => U.b hd hr hp (k hx H hR)
theorem sm_pick (ks : List Nat) (hl : ks.filterMap (fun k => l[k]?) = l') (k : Sm (V g M d pc l' st σ τ Q) F K) : Sm (V g M d pc l st σ τ Q) F K := fun hx H hR => U.sub (fun q hq => by
  rw [← hl] at hq
  obtain ⟨i, -, hi⟩ := List.mem_filterMap.mp hq
  exact List.mem_of_getElem? hi) (k hx H hR)
theorem sm_nmi {e : Int} {G : Int → Option X} (k : ∀ x, Sm (V g M d pc l (vi x :: st) σ τ Q) (G x) K) : Sm (V g M d pc l (vi e :: st) σ τ Q) (nm e G) K := k e
theorem sm_nml {e : Int64} {G : Int64 → Option X} (k : ∀ x, Sm (V g M d pc l (vl x :: st) σ τ Q) (G x) K) : Sm (V g M d pc l (vl e :: st) σ τ Q) (nm e G) K := k e
theorem sm_nmr {e : Option Nat} {G : Option Nat → Option X} (k : ∀ x, Sm (V g M d pc l (vr x :: st) σ τ Q) (G x) K) : Sm (V g M d pc l (vr e :: st) σ τ Q) (nm e G) K := k e
theorem sm_nmt {e : TT} {G : TT → Option X} (k : ∀ x, Sm (V g M d pc l st σ x Q) (G x) K) : Sm (V g M d pc l st σ e Q) (nm e G) K := k e
theorem sm_nms {e : ST} {G : ST → Option X} (k : ∀ x, Sm (V g M d pc l st x τ Q) (G x) K) : Sm (V g M d pc l st e τ Q) (nm e G) K := k e
theorem sm_gd {b : Prop} [Decidable b] (k : b → Sm P F K) : Sm P (gd b F) K := fun h => k (Ex_gd.mp h).1 (Ex_gd.mp h).2
theorem sm_if {c : Prop} [Decidable c] (kt : c → Sm P A K) (kf : ¬ c → Sm P B K) : Sm P (if c then A else B) K := by
  by_cases h : c
  · rw [if_pos h]; exact kt h
  · rw [if_neg h]; exact kf h
theorem sm_pos {c : Prop} [Decidable c] (h : c) (k : Sm P A K) : Sm P (if c then A else B) K := by rw [if_pos h]; exact k
theorem sm_neg {c : Prop} [Decidable c] (h : ¬ c) (k : Sm P B K) : Sm P (if c then A else B) K := by rw [if_neg h]; exact k
/-- a reference that isn't null -/
theorem sm_der {x : Option Nat} {G : Nat → Option X} (k : ∀ a, Sm (V g M d pc l (vr (some a) :: st) σ τ Q) (G a) K) : Sm (V g M d pc l (vr x :: st) σ τ Q) (x.bind G) K := by
  cases x with
  | none => exact sm_none
  | some a => exact k a
theorem sm_icmp_eq {x y : Int} (hrx : rg x) (hry : rg y) (hd : dj M.2.1 pc (.if_icmp .eq off) off tgt = true) (kt : x = y → Sm (V g M d tgt l st σ τ Q) F K) (kf : ¬ x = y → Sm (V g M d (pc + 3) l st σ τ Q) F K) : Sm (V g M d pc l (vi y :: vi x :: st) σ τ Q) F K :=
  fun hx H hR => U.icmp_eq hrx hry hd (fun h => kt h hx H hR) (fun h => kf h hx H hR)
theorem sm_icmp_ne {x y : Int} (hrx : rg x) (hry : rg y) (hd : dj M.2.1 pc (.if_icmp .ne off) off tgt = true) (kt : ¬ x = y → Sm (V g M d tgt l st σ τ Q) F K) (kf : x = y → Sm (V g M d (pc + 3) l st σ τ Q) F K) : Sm (V g M d pc l (vi y :: vi x :: st) σ τ Q) F K :=
  fun hx H hR => U.icmp_ne hrx hry hd (fun h => kt h hx H hR) (fun h => kf h hx H hR)
theorem sm_icmp_lt {x y : Int} (hrx : rg x) (hry : rg y) (hd : dj M.2.1 pc (.if_icmp .lt off) off tgt = true) (kt : x < y → Sm (V g M d tgt l st σ τ Q) F K) (kf : ¬ x < y → Sm (V g M d (pc + 3) l st σ τ Q) F K) : Sm (V g M d pc l (vi y :: vi x :: st) σ τ Q) F K :=
  fun hx H hR => U.icmp_lt hrx hry hd (fun h => kt h hx H hR) (fun h => kf h hx H hR)
theorem sm_icmp_ge {x y : Int} (hrx : rg x) (hry : rg y) (hd : dj M.2.1 pc (.if_icmp .ge off) off tgt = true) (kt : y ≤ x → Sm (V g M d tgt l st σ τ Q) F K) (kf : ¬ y ≤ x → Sm (V g M d (pc + 3) l st σ τ Q) F K) : Sm (V g M d pc l (vi y :: vi x :: st) σ τ Q) F K :=
  fun hx H hR => U.icmp_ge hrx hry hd (fun h => kt h hx H hR) (fun h => kf h hx H hR)
theorem sm_icmp_gt {x y : Int} (hrx : rg x) (hry : rg y) (hd : dj M.2.1 pc (.if_icmp .gt off) off tgt = true) (kt : y < x → Sm (V g M d tgt l st σ τ Q) F K) (kf : ¬ y < x → Sm (V g M d (pc + 3) l st σ τ Q) F K) : Sm (V g M d pc l (vi y :: vi x :: st) σ τ Q) F K :=
  fun hx H hR => U.icmp_gt hrx hry hd (fun h => kt h hx H hR) (fun h => kf h hx H hR)
theorem sm_icmp_le {x y : Int} (hrx : rg x) (hry : rg y) (hd : dj M.2.1 pc (.if_icmp .le off) off tgt = true) (kt : x ≤ y → Sm (V g M d tgt l st σ τ Q) F K) (kf : ¬ x ≤ y → Sm (V g M d (pc + 3) l st σ τ Q) F K) : Sm (V g M d pc l (vi y :: vi x :: st) σ τ Q) F K :=
  fun hx H hR => U.icmp_le hrx hry hd (fun h => kt h hx H hR) (fun h => kf h hx H hR)
theorem sm_if_eq {x : Int} (hrx : rg x) (hd : dj M.2.1 pc (.ifCond .eq off) off tgt = true) (kt : x = 0 → Sm (V g M d tgt l st σ τ Q) F K) (kf : ¬ x = 0 → Sm (V g M d (pc + 3) l st σ τ Q) F K) : Sm (V g M d pc l (vi x :: st) σ τ Q) F K :=
  fun hx H hR => U.if_eq hrx hd (fun h => kt h hx H hR) (fun h => kf h hx H hR)
theorem sm_if_ne {x : Int} (hrx : rg x) (hd : dj M.2.1 pc (.ifCond .ne off) off tgt = true) (kt : ¬ x = 0 → Sm (V g M d tgt l st σ τ Q) F K) (kf : x = 0 → Sm (V g M d (pc + 3) l st σ τ Q) F K) : Sm (V g M d pc l (vi x :: st) σ τ Q) F K :=
  fun hx H hR => U.if_ne hrx hd (fun h => kt h hx H hR) (fun h => kf h hx H hR)
theorem sm_if_lt {x : Int} (hrx : rg x) (hd : dj M.2.1 pc (.ifCond .lt off) off tgt = true) (kt : x < 0 → Sm (V g M d tgt l st σ τ Q) F K) (kf : ¬ x < 0 → Sm (V g M d (pc + 3) l st σ τ Q) F K) : Sm (V g M d pc l (vi x :: st) σ τ Q) F K :=
  fun hx H hR => U.if_lt hrx hd (fun h => kt h hx H hR) (fun h => kf h hx H hR)
theorem sm_if_ge {x : Int} (hrx : rg x) (hd : dj M.2.1 pc (.ifCond .ge off) off tgt = true) (kt : 0 ≤ x → Sm (V g M d tgt l st σ τ Q) F K) (kf : ¬ 0 ≤ x → Sm (V g M d (pc + 3) l st σ τ Q) F K) : Sm (V g M d pc l (vi x :: st) σ τ Q) F K :=
  fun hx H hR => U.if_ge hrx hd (fun h => kt h hx H hR) (fun h => kf h hx H hR)
theorem sm_if_gt {x : Int} (hrx : rg x) (hd : dj M.2.1 pc (.ifCond .gt off) off tgt = true) (kt : 0 < x → Sm (V g M d tgt l st σ τ Q) F K) (kf : ¬ 0 < x → Sm (V g M d (pc + 3) l st σ τ Q) F K) : Sm (V g M d pc l (vi x :: st) σ τ Q) F K :=
  fun hx H hR => U.if_gt hrx hd (fun h => kt h hx H hR) (fun h => kf h hx H hR)
theorem sm_if_le {x : Int} (hrx : rg x) (hd : dj M.2.1 pc (.ifCond .le off) off tgt = true) (kt : x ≤ 0 → Sm (V g M d tgt l st σ τ Q) F K) (kf : ¬ x ≤ 0 → Sm (V g M d (pc + 3) l st σ τ Q) F K) : Sm (V g M d pc l (vi x :: st) σ τ Q) F K :=
  fun hx H hR => U.if_le hrx hd (fun h => kt h hx H hR) (fun h => kf h hx H hR)
theorem sm_lc_eq {x y : Int64} (hl : d1 M.2.1 pc .lcmp 1 = true) (hd : dj M.2.1 (pc + 1) (.ifCond .eq off) off tgt = true) (kt : x = y → Sm (V g M d tgt l st σ τ Q) F K) (kf : ¬ x = y → Sm (V g M d (pc + 4) l st σ τ Q) F K) : Sm (V g M d pc l (vl y :: vl x :: st) σ τ Q) F K :=
  fun hx H hR => U.lc_eq hl hd (fun h => kt h hx H hR) (fun h => kf h hx H hR)
theorem sm_lc_ne {x y : Int64} (hl : d1 M.2.1 pc .lcmp 1 = true) (hd : dj M.2.1 (pc + 1) (.ifCond .ne off) off tgt = true) (kt : ¬ x = y → Sm (V g M d tgt l st σ τ Q) F K) (kf : x = y → Sm (V g M d (pc + 4) l st σ τ Q) F K) : Sm (V g M d pc l (vl y :: vl x :: st) σ τ Q) F K :=
  fun hx H hR => U.lc_ne hl hd (fun h => kt h hx H hR) (fun h => kf h hx H hR)
theorem sm_lc_lt {x y : Int64} (hl : d1 M.2.1 pc .lcmp 1 = true) (hd : dj M.2.1 (pc + 1) (.ifCond .lt off) off tgt = true) (kt : x < y → Sm (V g M d tgt l st σ τ Q) F K) (kf : ¬ x < y → Sm (V g M d (pc + 4) l st σ τ Q) F K) : Sm (V g M d pc l (vl y :: vl x :: st) σ τ Q) F K :=
  fun hx H hR => U.lc_lt hl hd (fun h => kt h hx H hR) (fun h => kf h hx H hR)
theorem sm_lc_ge {x y : Int64} (hl : d1 M.2.1 pc .lcmp 1 = true) (hd : dj M.2.1 (pc + 1) (.ifCond .ge off) off tgt = true) (kt : y ≤ x → Sm (V g M d tgt l st σ τ Q) F K) (kf : ¬ y ≤ x → Sm (V g M d (pc + 4) l st σ τ Q) F K) : Sm (V g M d pc l (vl y :: vl x :: st) σ τ Q) F K :=
  fun hx H hR => U.lc_ge hl hd (fun h => kt h hx H hR) (fun h => kf h hx H hR)
theorem sm_lc_gt {x y : Int64} (hl : d1 M.2.1 pc .lcmp 1 = true) (hd : dj M.2.1 (pc + 1) (.ifCond .gt off) off tgt = true) (kt : y < x → Sm (V g M d tgt l st σ τ Q) F K) (kf : ¬ y < x → Sm (V g M d (pc + 4) l st σ τ Q) F K) : Sm (V g M d pc l (vl y :: vl x :: st) σ τ Q) F K :=
  fun hx H hR => U.lc_gt hl hd (fun h => kt h hx H hR) (fun h => kf h hx H hR)
theorem sm_lc_le {x y : Int64} (hl : d1 M.2.1 pc .lcmp 1 = true) (hd : dj M.2.1 (pc + 1) (.ifCond .le off) off tgt = true) (kt : x ≤ y → Sm (V g M d tgt l st σ τ Q) F K) (kf : ¬ x ≤ y → Sm (V g M d (pc + 4) l st σ τ Q) F K) : Sm (V g M d pc l (vl y :: vl x :: st) σ τ Q) F K :=
  fun hx H hR => U.lc_le hl hd (fun h => kt h hx H hR) (fun h => kf h hx H hR)
theorem sm_acmp_eq {x y : Option Nat} (hd : dj M.2.1 pc (.if_acmp .eq off) off tgt = true) (kt : x = y → Sm (V g M d tgt l st σ τ Q) F K) (kf : ¬ x = y → Sm (V g M d (pc + 3) l st σ τ Q) F K) : Sm (V g M d pc l (vr y :: vr x :: st) σ τ Q) F K :=
  fun hx H hR => U.acmp_eq hd (fun h => kt h hx H hR) (fun h => kf h hx H hR)
theorem sm_acmp_ne {x y : Option Nat} (hd : dj M.2.1 pc (.if_acmp .ne off) off tgt = true) (kt : ¬ x = y → Sm (V g M d tgt l st σ τ Q) F K) (kf : x = y → Sm (V g M d (pc + 3) l st σ τ Q) F K) : Sm (V g M d pc l (vr y :: vr x :: st) σ τ Q) F K :=
  fun hx H hR => U.acmp_ne hd (fun h => kt h hx H hR) (fun h => kf h hx H hR)
theorem sm_ifnull {x : Option Nat} (hd : dj M.2.1 pc (.ifnull off) off tgt = true) (kt : x = none → Sm (V g M d tgt l st σ τ Q) F K) (kf : ¬ x = none → Sm (V g M d (pc + 3) l st σ τ Q) F K) : Sm (V g M d pc l (vr x :: st) σ τ Q) F K :=
  fun hx H hR => U.ifnull hd (fun h => kt h hx H hR) (fun h => kf h hx H hR)
theorem sm_ifnonnull {x : Option Nat} (hd : dj M.2.1 pc (.ifnonnull off) off tgt = true) (kt : ¬ x = none → Sm (V g M d tgt l st σ τ Q) F K) (kf : x = none → Sm (V g M d (pc + 3) l st σ τ Q) F K) : Sm (V g M d pc l (vr x :: st) σ τ Q) F K :=
  fun hx H hR => U.ifnonnull hd (fun h => kt h hx H hR) (fun h => kf h hx H hR)
theorem sm_irem {x y : Int} (hd : d1 M.2.1 pc .irem 1 = true) (hy : ¬ Int32.ofInt y = 0) (k : Sm (V g M d (pc + 1) l (vi (iRem x y) :: st) σ τ Q) F K) : Sm (V g M d pc l (vi y :: vi x :: st) σ τ Q) F K := fun hx H hR => U.irem hd hy (k hx H hR)
theorem sm_idiv {x y : Int} (hd : d1 M.2.1 pc .idiv 1 = true) (hy : ¬ Int32.ofInt y = 0) (k : Sm (V g M d (pc + 1) l (vi (iDiv x y) :: st) σ τ Q) F K) : Sm (V g M d pc l (vi y :: vi x :: st) σ τ Q) F K := fun hx H hR => U.idiv hd hy (k hx H hR)
theorem U.ldiv {H : Heap} {rc rs : Nat} {Q : UQ} {x y : Int64} (hd : d1 M.2.1 pc .ldiv 1 = true) (hy : ¬ y = 0) (k : U g M d (pc + 1) l (vl (x / y) :: st) H rc rs Q) : U g M d pc l (vl y :: vl x :: st) H rc rs Q :=
  fun R s m args below meth c locs cells slots ls C hl hlo hc hs => lv_ldiv C.hx C.hb (of_decide_eq_true hd) hy (k R s m args below meth c locs cells slots ls C hl hlo hc hs)
theorem sm_ldiv {x y : Int64} (hd : d1 M.2.1 pc .ldiv 1 = true) (hy : ¬ y = 0) (k : Sm (V g M d (pc + 1) l (vl (x / y) :: st) σ τ Q) F K) : Sm (V g M d pc l (vl y :: vl x :: st) σ τ Q) F K := fun hx H hR => U.ldiv hd hy (k hx H hR)
theorem sm_ldc {i : Nat} {v : Int32} {x : Int} (hxv : Int32.ofInt x = v) (hd : d1 M.2.1 pc (.ldc i) 2 = true) (hw : Cond.constant M.1.cls i v ∈ lw_all) (k : Sm (V g M d (pc + 2) l (vi x :: st) σ τ Q) F K) : Sm (V g M d pc l st σ τ Q) F K := fun hx H hR => U.ldc hxv hd hw (k hx H hR)
theorem sm_ldcw {i : Nat} {v : Int32} {x : Int} (hxv : Int32.ofInt x = v) (hd : d1 M.2.1 pc (.ldc_w i) 3 = true) (hw : Cond.constant M.1.cls i v ∈ lw_all) (k : Sm (V g M d (pc + 3) l (vi x :: st) σ τ Q) F K) : Sm (V g M d pc l st σ τ Q) F K := fun hx H hR => U.ldcw hxv hd hw (k hx H hR)
theorem sm_ldc2 {i : Nat} {v : Int64} (hd : d1 M.2.1 pc (.ldc2_w i) 3 = true) (hw : Cond.constantLong M.1.cls i v ∈ lw_all) (k : Sm (V g M d (pc + 3) l (vl v :: st) σ τ Q) F K) : Sm (V g M d pc l st σ τ Q) F K := fun hx H hR => U.ldc2 hd hw (k hx H hR)
/-- a table's case, its default -/
def dt1 (cc : ByteArray) (pc : Nat) (df lo hi : Int) (os : Array Int) (n : Nat) (k : Int) (off : Int) (tgt : Nat) : Bool := decide (decode cc pc = .ok (.tableswitch df lo hi os, n)) && (decide (rg k) && (decide (¬ k < lo) && (decide (¬ hi < k) && (decide (os[(k - lo).toNat]? = some off) && decide ((pc : Int) + off = (tgt : Int))))))
theorem U.tcase {H : Heap} {rc rs : Nat} {Q : UQ} {df lo hi : Int} {os : Array Int} {n : Nat} {x k : Int} (hd : dt1 M.2.1 pc df lo hi os n k off tgt = true) (he : x = k) (kk : U g M d tgt l st H rc rs Q) : U g M d pc l (vi x :: st) H rc rs Q := by
  subst he
  simp only [dt1, Bool.and_eq_true, decide_eq_true_eq] at hd
  have h := rg_to hd.2.1
  exact fun R s m args below meth c locs cells slots ls C hl hlo hc hs => lv_tableIn C.hx C.hb hd.1 (by rw [h]; exact hd.2.2.1) (by rw [h]; exact hd.2.2.2.1) (by rw [h]; exact hd.2.2.2.2.1) hd.2.2.2.2.2 (kk R s m args below meth c locs cells slots ls C hl hlo hc hs)
theorem U.tdef {H : Heap} {rc rs : Nat} {Q : UQ} {df lo hi : Int} {os : Array Int} {n : Nat} {x : Int} (hrx : rg x) (hd : (decide (decode M.2.1 pc = .ok (.tableswitch df lo hi os, n)) && decide ((pc : Int) + df = (tgt : Int))) = true) (he : x < lo ∨ hi < x) (kk : U g M d tgt l st H rc rs Q) : U g M d pc l (vi x :: st) H rc rs Q := by
  simp only [Bool.and_eq_true, decide_eq_true_eq] at hd
  exact fun R s m args below meth c locs cells slots ls C hl hlo hc hs => lv_tableOut C.hx C.hb hd.1 (by rw [rg_to hrx]; exact he) hd.2 (kk R s m args below meth c locs cells slots ls C hl hlo hc hs)
theorem sm_tcase {df lo hi : Int} {os : Array Int} {n : Nat} {x k : Int} (hd : dt1 M.2.1 pc df lo hi os n k off tgt = true) (he : x = k) (kk : Sm (V g M d tgt l st σ τ Q) F K) : Sm (V g M d pc l (vi x :: st) σ τ Q) F K := fun hx H hR => U.tcase hd he (kk hx H hR)
theorem sm_tdef {df lo hi : Int} {os : Array Int} {n : Nat} {x : Int} (hrx : rg x) (hd : (decide (decode M.2.1 pc = .ok (.tableswitch df lo hi os, n)) && decide ((pc : Int) + df = (tgt : Int))) = true) (he : x < lo ∨ hi < x) (kk : Sm (V g M d tgt l st σ τ Q) F K) : Sm (V g M d pc l (vi x :: st) σ τ Q) F K := fun hx H hR => U.tdef hrx hd he (kk hx H hR)
/-! ends -/
theorem V.end1 {v : Option LV} {H : Heap} (hR : Rep g σ τ H) (h : Q.1 v σ τ) : (lQ g Q).1 v H (rC g σ) (rS g σ) := ⟨σ, τ, hR, rfl, rfl, h⟩
theorem sm_iret {x : Int} {r : X} (hr : M.2.2.2.1 = some .int) (hd : d1 M.2.1 pc .ireturn 1 = true) (hk : K r → Q.1 (some (vi x)) σ τ) : Sm (V g M d pc l (vi x :: st) σ τ Q) (some r) K := fun h H hR => U.iret hr hd (V.end1 hR (hk (Ex_some.mp h)))
theorem sm_zret {x : Int} {r : X} (hr : M.2.2.2.1 = some .boolean) (hd : d1 M.2.1 pc .ireturn 1 = true) (hz : zb x) (hk : K r → Q.1 (some (vi x)) σ τ) : Sm (V g M d pc l (vi x :: st) σ τ Q) (some r) K := fun h H hR => U.zret hr hd hz (V.end1 hR (hk (Ex_some.mp h)))
theorem sm_lret {x : Int64} {r : X} (hr : M.2.2.2.1 = some .long) (hd : d1 M.2.1 pc .lreturn 1 = true) (hk : K r → Q.1 (some (vl x)) σ τ) : Sm (V g M d pc l (vl x :: st) σ τ Q) (some r) K := fun h H hR => U.lret hr hd (V.end1 hR (hk (Ex_some.mp h)))
theorem sm_aret {x : Option Nat} {r : X} {ty : FieldType} (hr : M.2.2.2.1 = some ty) (hrf : ty.isReference = true) (hd : d1 M.2.1 pc .areturn 1 = true) (hk : K r → Q.1 (some (vr x)) σ τ) : Sm (V g M d pc l (vr x :: st) σ τ Q) (some r) K := fun h H hR => U.aret hr hrf hd (V.end1 hR (hk (Ex_some.mp h)))
theorem sm_vret {r : X} (hr : M.2.2.2.1 = none) (hd : d1 M.2.1 pc .return_ 1 = true) (hk : K r → Q.1 none σ τ) : Sm (V g M d pc l st σ τ Q) (some r) K := fun h H hR => U.vret hr hd (V.end1 hR (hk (Ex_some.mp h)))
/-! the reference's fields and arrays -/
theorem sm_tg {i k : Nat} {x : LV} (hw : gw g ≠ 0) (hl : Cond.fieldLink M.1.cls i (TX4 k).1 (TX4 k).2.1 (TX4 k).2.2.1 ∈ lw_all) (hk : Nat.ble (k + 1) 61 = true) (hv : (tfl g τ)[k]? = some (vV x)) (hd : d1 M.2.1 pc (.getfield i) 3 = true) (kk : Sm (V g M d (pc + 3) l (x :: st) σ τ Q) F K) : Sm (V g M d pc l (vr (some (gw g)) :: st) σ τ Q) F K :=
  fun hx H hR => U.gf cd4 (hR.tw hw).1 hk hl hv hd (kk hx H hR)
theorem sm_tp {i k : Nat} {x : LV} {τ' : TT} (hw : gw g ≠ 0) (hl : Cond.fieldLink M.1.cls i (TX4 k).1 (TX4 k).2.1 (TX4 k).2.2.1 ∈ lw_all) (hk : Nat.ble (k + 1) 61 = true) (hfin : (TX4 k).2.2.2 = false) (hn : narrow (tyX4 k) (vV x) = vV x) (hfit : fits (tyX4 k) (vV x) = true) (ht : tfl g τ' = (tfl g τ).set k (vV x)) (hA : ∀ j, tA τ' j = tA τ j) (hd : d1 M.2.1 pc (.putfield i) 3 = true) (kk : Sm (V g M d (pc + 3) l st σ τ' Q) F K) : Sm (V g M d pc l (x :: vr (some (gw g)) :: st) σ τ Q) F K :=
  fun hx H hR => U.pf cd4 (hR.tw hw).1 hk hl hfin hn hfit hk (hR.tw hw).2 hd (fun H' hp => kk hx H' (hR.putw hw (fun j _ => hA j) (by rw [ht]; exact hp)))
theorem sm_tpi {i k : Nat} {x : Int} (hw : gw g ≠ 0) (hl : Cond.fieldLink M.1.cls i (TX4 k).1 (TX4 k).2.1 (TX4 k).2.2.1 ∈ lw_all) (hk : Nat.ble (k + 1) 61 = true) (hfin : (TX4 k).2.2.2 = false) (hty : tyX4 k = .int) (ht : tfl g (uI τ k x) = (tfl g τ).set k (.int (Int32.ofInt x))) (hd : d1 M.2.1 pc (.putfield i) 3 = true) (kk : Sm (V g M d (pc + 3) l st σ (uI τ k x) Q) F K) : Sm (V g M d pc l (vi x :: vr (some (gw g)) :: st) σ τ Q) F K :=
  sm_tp hw hl hk hfin (by rw [hty]; rfl) (by rw [hty]; rfl) ht (fun _ => rfl) hd kk
theorem bz_fit {x : Int} (h : bz x) : fits .boolean (.int (Int32.ofInt x)) = true := by rcases h with rfl | rfl <;> decide
theorem sm_tpz {i k : Nat} {x : Int} (hw : gw g ≠ 0) (hl : Cond.fieldLink M.1.cls i (TX4 k).1 (TX4 k).2.1 (TX4 k).2.2.1 ∈ lw_all) (hk : Nat.ble (k + 1) 61 = true) (hfin : (TX4 k).2.2.2 = false) (hty : tyX4 k = .boolean) (ht : tfl g (uI τ k x) = (tfl g τ).set k (.int (Int32.ofInt x))) (hz : zb x) (hd : d1 M.2.1 pc (.putfield i) 3 = true) (kk : Sm (V g M d (pc + 3) l st σ (uI τ k x) Q) F K) : Sm (V g M d pc l (vi x :: vr (some (gw g)) :: st) σ τ Q) F K :=
  sm_tp hw hl hk hfin (by rw [hty]; simp [vV, narrow, bz_and hz]) (by rw [hty]; exact bz_fit hz) ht (fun _ => rfl) hd kk
theorem sm_tpj {i k : Nat} {x : Int64} (hw : gw g ≠ 0) (hl : Cond.fieldLink M.1.cls i (TX4 k).1 (TX4 k).2.1 (TX4 k).2.2.1 ∈ lw_all) (hk : Nat.ble (k + 1) 61 = true) (hfin : (TX4 k).2.2.2 = false) (hty : tyX4 k = .long) (ht : tfl g (uJ τ k x) = (tfl g τ).set k (.long x)) (hd : d1 M.2.1 pc (.putfield i) 3 = true) (kk : Sm (V g M d (pc + 3) l st σ (uJ τ k x) Q) F K) : Sm (V g M d pc l (vl x :: vr (some (gw g)) :: st) σ τ Q) F K :=
  sm_tp hw hl hk hfin (by rw [hty]; rfl) (by rw [hty]; rfl) ht (fun _ => rfl) hd kk
theorem sm_ial {i : Int} {k : Nat} (hw : gw g ≠ 0) (hk : tln k ≠ 0) (hkd : tkd k = 1) (hr : rg i) (hi : ib i (tln k)) (hd : d1 M.2.1 pc .iaload 1 = true) (kk : Sm (V g M d (pc + 1) l (vi (tA τ k i.toNat) :: st) σ τ Q) F K) : Sm (V g M d pc l (vi i :: vr (some (gT g k)) :: st) σ τ Q) F K :=
  fun hx H hR => U.iald hr rfl (by have h := (hR.ta hw hk).1; rw [hkd] at h; exact h) hi hd (kk hx H hR)
theorem sm_zal {i : Int} {k : Nat} (hw : gw g ≠ 0) (hk : tln k ≠ 0) (hkd : tkd k = 2) (hr : rg i) (hi : ib i (tln k)) (hd : d1 M.2.1 pc .baload 1 = true) (kk : Sm (V g M d (pc + 1) l (vi (tA τ k i.toNat) :: st) σ τ Q) F K) : Sm (V g M d pc l (vi i :: vr (some (gT g k)) :: st) σ τ Q) F K :=
  fun hx H hR => U.zald hr rfl (by have h := (hR.ta hw hk).1; rw [hkd] at h; exact h) hi hd (kk hx H hR)
theorem uA_self (τ : TT) (k i : Nat) (v : Int) : tA (uA τ k i v) k = up (tA τ k) i v := up_at _ _ _
theorem uA_ne (τ : TT) {k j : Nat} (i : Nat) (v : Int) (h : j ≠ k) : tA (uA τ k i v) j = tA τ j := up_ne _ _ h
theorem ofInt_up (f : Nat → Int) (i : Nat) (v : Int) : (fun j => Int32.ofInt (up f i v j)) = upd (fun j => Int32.ofInt (f j)) i (Int32.ofInt v) := by
  funext j
  unfold up upd
  split <;> rfl
theorem sm_ias {i x : Int} {k : Nat} (hw : gw g ≠ 0) (hk : tln k ≠ 0) (hkd : tkd k = 1) (hr : rg i) (hi : ib i (tln k)) (hd : d1 M.2.1 pc .iastore 1 = true) (kk : Sm (V g M d (pc + 1) l st σ (uA τ k i.toNat x) Q) F K) : Sm (V g M d pc l (vi x :: vi i :: vr (some (gT g k)) :: st) σ τ Q) F K :=
  fun hx H hR => U.iast hr (by have h := (hR.ta hw hk).1; rw [hkd] at h; exact h) hi (hR.ta hw hk).2 hd (fun H' hp => kk hx H' (hR.puta hw hk rfl (fun j _ e => uA_ne τ _ _ e) (by rw [hkd, uA_self, ofInt_up]; exact hp)))
theorem sm_zas {i x : Int} {k : Nat} (hw : gw g ≠ 0) (hk : tln k ≠ 0) (hkd : tkd k = 2) (hr : rg i) (hi : ib i (tln k)) (hz : zb x) (hd : d1 M.2.1 pc .bastore 1 = true) (kk : Sm (V g M d (pc + 1) l st σ (uA τ k i.toNat x) Q) F K) : Sm (V g M d pc l (vi x :: vi i :: vr (some (gT g k)) :: st) σ τ Q) F K :=
  fun hx H hR => U.zast hr (by have h := (hR.ta hw hk).1; rw [hkd] at h; exact h) hi (hR.ta hw hk).2 hz hd (fun H' hp => kk hx H' (hR.puta hw hk rfl (fun j _ e => uA_ne τ _ _ e) (by rw [hkd, uA_self, ofInt_up]; exact hp)))
/-! calls -/
theorem V.cv {C : String} {i b : Nat} (as rest : List LV) (hh : nocov M pc = true) (hdg : d1 M.2.1 pc (.invokevirtual i) 3 = true) (hlink : Cond.methodLink M.1.cls i N.1 ∈ lw_all) (hinst : Cond.instanceMethod N.1 ∈ lw_all) (hsel : Cond.selects C N.1 N.1 ∈ lw_all) (hcode : CI N) (hy : okN N.1 as.length = true)
    (hrv : ∀ H, Rep g σ τ H → Rv g C b H) (hst : st = as.reverse ++ vr (some b) :: rest) (has : Nat.ble (lW (vr (some b) :: as)) N.2.2.1 = true) (hd : d' + 1 ≤ d) (hw : Nat.ble (2 * rest.length + N.2.2.1 + 11) 64 = true)
    (k : V g N d' 0 (lA 0 (vr (some b) :: as)) [] σ τ (fun v σ' τ' => V g M d (pc + 3) l (v.toList ++ rest) σ' τ' Q, Q.2)) : V g M d pc l st σ τ Q := by
  intro H hR
  refine U.cv as rest hh hdg hlink hinst hsel hcode hy (hrv H hR) hst has hd hw ((k H hR).mono ?_ ?_)
  · intro v H' rc' rs' h
    obtain ⟨σ', τ', hR', rfl, rfl, hq⟩ := h
    exact hq H' hR'
  · intro v H' rc' rs' h
    exact h
theorem V.cs {i : Nat} (as rest : List LV) (hh : nocov M pc = true) (hdg : d1 M.2.1 pc (.invokestatic i) 3 = true) (hlink : Cond.methodLink M.1.cls i N.1 ∈ lw_all) (hstat : Cond.static N.1 ∈ lw_all) (hinit : Cond.initialized N.1.cls ∈ lw_all) (hcode : CI N) (hy : okN N.1 as.length = true)
    (hst : st = as.reverse ++ rest) (has : Nat.ble (lW as) N.2.2.1 = true) (hd : d' + 1 ≤ d) (hw : Nat.ble (2 * rest.length + N.2.2.1 + 11) 64 = true)
    (k : V g N d' 0 (lA 0 as) [] σ τ (fun v σ' τ' => V g M d (pc + 3) l (v.toList ++ rest) σ' τ' Q, Q.2)) : V g M d pc l st σ τ Q := by
  intro H hR
  refine U.cs as rest hh hdg hlink hstat hinit hcode hy hst has hd hw ((k H hR).mono ?_ ?_)
  · intro v H' rc' rs' h
    obtain ⟨σ', τ', hR', rfl, rfl, hq⟩ := h
    exact hq H' hR'
  · intro v H' rc' rs' h
    exact h
/-- the reference's object is one of its class -/
theorem Rep.rvw {H : Heap} (G : GF g) (hR : Rep g σ τ H) (hw : gw g ≠ 0) : Rv g "WireSchemasModel" (gw g) H := by
  obtain ⟨r, h1, cell, q1, q2, q3, q4⟩ := (hR.tw hw).1
  have hr : r = (RX4, TX4, 61) := Option.some.inj (h1.symm.trans cd4.1)
  subst hr
  obtain ⟨-, hfc, -⟩ := G.2.2.1 4 _ cd4.1
  exact ⟨cell, q1, by rw [q3]; rfl, by rw [q2]; exact hfc⟩
theorem sm_cv {C : String} {i b : Nat} {F : Option Y} {G : Y → Option X} (ret : Y → Option LV) (ns : Y → ST) (nt : Y → TT) (as rest : List LV) (hh : nocov M pc = true) (hdg : d1 M.2.1 pc (.invokevirtual i) 3 = true) (hlink : Cond.methodLink M.1.cls i N.1 ∈ lw_all) (hinst : Cond.instanceMethod N.1 ∈ lw_all) (hsel : Cond.selects C N.1 N.1 ∈ lw_all) (hcode : CI N) (hy : okN N.1 as.length = true)
    (hrv : ∀ H, Rep g σ τ H → Rv g C b H) (hst : st = as.reverse ++ vr (some b) :: rest) (has : Nat.ble (lW (vr (some b) :: as)) N.2.2.1 = true) (hd : d' + 1 ≤ d) (hw : Nat.ble (2 * rest.length + N.2.2.1 + 11) 64 = true)
    (thm : ∀ Q' : VQ, Sm (V g N d' 0 (lA 0 (vr (some b) :: as)) [] σ τ Q') F (fun y => Q'.1 (ret y) (ns y) (nt y))) (kk : ∀ y, Sm (V g M d (pc + 3) l ((ret y).toList ++ rest) (ns y) (nt y) Q) (G y) K) : Sm (V g M d pc l st σ τ Q) (F.bind G) K :=
  fun hx => V.cv as rest hh hdg hlink hinst hsel hcode hy hrv hst has hd hw (thm _ ((Ex_bind.mp hx).mono fun y hy => kk y hy))
theorem sm_cs {i : Nat} {F : Option Y} {G : Y → Option X} (ret : Y → Option LV) (ns : Y → ST) (nt : Y → TT) (as rest : List LV) (hh : nocov M pc = true) (hdg : d1 M.2.1 pc (.invokestatic i) 3 = true) (hlink : Cond.methodLink M.1.cls i N.1 ∈ lw_all) (hstat : Cond.static N.1 ∈ lw_all) (hinit : Cond.initialized N.1.cls ∈ lw_all) (hcode : CI N) (hy : okN N.1 as.length = true)
    (hst : st = as.reverse ++ rest) (has : Nat.ble (lW as) N.2.2.1 = true) (hd : d' + 1 ≤ d) (hw : Nat.ble (2 * rest.length + N.2.2.1 + 11) 64 = true)
    (thm : ∀ Q' : VQ, Sm (V g N d' 0 (lA 0 as) [] σ τ Q') F (fun y => Q'.1 (ret y) (ns y) (nt y))) (kk : ∀ y, Sm (V g M d (pc + 3) l ((ret y).toList ++ rest) (ns y) (nt y) Q) (G y) K) : Sm (V g M d pc l st σ τ Q) (F.bind G) K :=
  fun hx => V.cs as rest hh hdg hlink hstat hinit hcode hy hst has hd hw (thm _ ((Ex_bind.mp hx).mono fun y hy => kk y hy))
/-- a call whose image is known to answer, within an expression -/
theorem sm_cvp {C : String} {i b : Nat} {F : Option Y} {F' : Option X} (ret : Y → Option LV) (rv : Option LV) (hok : ok F) (hret : ∀ y, F = some y → ret y = rv) (as rest : List LV) (hh : nocov M pc = true) (hdg : d1 M.2.1 pc (.invokevirtual i) 3 = true) (hlink : Cond.methodLink M.1.cls i N.1 ∈ lw_all) (hinst : Cond.instanceMethod N.1 ∈ lw_all) (hsel : Cond.selects C N.1 N.1 ∈ lw_all) (hcode : CI N) (hy : okN N.1 as.length = true)
    (hrv : ∀ H, Rep g σ τ H → Rv g C b H) (hst : st = as.reverse ++ vr (some b) :: rest) (has : Nat.ble (lW (vr (some b) :: as)) N.2.2.1 = true) (hd : d' + 1 ≤ d) (hw : Nat.ble (2 * rest.length + N.2.2.1 + 11) 64 = true)
    (thm : ∀ Q' : VQ, Sm (V g N d' 0 (lA 0 (vr (some b) :: as)) [] σ τ Q') F (fun y => Q'.1 (ret y) σ τ)) (kk : Sm (V g M d (pc + 3) l (rv.toList ++ rest) σ τ Q) F' K) : Sm (V g M d pc l st σ τ Q) F' K := by
  intro hx
  cases hF : F with
  | none => rw [hF] at hok; cases hok
  | some y =>
    refine V.cv as rest hh hdg hlink hinst hsel hcode hy hrv hst has hd hw (thm _ ⟨y, hF, ?_⟩)
    show V g M d (pc + 3) l ((ret y).toList ++ rest) σ τ Q
    rw [hret y hF]
    exact kk hx
theorem sm_csp {i : Nat} {F : Option Y} {F' : Option X} (ret : Y → Option LV) (rv : Option LV) (hok : ok F) (hret : ∀ y, F = some y → ret y = rv) (as rest : List LV) (hh : nocov M pc = true) (hdg : d1 M.2.1 pc (.invokestatic i) 3 = true) (hlink : Cond.methodLink M.1.cls i N.1 ∈ lw_all) (hstat : Cond.static N.1 ∈ lw_all) (hinit : Cond.initialized N.1.cls ∈ lw_all) (hcode : CI N) (hy : okN N.1 as.length = true)
    (hst : st = as.reverse ++ rest) (has : Nat.ble (lW as) N.2.2.1 = true) (hd : d' + 1 ≤ d) (hw : Nat.ble (2 * rest.length + N.2.2.1 + 11) 64 = true)
    (thm : ∀ Q' : VQ, Sm (V g N d' 0 (lA 0 as) [] σ τ Q') F (fun y => Q'.1 (ret y) σ τ)) (kk : Sm (V g M d (pc + 3) l (rv.toList ++ rest) σ τ Q) F' K) : Sm (V g M d pc l st σ τ Q) F' K := by
  intro hx
  cases hF : F with
  | none => rw [hF] at hok; cases hok
  | some y =>
    refine V.cs as rest hh hdg hlink hstat hinit hcode hy hst has hd hw (thm _ ⟨y, hF, ?_⟩)
    show V g M d (pc + 3) l ((ret y).toList ++ rest) σ τ Q
    rw [hret y hF]
    exact kk hx
theorem vv_some {F : Option Int} {y : Int} (h : F = some y) : vv F = y := by rw [h]; rfl
theorem vw_some {F : Option Int64} {y : Int64} (h : F = some y) : vw F = y := by rw [h]; rfl
theorem vo_some {F : Option (Option Nat)} {y : Option Nat} (h : F = some y) : vo F = y := by rw [h]; rfl
end SmR
