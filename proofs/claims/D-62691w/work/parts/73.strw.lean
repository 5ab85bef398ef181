set_option maxRecDepth 100000
/-! STRING CONSTANTS: String.length, String.charAt over them -/
/-- a constant's own cells, in the heap of the start -/
def StrC (g : GE) (k : Nat) : Prop := ∃ v : Nat, va_O "java/lang/String" (gK g k) (gA g) (gs g) (gs g).heap ∧ va_OF "java/lang/String" "coder" "B" (.int 0) (gK g k) (gA g) (gs g) (gs g).heap ∧ va_OF "java/lang/String" "value" "[B" (.ref v) (gK g k) (gA g) (gs g) (gs g).heap ∧ va_T .byte v (slen k) (fun j => .int (Int32.ofInt (sch k j : Nat))) (gA g) (gs g) (gs g).heap
def StrZ (g : GE) : Prop := va_Z "java/lang/String" "COMPACT_STRINGS" "Z" (.int 1) (gA g) (gs g) (gs g).heap ∧ va_Zq "jdk/internal/util/Preconditions" "SIOOBE_FORMATTER" "Ljava/util/function/BiFunction;" (gA g) (gs g) (gs g).heap
theorem strs_small : ∀ l ∈ STRS, ∀ b ∈ l, b < 128 := by decide +kernel
theorem sch_small (k j : Nat) : sch k j < 128 := by
  have h1 : ∀ b ∈ sx k, b < 128 := by
    intro b hb
    unfold sx at hb
    rw [List.getD_eq_getElem?_getD] at hb
    cases h : STRS[k]? with
    | none => rw [h] at hb; exact strs_small _ (by decide +kernel) b hb
    | some l => rw [h] at hb; exact strs_small l (List.mem_of_getElem? h) b hb
  unfold sch
  rw [List.getD_eq_getElem?_getD]
  cases h : (sx k)[j]? with
  | none => exact (by decide : (0 : Nat) < 128)
  | some b => exact h1 b (List.mem_of_getElem? h)
theorem sbyte {n : Nat} (h : n < 128) : iAnd (n : Int) 255 = (n : Int) := by
  have : ∀ m : Fin 128, iAnd ((m.val : Nat) : Int) 255 = ((m.val : Nat) : Int) := by decide +kernel
  exact this ⟨n, h⟩
theorem schar {n : Nat} (h : n < 128) : ((Int32.ofInt (n : Int)).toUInt32 % 65536).toInt32 = Int32.ofInt (n : Int) := by
  have : ∀ m : Fin 128, ((Int32.ofInt ((m.val : Nat) : Int)).toUInt32 % 65536).toInt32 = Int32.ofInt ((m.val : Nat) : Int) := by decide +kernel
  exact this ⟨n, h⟩
theorem snarc {n : Nat} (h : n < 128) : narrow .char (.int (Int32.ofInt (n : Int))) = .int (Int32.ofInt (n : Int)) := by
  have : ∀ m : Fin 128, narrow .char (.int (Int32.ofInt ((m.val : Nat) : Int))) = .int (Int32.ofInt ((m.val : Nat) : Int)) := by decide +kernel
  exact this ⟨n, h⟩
section StrW
variable {g : GE} {M N : Mt} {d d' pc : Nat} {l l' : List (Nat × LV)} {st st' : List LV} {H : Heap} {rc rs : Nat} {Q : UQ} {σ : ST} {τ : TT}
theorem U.getO {o n dd : String} {i q : Nat} {x : LV} (hE : va_OF o n dd (vV x) q (gA g) (gs g) (gs g).heap) (hlow : LowH g H) (hl : Cond.fieldLink M.1.cls i o n dd ∈ lw_all) (hd : d1 M.2.1 pc (.getfield i) 3 = true) (kk : U g M d (pc + 3) l (x :: st) H rc rs Q) : U g M d pc l (vr (some q) :: st) H rc rs Q := by
  intro R s m args below meth c locs cells slots ls C0 hl0 hlo hc hs
  obtain ⟨cf, k, fi, f, cell, h1, h2, h3, h4, h5, h6⟩ := va_OF.moved C0.warm.alike hE
  exact W.getf C0.hx C0.hb C0.hown (C0.word hl args) h1 h2 (by rw [hlow q (Nat.not_le.mp h6)]; exact h3) h4 (v := vV x) h5 rfl rfl (of_decide_eq_true hd) (kk R s m args below meth c locs cells slots ls C0 hl0 hlo hc hs)
theorem U.getsV {C n dd : String} {i : Nat} {x : LV} (hZ : va_Z C n dd (vV x) (gA g) (gs g) (gs g).heap) (hlow : LowH g H) (hl : Cond.fieldLink M.1.cls i C n dd ∈ lw_all) (hd : d1 M.2.1 pc (.getstatic i) 3 = true) (kk : U g M d (pc + 3) l (x :: st) H rc rs Q) : U g M d pc l st H rc rs Q := by
  intro R s m args below meth c locs cells slots ls C0 hl0 hlo hc hs
  obtain ⟨cf, kf, fi, f, a, cell, h1, h2, h3, h4, h5, h6, h7, h8⟩ := va_Z.moved C0.warm.alike hZ
  exact W.gets C0.hx C0.hb C0.hown (C0.word hl args) h1 h2 h3 h4 (by rw [hlow a (Nat.not_le.mp h8)]; exact h5) (fun e => by rw [e] at h6; cases h6) h7 rfl (of_decide_eq_true hd) (kk R s m args below meth c locs cells slots ls C0 hl0 hlo hc hs)
theorem U.tlen {ty : FieldType} {t n : Nat} {f : Nat → Value} (hT : va_T ty t n f (gA g) (gs g) (gs g).heap) (hlow : LowH g H) (hd : d1 M.2.1 pc .arraylength 1 = true) (kk : U g M d (pc + 1) l (vi (n : Nat) :: st) H rc rs Q) : U g M d pc l (vr (some t) :: st) H rc rs Q := by
  intro R s m args below meth c locs cells slots ls C0 hl0 hlo hc hs
  obtain ⟨cell, h1, h2, h3, h4, h5, h6, h7⟩ := va_T.moved C0.warm.alike hT
  have hk := kk R s m args below meth c locs cells slots ls C0 hl0 hlo hc hs
  rw [vV_e (Int32.ofInt_eq_ofNat)] at hk
  exact W.alen (n := Int32.ofNat n) C0.hx C0.hb (by rw [hlow t (Nat.not_le.mp h7)]; exact h1) h2 h5 rfl rfl (of_decide_eq_true hd) hk
theorem U.tb {t n : Nat} {f : Nat → Value} {i : Int} {x : LV} (hT : va_T .byte t n f (gA g) (gs g) (gs g).heap) (hlow : LowH g H) (hri : rg i) (hin : 0 ≤ i ∧ i < n) (hv : f i.toNat = vV x) (hd : d1 M.2.1 pc .baload 1 = true) (kk : U g M d (pc + 1) l (x :: st) H rc rs Q) : U g M d pc l (vi i :: vr (some t) :: st) H rc rs Q := by
  intro R s m args below meth c locs cells slots ls C0 hl0 hlo hc hs
  obtain ⟨cell, h1, h2, h3, h4, h5, h6, h7⟩ := va_T.moved C0.warm.alike hT
  have hcl := clamp hri hin.1
  have hin0 := in_vp hri hin
  exact W.bald (v := vV x) (j := Int32.ofInt i) C0.hx C0.hb (by rw [hlow t (Nat.not_le.mp h7)]; exact h1) h2 h3 (fun q => hin0 (by rcases q with q | q; exact Or.inl q; exact Or.inr (by omega))) (by rw [hcl, h6 _ (by omega), hv]) rfl rfl (of_decide_eq_true hd) (kk R s m args below meth c locs cells slots ls C0 hl0 hlo hc hs)
theorem U.ti {t n : Nat} {f : Nat → Value} {i : Int} {x : LV} (hT : va_T .int t n f (gA g) (gs g) (gs g).heap) (hlow : LowH g H) (hri : rg i) (hin : 0 ≤ i ∧ i < n) (hv : f i.toNat = vV x) (hd : d1 M.2.1 pc .iaload 1 = true) (kk : U g M d (pc + 1) l (x :: st) H rc rs Q) : U g M d pc l (vi i :: vr (some t) :: st) H rc rs Q := by
  intro R s m args below meth c locs cells slots ls C0 hl0 hlo hc hs
  obtain ⟨cell, h1, h2, h3, h4, h5, h6, h7⟩ := va_T.moved C0.warm.alike hT
  have hcl := clamp hri hin.1
  have hin0 := in_vp hri hin
  exact W.iald (v := vV x) (j := Int32.ofInt i) C0.hx C0.hb (by rw [hlow t (Nat.not_le.mp h7)]; exact h1) h2 h3 (fun q => hin0 (by rcases q with q | q; exact Or.inl q; exact Or.inr (by omega))) (by rw [hcl, h6 _ (by omega), hv]) rfl rfl (of_decide_eq_true hd) (kk R s m args below meth c locs cells slots ls C0 hl0 hlo hc hs)
theorem U.i2c {x : Int} (hx : ((Int32.ofInt x).toUInt32 % 65536).toInt32 = Int32.ofInt x) (hd : d1 M.2.1 pc .i2c 1 = true) (kk : U g M d (pc + 1) l (vi x :: st) H rc rs Q) : U g M d pc l (vi x :: st) H rc rs Q :=
  fun R s m args below meth c locs cells slots ls C0 hl0 hlo hc hs => lv_i2c C0.hx C0.hb (of_decide_eq_true hd) hx (kk R s m args below meth c locs cells slots ls C0 hl0 hlo hc hs)
set_option maxHeartbeats 1000000 in
theorem U.nret {x : Int} {ty : FieldType} (hty : ty = .char ∨ ty = .byte) (hr : M.2.2.2.1 = some ty) (hn : narrow ty (.int (Int32.ofInt x)) = .int (Int32.ofInt x)) (hd : d1 M.2.1 pc .ireturn 1 = true) (hq : Q.1 (some (vi x)) H rc rs) : U g M d pc l (vi x :: st) H rc rs Q := by
  intro R s m args below meth c locs cells slots ls C hl hlo hc hs T hT X
  subst hT
  obtain ⟨fs, hret, hrun, hended, hW, hframe⟩ := X.leave (v := some (.int (Int32.ofInt x))) (fun h => by rw [C.hr, hr] at h; cases h) C.hlk
  have hmeth' : T.vm.method? m = some meth := X.method'
  have hr' := C.hr
  rw [hr] at hr'
  have hdd : decode M.2.1 pc = .ok (.ireturn, 1) := of_decide_eq_true hd
  refine ⟨T.setFrames fs, ?_, EQ.ret X hlo hc hs (some (vi x)) hq hrun hended hW hframe⟩
  show Steps _ _ _ (T.setTop (F0 m pc ls (.int (Int32.ofInt x) :: sV st))) _
  rcases hty with rfl | rfl
  · jvm_step X.here [X.here.top, C.hx, C.hb, hdd, hmeth', hr', hn]
    (try refine ⟨rfl, ?_⟩); (try refine ⟨rfl, ?_⟩)
    first | (intro acts; rw [hret _ acts rfl rfl rfl]) | rw [hret _ _ rfl rfl rfl]
    exact Steps.refl _
  · jvm_step X.here [X.here.top, C.hx, C.hb, hdd, hmeth', hr', hn]
    (try refine ⟨rfl, ?_⟩); (try refine ⟨rfl, ?_⟩)
    first | (intro acts; rw [hret _ acts rfl rfl rfl]) | rw [hret _ _ rfl rfl rfl]
    exact Steps.refl _
theorem U.coder {q : Nat} (hZ : StrZ g) (hco : va_OF "java/lang/String" "coder" "B" (.int 0) q (gA g) (gs g) (gs g).heap) (hlow : LowH g H) (hq : Q.1 (some (vi 0)) H rc rs) : U g mJ3_coder d 0 [(0, vr (some q))] [] H rc rs Q := by
  refine U.getsV (x := vi 1) hZ.1 hlow q397 (by decide +kernel) ?_
  refine U.if_eq (off := 10) (tgt := 13) (by decide) (by decide +kernel) (fun c => absurd c (by decide)) (fun c => ?_)
  refine U.b (l' := [(0, vr (some q))]) (st' := [vr (some q)]) (pc' := 7) (is := [(.aload_n 0, vi 0, 7)]) (by decide +kernel) rfl rfl ?_
  refine U.getO (x := vi 0) hco hlow q2060 (by decide +kernel) ?_
  refine U.b (l' := [(0, vr (some q))]) (st' := [vi 0]) (pc' := 14) (is := [(.goto 4, vi 0, 14)]) (by decide +kernel) rfl rfl ?_
  exact U.nret (Or.inr rfl) rfl (by decide +kernel) (by decide +kernel) hq
theorem U.latin {q : Nat} (hZ : StrZ g) (hco : va_OF "java/lang/String" "coder" "B" (.int 0) q (gA g) (gs g) (gs g).heap) (hlow : LowH g H) (hq : Q.1 (some (vi 1)) H rc rs) : U g mJ3_isLatin1 d 0 [(0, vr (some q))] [] H rc rs Q := by
  refine U.getsV (x := vi 1) hZ.1 hlow q397 (by decide +kernel) ?_
  refine U.if_eq (off := 14) (tgt := 17) (by decide) (by decide +kernel) (fun c => absurd c (by decide)) (fun c => ?_)
  refine U.b (l' := [(0, vr (some q))]) (st' := [vr (some q)]) (pc' := 7) (is := [(.aload_n 0, vi 0, 7)]) (by decide +kernel) rfl rfl ?_
  refine U.getO (x := vi 0) hco hlow q2060 (by decide +kernel) ?_
  refine U.if_ne (off := 7) (tgt := 17) (by decide) (by decide +kernel) (fun c => absurd rfl c) (fun c => ?_)
  refine U.b (l' := [(0, vr (some q))]) (st' := [vi 1]) (pc' := 18) (is := [(.iconst 1, vi 1, 14), (.goto 4, vi 0, 18)]) (by decide +kernel) rfl rfl ?_
  exact U.zret rfl (by decide +kernel) (Or.inr rfl) hq
theorem U.chk3 {x n : Int} {y : Option Nat} (hx : 0 ≤ x ∧ x < n) (hn : rg n) (hq : Q.1 (some (vi x)) H rc rs) : U g mJ5_checkIndex d 0 [(0, vi x), (1, vi n), (2, vr y)] [] H rc rs Q := by
  have hrx : rg x := ⟨by omega, by have := hn.2; omega⟩
  refine U.b (l' := [(0, vi x), (1, vi n), (2, vr y)]) (st' := [vi x]) (pc' := 1) (is := [(.iload_n 0, vi 0, 1)]) (by decide +kernel) rfl rfl ?_
  refine U.if_lt (off := 8) (tgt := 9) hrx (by decide +kernel) (fun c => by omega) (fun c => ?_)
  refine U.b (l' := [(0, vi x), (1, vi n), (2, vr y)]) (st' := [vi n, vi x]) (pc' := 6) (is := [(.iload_n 0, vi 0, 5), (.iload_n 1, vi 0, 6)]) (by decide +kernel) rfl rfl ?_
  refine U.icmp_lt (off := 10) (tgt := 16) hrx hn (by decide +kernel) (fun c => ?_) (fun c => by omega)
  refine U.b (l' := [(0, vi x), (1, vi n), (2, vr y)]) (st' := [vi x]) (pc' := 17) (is := [(.iload_n 0, vi 0, 17)]) (by decide +kernel) rfl rfl ?_
  exact U.iret rfl (by decide +kernel) hq
theorem U.sck {x n : Int} (hZ : StrZ g) (hlow : LowH g H) (hd1 : 1 ≤ d) (hx : 0 ≤ x ∧ x < n) (hn : rg n) (hq : Q.1 none H rc rs) : U g mJ3_checkIndex d 0 [(0, vi x), (1, vi n)] [] H rc rs Q := by
  have hf : ∃ y : Option Nat, va_Z "jdk/internal/util/Preconditions" "SIOOBE_FORMATTER" "Ljava/util/function/BiFunction;" (vV (vr y)) (gA g) (gs g) (gs g).heap := by
    rcases hZ.2 with h | ⟨t, h⟩
    · exact ⟨none, h⟩
    · exact ⟨some t, h⟩
  obtain ⟨y, hy⟩ := hf
  refine U.b (l' := [(0, vi x), (1, vi n)]) (st' := [vi n, vi x]) (pc' := 2) (is := [(.iload_n 0, vi 0, 1), (.iload_n 1, vi 0, 2)]) (by decide +kernel) rfl rfl ?_
  refine U.getsV (x := vr y) hy hlow q413 (by decide +kernel) ?_
  refine U.cs (N := mJ5_checkIndex) (d' := d - 1) [vi x, vi n, vr y] [] rfl (by decide +kernel) q415 q416 q143 (Or.inl ⟨rfl, q417⟩) (show okN yJ5_checkIndex 3 = true by decide +kernel) rfl rfl (by omega) rfl ?_
  refine U.chk3 hx hn ?_
  refine U.b (l' := [(0, vi x), (1, vi n)]) (st' := []) (pc' := 9) (is := [(.pop, vi 0, 9)]) (by decide +kernel) rfl rfl ?_
  exact U.vret rfl (by decide +kernel) hq
theorem U.strlen {k : Nat} (hS : StrC g k) (hZ : StrZ g) (hlow : LowH g H) (hrv : Rv g "java/lang/String" (gK g k) H) (hd1 : 1 ≤ d) (hq : Q.1 (some (vi (slen k))) H rc rs) : U g mJ3_length d 0 [(0, vr (some (gK g k)))] [] H rc rs Q := by
  obtain ⟨v, h1, h2, h3, h4⟩ := hS
  refine U.b (l' := [(0, vr (some (gK g k)))]) (st' := [vr (some (gK g k))]) (pc' := 1) (is := [(.aload_n 0, vi 0, 1)]) (by decide +kernel) rfl rfl ?_
  refine U.getO (x := vr (some v)) h3 hlow q2059 (by decide +kernel) ?_
  refine U.tlen h4 hlow (by decide +kernel) ?_
  refine U.b (l' := [(0, vr (some (gK g k)))]) (st' := [vr (some (gK g k)), vi (slen k : Nat)]) (pc' := 6) (is := [(.aload_n 0, vi 0, 6)]) (by decide +kernel) rfl rfl ?_
  refine U.cv (N := mJ3_coder) (d' := d - 1) [] [vi (slen k : Nat)] rfl (by decide +kernel) q393 q394 q395 (Or.inl ⟨rfl, q396⟩) (show okN yJ3_coder 0 = true by decide +kernel) hrv rfl rfl (by omega) rfl ?_
  refine U.coder hZ h2 hlow ?_
  refine U.b (l' := [(0, vr (some (gK g k)))]) (st' := [vi (iShr (slen k : Nat) 0)]) (pc' := 10) (is := [(.ishr, vi 0, 10)]) (by decide +kernel) rfl rfl ?_
  have e : iShr ((slen k : Nat) : Int) 0 = ((slen k : Nat) : Int) := by
    have h := iShr_eq ((slen k : Nat) : Int) 0 (slen_rg k) (by decide)
    rw [show (2 : Int) ^ 0 = 1 from rfl, Int.ediv_one] at h
    exact h
  rw [e]
  exact U.iret rfl (by decide +kernel) hq
theorem U.strch {k : Nat} {i : Int} (hS : StrC g k) (hZ : StrZ g) (hlow : LowH g H) (hrv : Rv g "java/lang/String" (gK g k) H) (hd1 : 3 ≤ d) (hi : ib i (slen k)) (hq : Q.1 (some (vi (sch k i.toNat))) H rc rs) : U g mJ3_charAt d 0 [(0, vr (some (gK g k))), (1, vi i)] [] H rc rs Q := by
  obtain ⟨v, h1, h2, h3, h4⟩ := hS
  have hsl := slen_rg k
  have hri : rg i := ⟨by have := hi.1; omega, by have := hi.2; have := hsl.2; omega⟩
  have hch := sch_small k i.toNat
  refine U.b (l' := [(0, vr (some (gK g k))), (1, vi i)]) (st' := [vr (some (gK g k))]) (pc' := 1) (is := [(.aload_n 0, vi 0, 1)]) (by decide +kernel) rfl rfl ?_
  refine U.cv (N := mJ3_isLatin1) (d' := d - 1) [] [] rfl (by decide +kernel) q403 q404 q405 (Or.inl ⟨rfl, q406⟩) (show okN yJ3_isLatin1 0 = true by decide +kernel) hrv rfl rfl (by omega) rfl ?_
  refine U.latin hZ h2 hlow ?_
  refine U.if_eq (off := 12) (tgt := 16) (by decide) (by decide +kernel) (fun c => absurd c (by decide)) (fun c => ?_)
  refine U.b (l' := [(0, vr (some (gK g k))), (1, vi i)]) (st' := [vr (some (gK g k))]) (pc' := 8) (is := [(.aload_n 0, vi 0, 8)]) (by decide +kernel) rfl rfl ?_
  refine U.getO (x := vr (some v)) h3 hlow q2059 (by decide +kernel) ?_
  refine U.b (l' := [(0, vr (some (gK g k))), (1, vi i)]) (st' := [vi i, vr (some v)]) (pc' := 12) (is := [(.iload_n 1, vi 0, 12)]) (by decide +kernel) rfl rfl ?_
  refine U.cs (N := mJ4_charAt) (d' := d - 1) [vr (some v), vi i] [] rfl (by decide +kernel) q407 q408 q142 (Or.inl ⟨rfl, q409⟩) (show okN yJ4_charAt 2 = true by decide +kernel) rfl rfl (by omega) rfl ?_
  refine U.b (l' := [(0, vr (some v)), (1, vi i)]) (st' := [vr (some v), vi i]) (pc' := 2) (is := [(.iload_n 1, vi 0, 1), (.aload_n 0, vi 0, 2)]) (by decide +kernel) rfl rfl ?_
  refine U.tlen h4 hlow (by decide +kernel) ?_
  refine U.cs (N := mJ3_checkIndex) (d' := d - 2) [vi i, vi (slen k : Nat)] [] rfl (by decide +kernel) q410 q411 q141 (Or.inl ⟨rfl, q412⟩) (show okN yJ3_checkIndex 2 = true by decide +kernel) rfl rfl (by omega) rfl ?_
  refine U.sck hZ hlow (by omega) hi hsl ?_
  refine U.b (l' := [(0, vr (some v)), (1, vi i)]) (st' := [vi i, vr (some v)]) (pc' := 8) (is := [(.aload_n 0, vi 0, 7), (.iload_n 1, vi 0, 8)]) (by decide +kernel) rfl rfl ?_
  refine U.tb (x := vi (sch k i.toNat : Nat)) h4 hlow hri hi rfl (by decide +kernel) ?_
  refine U.b (l' := [(0, vr (some v)), (1, vi i)]) (st' := [vi (iAnd (sch k i.toNat : Nat) 255)]) (pc' := 13) (is := [(.sipush 255, vi 255, 12), (.iand, vi 0, 13)]) (by decide +kernel) rfl rfl ?_
  rw [sbyte hch]
  refine U.i2c (schar hch) (by decide +kernel) ?_
  refine U.nret (Or.inl rfl) rfl (snarc hch) (by decide +kernel) ?_
  exact U.nret (Or.inl rfl) rfl (snarc hch) (by decide +kernel) hq
end StrW
