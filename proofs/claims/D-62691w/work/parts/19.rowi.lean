set_option maxRecDepth 100000
/-! a new row; a row is cleared; bytes of an array or of a row come behind a row; two rows are the same -/
section RowI
variable {g : GE} {M N : Mt} {d d' pc pc' tgt : Nat} {off : Int} {l l' : List (Nat × LV)} {st st' : List LV} {σ σ' : ST} {τ : TT} {Q : VQ} {X Y : Type} {F A B : Option X} {K : X → Prop} {P : Prop} {H H' : Heap} {own : Nat → Nat}
theorem U.gets {rc rs : Nat} {Q : UQ} {C n dd : String} {i z : Nat} (hZ : va_Z C n dd (.ref z) (fun q => gB g ≤ q) (gs g) (gs g).heap) (hlow : ∀ q, q < gB g → H[q]? = (gs g).heap[q]?) (hl : Cond.fieldLink M.1.cls i C n dd ∈ lw_all) (hd : d1 M.2.1 pc (.getstatic i) 3 = true) (kk : U g M d (pc + 3) l (vr (some z) :: st) H rc rs Q) : U g M d pc l st H rc rs Q := by
  intro R s m args below meth c locs cells slots ls C0 hl0 hlo hc hs
  obtain ⟨cf, kf, fi, f, a, cell, h1, h2, h3, h4, h5, h6, h7, h8⟩ := va_Z.moved C0.warm.alike hZ
  exact W.gets C0.hx C0.hb C0.hown (C0.word hl args) h1 h2 h3 h4 (by rw [hlow a (by omega)]; exact h5) (fun e => by rw [e] at h6; cases h6) h7 rfl (of_decide_eq_true hd) (kk R s m args below meth c locs cells slots ls C0 hl0 hlo hc hs)
theorem U.obj {rc rs : Nat} {Q : UQ} {i a : Nat} (hlink : Cond.methodLink M.1.cls i Lib.objectInit ∈ lw_all) (hd1 : 1 ≤ d) (hw : Nat.ble (2 * st.length + 12) 64 = true) (hd : d1 M.2.1 pc (.invokespecial i) 3 = true) (kk : U g M d (pc + 3) l st H rc rs Q) : U g M d pc l (vr (some a) :: st) H rc rs Q := by
  intro R s m args below meth c locs cells slots ls C0 hl0 hlo hc hs
  have hw' := Nat.le_of_ble_eq_true hw
  have hcs := cat_sum st
  have hfr := C0.frames
  have hlc := C0.locals
  refine W.objInit C0.hx C0.hb C0.hown (C0.word hlink args) (C0.word q172 args) (C0.word q173 args) rfl (by show ls.size = _; rw [hl0.1, C0.hml]) rfl (of_decide_eq_true hd) (by omega) ?_ (kk R s m args below meth c locs cells slots ls C0 hl0 hlo hc hs)
  show 2 * 0 + ((sV st).map fun v => v.category).sum + 12 ≤ R.locals
  omega
theorem arr0 {c : ClassId} {a : Nat} {f f' : Nat → Int32} (h : va_at (gD g) vCl (a, .inl (c, 0, .inl f)) H) : va_at (gD g) vCl (a, .inl (c, 0, .inl f')) H := by
  have h' : H[a]? = some (arrV c 0 (fun j => .int (f j))) := h
  show H[a]? = some (arrV c 0 (fun j => .int (f' j)))
  rw [h']
  simp [arrV]
/-- Row.<init> in a heap with a blank row -/
theorem U.rowinit {rc rs : Nat} {Q : UQ} {a z : Nat} (hZ : va_Z "WireSchemas$Row" "NO_CELLS" "[B" (.ref z) (fun q => gB g ≤ q) (gs g) (gs g).heap) (hlow : ∀ q, q < gB g → H[q]? = (gs g).heap[q]?) (hrow : va_at (gD g) vCl (a, .inr (3, [.null, .int 0])) H) (hB : gB g ≤ a) (hd1 : 1 ≤ d)
    (kk : ∀ H', Pt1 g a (.inr (3, [.ref z, .int 0])) H H' → Q.1 none H' rc rs) : U g mX3_init d 0 [(0, vr (some a))] [] H rc rs Q := by
  refine U.b (l' := [(0, vr (some a))]) (st' := [vr (some a)]) (pc' := 1) (is := [(.aload_n 0, vi 0, 1)]) (by decide +kernel) rfl rfl ?_
  refine U.obj q271 hd1 rfl (by decide +kernel) ?_
  refine U.b (l' := [(0, vr (some a))]) (st' := [vr (some a)]) (pc' := 5) (is := [(.aload_n 0, vi 0, 5)]) (by decide +kernel) rfl rfl ?_
  refine U.gets hZ hlow q272 (by decide +kernel) ?_
  refine U.pf (k := 0) (x := vr (some z)) cd3 hrow rfl q274 rfl rfl rfl rfl hB (by decide +kernel) (fun H2 hp2 => ?_)
  exact U.vret rfl (by decide +kernel) (kk H2 hp2)
theorem Rep.newrow (h : Rep g σ τ H) (h1 : va_at (gD g) vCl (sZ σ, .inr (3, [.ref (sH σ 0), .int 0])) H') (h2 : H'.size = H.size + 1) (h3 : ∀ q, q < H.size → H'[q]? = H[q]?) : Rep g (nW σ) τ H' := by
  have hz := h.2.1
  have hle := h.2.2.1
  obtain ⟨g1, g2, g3, g4, g5, g6, g7⟩ := h.2.2.2.1
  have hlow := h.2.2.2.2
  refine h.grow (t := 4) (by decide) rfl rfl (fun b hb => ⟨up_ne _ _ hb, rfl, up_ne _ _ hb, rfl, rfl, rfl, up_ne _ _ hb, fun _ => rfl, fun _ => rfl, fun _ => rfl⟩) h2 h3 (fun own ho => ?_)
  unfold cellC
  have e1 : sc (nW σ) (sZ σ) = 4 := up_at _ _ _
  have e2 : sW (nW σ) (sZ σ) = [] := up_at _ _ _
  have e3 : sN (nW σ) (sZ σ) = 0 := up_at _ _ _
  have e4 : sH (nW σ) (sZ σ) = sH σ 0 := up_at _ _ _
  rw [if_pos e1, e2, e3, e4]
  refine ⟨h1, by decide, by decide, ⟨fun _ => 0, Or.inr ⟨rfl, g6.kept ?_⟩, fun j b hb => by cases hb⟩, Or.inl ⟨g2, rfl⟩⟩
  show H'[sH σ 0]? = (gs g).heap[sH σ 0]?
  rw [h3 _ (by omega), hlow _ g2]
/-- new Row() -/
theorem sm_newRow {i i2 : Nat} (hcl : Cond.classLink M.1.cls i "WireSchemas$Row" ∈ lw_all) (hh : nocov M (pc + 4) = true) (hlink : Cond.methodLink M.1.cls i2 yX3_init ∈ lw_all) (hr : rm (gRm g) σ 2) (hdd : 2 ≤ d) (hw : Nat.ble (2 * (st.length + 1) + 12) 64 = true) (hd : d1 M.2.1 pc (.new i) 3 = true) (hd2 : dks M.2.1 (pc + 3) [(.dup, vi 0, pc + 4)] = true) (hd3 : d1 M.2.1 (pc + 4) (.invokespecial i2) 3 = true)
    (kk : Sm (V g M d (pc + 7) l (vr (some (sZ σ)) :: st) (nW σ) τ Q) F K) : Sm (V g M d pc l st σ τ Q) F K := by
  intro hx H hR
  have hz : H.size = sZ σ := hR.2.1
  have hle := hR.2.2.1
  obtain ⟨g1, g2, g3, g4, g5, g6, g7⟩ := hR.2.2.2.1
  have hlow := hR.2.2.2.2
  refine U.new cd3 hcl q267 q137 (fs := [.null, .int 0]) (by decide) (rm_1 hr) (rm_2 hr) hd (fun H' h1 h2 h3 => ?_)
  refine U.b (l' := l) (st' := vr (some H.size) :: vr (some H.size) :: st) (pc' := pc + 4) (is := [(.dup, vi 0, pc + 4)]) hd2 rfl rfl ?_
  refine U.ci (N := mX3_init) (d' := d - 1) [] (vr (some H.size) :: st) hh hd3 hlink q269 rfl q270 rfl rfl (by decide +kernel) rfl rfl (by omega) (by simpa using hw) ?_
  refine U.rowinit g4 (fun q hq => by rw [h3 q (by omega)]; exact hlow q hq) h1 (by omega) (by omega) (fun H2 hp => ?_)
  rw [hz] at hp ⊢
  exact V.at rfl (Nat.sub_sub _ _ _).symm (kk hx) (hR.newrow hp.1 (by rw [hp.2.1, h2]) (fun q hq => by rw [hp.2.2 q (by omega)]; exact h3 q hq))
theorem sm_newRowN {i i2 : Nat} {host : String} (hcl : Cond.classLink M.1.cls i "WireSchemas$Row" ∈ lw_all) (hh : nocov M (pc + 4) = true) (hlink : Cond.methodLinkNest M.1.cls i2 yX3_init host ∈ lw_tbl) (hr : rm (gRm g) σ 2) (hdd : 2 ≤ d) (hw : Nat.ble (2 * (st.length + 1) + 12) 64 = true) (hd : d1 M.2.1 pc (.new i) 3 = true) (hd2 : dks M.2.1 (pc + 3) [(.dup, vi 0, pc + 4)] = true) (hd3 : d1 M.2.1 (pc + 4) (.invokespecial i2) 3 = true)
    (kk : Sm (V g M d (pc + 7) l (vr (some (sZ σ)) :: st) (nW σ) τ Q) F K) : Sm (V g M d pc l st σ τ Q) F K := by
  intro hx H hR
  have hz : H.size = sZ σ := hR.2.1
  have hle := hR.2.2.1
  obtain ⟨g1, g2, g3, g4, g5, g6, g7⟩ := hR.2.2.2.1
  have hlow := hR.2.2.2.2
  refine U.new cd3 hcl q267 q137 (fs := [.null, .int 0]) (by decide) (rm_1 hr) (rm_2 hr) hd (fun H' h1 h2 h3 => ?_)
  refine U.b (l' := l) (st' := vr (some H.size) :: vr (some H.size) :: st) (pc' := pc + 4) (is := [(.dup, vi 0, pc + 4)]) hd2 rfl rfl ?_
  refine U.ciN (N := mX3_init) (d' := d - 1) [] (vr (some H.size) :: st) hh hd3 hlink q269 rfl q270 rfl rfl (by decide +kernel) rfl rfl (by omega) (by simpa using hw) ?_
  refine U.rowinit g4 (fun q hq => by rw [h3 q (by omega)]; exact hlow q hq) h1 (by omega) (by omega) (fun H2 hp => ?_)
  rw [hz] at hp ⊢
  exact V.at rfl (Nat.sub_sub _ _ _).symm (kk hx) (hR.newrow hp.1 (by rw [hp.2.1, h2]) (fun q hq => by rw [hp.2.2 q (by omega)]; exact h3 q hq))
/-- Row.clear -/
def r_clear (a : Nat) (σ : ST) : Option ST := gd (sc σ a = 4) (some (sWu σ a []))
theorem Rep.rowset {a : Nat} {w : List UInt8} (h : Rep g σ τ H) (ha : sc σ a = 4) (hw : w.length ≤ sN σ a) (hp : ∀ (j : Nat) (b : UInt8), w[j]? = some b → (sW σ a)[j]? = some b) (hq : Pt1 g a (.inr (3, [.ref (sH σ a), .int (nI w.length)])) H H') : Rep g (sWu σ a w) τ H' := by
  refine h.loc (a := a) (by omega) rfl rfl rfl (fun b hb => ⟨up_ne _ _ hb, rfl, rfl, rfl, rfl, rfl, rfl, fun _ => rfl, fun _ => rfl, fun _ => rfl⟩) hq.2.1 hq.2.2 (fun own hc => ?_)
  unfold cellC at hc ⊢
  rw [if_pos ha] at hc
  show (if sc σ a = 4 then _ else _)
  rw [if_pos ha, show sW (sWu σ a w) a = w from up_at _ _ _]
  obtain ⟨q1, q2, q3, ⟨f, q4, q5⟩, q6⟩ := hc
  refine ⟨hq.1, hw, q3, ⟨f, q4.kept (hq.2.2 _ (fun e => ?_)), fun j b hb => q5 j b (hp j b hb)⟩, q6⟩
  have e' : sH σ a = a := e
  rcases q6 with q | q
  · have := (h.row ha).2.1; omega
  · rw [e'] at q; omega
theorem r_clear_ok (G : GG g) (d : Nat) (hd1 : 0 ≤ d) (a : Nat) (σ : ST) (Q : VQ) : Sm (V g mX3_clear d 0 [(0, vr (some a))] [] σ τ Q) (r_clear a σ) (fun r => Q.1 none r τ) := by
  unfold r_clear
  refine sm_gd (fun ha => ?_)
  intro hx H hR
  refine U.b (l' := [(0, vr (some a))]) (st' := [vi 0, vr (some a)]) (pc' := 2) (is := [(.aload_n 0, vi 0, 1), (.iconst 0, vi 0, 2)]) (by decide +kernel) rfl rfl ?_
  refine U.pf (k := 1) (x := vi 0) cd3 (hR.row ha).1 rfl q278 rfl rfl rfl rfl (hR.row ha).2.1 (by decide +kernel) (fun H2 hp2 => ?_)
  exact U.vret rfl (by decide +kernel) ⟨sWu σ a [], τ, hR.rowset ha (Nat.zero_le _) (fun j b hb => by cases hb) hp2, rfl, rfl, (Ex_some (K := fun r => Q.1 none r τ)).mp hx⟩
/-- bytes behind a row, one by one -/
def r_addL (bb : Nat × Nat) (a : Nat) : List UInt8 → ST → Option ST
  | [], σ => some σ
  | b :: r, σ => (r_add bb a (sbI b) σ).bind (r_addL bb a r)
theorem r_add_some {bb : Nat × Nat} {a : Nat} {x : Int} (h : r_add bb a x σ = some σ') : sc σ a = 4 ∧ sc σ' = sc σ ∧ (∀ b, b ≠ a → SameB σ σ' b) ∧ sW σ' a = sW σ a ++ [u8 x] := by
  unfold r_add gd at h
  split at h
  · rename_i hg
    refine ⟨hg.1, ?_⟩
    split at h
    · split at h
      · cases h
        exact ⟨rfl, fun b hb => ⟨up_ne _ _ hb, rfl, up_ne _ _ hb, rfl, rfl, rfl, up_ne _ _ hb, fun _ => rfl, fun _ => rfl, fun _ => rfl⟩, up_at _ _ _⟩
      · cases h
    · cases h
      exact ⟨rfl, fun b hb => ⟨up_ne _ _ hb, rfl, rfl, rfl, rfl, rfl, rfl, fun _ => rfl, fun _ => rfl, fun _ => rfl⟩, up_at _ _ _⟩
  · cases h
theorem sm_radd {i a : Nat} {x : Int} {rest : List LV} {G : ST → Option X} (GG0 : GG g) (hh : nocov M pc = true) (hdg : d1 M.2.1 pc (.invokevirtual i) 3 = true) (hlink : Cond.methodLink M.1.cls i yX3_add ∈ lw_all) (hd : 3 ≤ d) (hw : Nat.ble (2 * rest.length + 16) 64 = true) (kk : ∀ y, r_add (gRm g) a x σ = some y → Sm (V g M d (pc + 3) l rest y τ Q) (G y) K) : Sm (V g M d pc l (vi x :: vr (some a) :: rest) σ τ Q) ((r_add (gRm g) a x σ).bind G) K := by
  intro hx
  obtain ⟨y, hy, hK⟩ := Ex_bind.mp hx
  have ha := (r_add_some hy).1
  refine V.cv (N := mX3_add) (d' := d - 1) [vi x] rest hh hdg hlink q535 q536 (Or.inl ⟨rfl, q537⟩) (show okN yX3_add 1 = true by decide +kernel) (fun H hR => hR.rvR GG0.1 ha) rfl rfl (by omega) (by have h := Nat.le_of_ble_eq_true hw; exact Nat.ble_eq_true_of_le (show 2 * rest.length + 3 + 11 ≤ 64 by omega)) (r_add_ok GG0 (d - 1) (by omega) a x σ _ ⟨y, hy, ?_⟩)
  exact kk y hy hK
/-- an array of bytes that can be read -/
def Src (g : GE) (τ : TT) (σ : ST) (b n : Nat) (f : Nat → UInt8) : Prop := ∀ H, Rep g σ τ H → n ≠ 0 → ∃ (fI : Nat → Int32) (N : Nat), va_at (gD g) vCl (b, .inl (ga g 0, N, .inl fI)) H ∧ n ≤ N ∧ N < 2 ^ 24 ∧ ∀ j, j < n → fI j = sbW (f j)
theorem addAll_L (G : GG g) {a b n : Nat} {f : Nat → UInt8} (I : ST → Prop) (hI : ∀ σ, I σ → Src g τ σ b n f) (hS : ∀ (σ σ' : ST) (x : Int), I σ → r_add (gRm g) a x σ = some σ' → I σ') (hd : 4 ≤ d) : ∀ (bs : List UInt8) (k : Nat) (σ : ST), I σ → (∀ (j : Nat) (c : UInt8), bs[j]? = some c → f (k + j) = c) → k + bs.length ≤ n → n < 2 ^ 24 → ∀ t : Int, t = ((k + bs.length : Nat) : Int) → Sm (V g mX3_addAll d 3 [(0, vr (some a)), (1, vr (some b)), (3, vi t), (4, vi (k : Nat))] [] σ τ Q) (r_addL (gRm g) a bs σ) (fun r => Q.1 none r τ) := by
  intro bs
  induction bs with
  | nil =>
    intro k σ hs hf hk hn t ht
    subst ht
    unfold r_addL
    refine sm_b (l' := [(0, vr (some a)), (1, vr (some b)), (3, vi ((k + ([] : List UInt8).length : Nat) : Int)), (4, vi (k : Nat))]) (st' := [vi ((k + ([] : List UInt8).length : Nat) : Int), vi (k : Nat)]) (pc' := 6) [(.iload 4, vi 0, 5), (.iload_n 3, vi 0, 6)] (by decide +kernel) rfl rfl ?_
    simp only [List.length_nil, Nat.add_zero] at hk ⊢
    refine sm_icmp_ge (off := 17) (tgt := 23) ⟨by omega, by omega⟩ ⟨by omega, by omega⟩ (by decide +kernel) (fun _ => ?_) (fun c => absurd (Int.le_refl _) c)
    exact sm_vret rfl (by decide +kernel) (fun h => h)
  | cons c r ih =>
    intro k σ hs hf hk hn t ht
    simp only [List.length_cons] at hk ht
    unfold r_addL
    refine sm_b (l' := [(0, vr (some a)), (1, vr (some b)), (3, vi t), (4, vi (k : Nat))]) (st' := [vi t, vi (k : Nat)]) (pc' := 6) [(.iload 4, vi 0, 5), (.iload_n 3, vi 0, 6)] (by decide +kernel) rfl rfl ?_
    refine sm_icmp_ge (off := 17) (tgt := 23) ⟨by omega, by omega⟩ ⟨by omega, by omega⟩ (by decide +kernel) (fun c => by omega) (fun _ => ?_)
    refine sm_b (l' := [(0, vr (some a)), (1, vr (some b)), (3, vi t), (4, vi (k : Nat))]) (st' := [vi (k : Nat), vr (some b), vr (some a)]) (pc' := 13) [(.aload_n 0, vi 0, 10), (.aload_n 1, vi 0, 11), (.iload 4, vi 0, 13)] (by decide +kernel) rfl rfl ?_
    have hfk : f k = c := by have := hf 0 c rfl; rwa [Nat.add_zero] at this
    refine sm_dflt (V g mX3_addAll d 14 [(0, vr (some a)), (1, vr (some b)), (3, vi t), (4, vi (k : Nat))] [vi (sbI c), vr (some a)] σ τ Q) ?_ (fun hk2 => ?_)
    rotate_left
    · intro hx H hR
      obtain ⟨fI, N, e1, e2, e3, e4⟩ := hI σ hs H hR (by omega)
      exact U.bald (i := (k : Nat)) ⟨by omega, by omega⟩ (by rw [sbI_W, show ((k : Nat) : Int).toNat = k from by omega, e4 k (by omega), hfk]) e1 ⟨by omega, by omega⟩ (by decide +kernel) (hk2 hx H hR)
    · refine sm_radd G rfl (by decide +kernel) q534 (by omega) rfl (fun y hy => ?_)
      refine sm_b (l' := [(0, vr (some a)), (1, vr (some b)), (3, vi t), (4, vi ((k : Nat) + 1))]) (st' := []) (pc' := 3) [(.iinc 4 1, vi 1, 20), (.goto (-17), vi 0, 3)] (by decide +kernel) rfl rfl ?_
      have h := ih (k + 1) y (hS σ y _ hs hy) (fun j e he => by rw [show k + 1 + j = k + (j + 1) from by omega]; exact hf (j + 1) e he) (by omega) hn t (by omega)
      exact h
/-- addAll of a part of an array -/
def sl (f : Nat → UInt8) (k n : Nat) : List UInt8 := (List.range n).map (fun j => f (k + j))
def r_addA (bb : Nat × Nat) (a : Nat) (b : Nat) (from_ to_ : Int) (σ : ST) : Option ST := gd (sc σ b = 101 ∧ 0 ≤ from_ ∧ from_ ≤ to_ ∧ to_ ≤ sN σ b ∧ to_ < 16777216 ∧ a ≠ b) (r_addL bb a (sl (sB σ b) from_.toNat (to_ - from_).toNat) σ)
theorem sl_at {f : Nat → UInt8} {k n j : Nat} {c : UInt8} (h : (sl f k n)[j]? = some c) : f (k + j) = c := by
  unfold sl at h
  rw [List.getElem?_map] at h
  obtain ⟨x, hx, rfl⟩ := Option.map_eq_some_iff.mp h
  have := List.getElem?_range (show j < n from by have := (List.getElem?_eq_some_iff.mp hx).1; simpa using this)
  rw [this] at hx
  cases hx
  rfl
theorem r_addA_ok (G : GG g) (d : Nat) (hd1 : 4 ≤ d) (a b : Nat) (from_ to_ : Int) (σ : ST) (Q : VQ) : Sm (V g mX3_addAll d 0 [(0, vr (some a)), (1, vr (some b)), (2, vi from_), (3, vi to_)] [] σ τ Q) (r_addA (gRm g) a b from_ to_ σ) (fun r => Q.1 none r τ) := by
  unfold r_addA
  refine sm_gd (fun hg => ?_)
  obtain ⟨h1, h2, h3, h4, h5, h6⟩ := hg
  refine sm_b (l' := [(0, vr (some a)), (1, vr (some b)), (2, vi from_), (3, vi to_), (4, vi from_)]) (st' := []) (pc' := 3) [(.iload_n 2, vi 0, 1), (.istore 4, vi 0, 3)] (by decide +kernel) rfl rfl ?_
  refine sm_pick [0, 1, 3, 4] (l' := [(0, vr (some a)), (1, vr (some b)), (3, vi to_), (4, vi from_)]) rfl ?_
  have hfr : from_ = ((from_.toNat : Nat) : Int) := by omega
  have hlen : (sl (sB σ b) from_.toNat (to_ - from_).toNat).length = (to_ - from_).toNat := by simp [sl]
  have h := addAll_L (τ := τ) (d := d) (Q := Q) G (a := a) (b := b) (n := to_.toNat) (f := sB σ b) (fun σ1 => sc σ1 b = 101 ∧ sB σ1 b = sB σ b ∧ sN σ1 b = sN σ b) (fun σ1 hs H hR _ => ⟨_, _, (hR.arB hs.1).1.1, by rw [hs.2.2]; omega, (hR.arB hs.1).1.2, fun j _ => by rw [hs.2.1]⟩) (fun σ1 σ2 x hs hy => by
    obtain ⟨e1, e2, e3, -⟩ := r_add_some hy
    have e4 := e3 b (Ne.symm h6)
    exact ⟨by rw [e2]; exact hs.1, by rw [e4.2.2.2.1]; exact hs.2.1, by rw [e4.2.2.1]; exact hs.2.2⟩) hd1 (sl (sB σ b) from_.toNat (to_ - from_).toNat) from_.toNat σ ⟨h1, rfl, rfl⟩ (fun j c hc => sl_at hc) (by omega) (by omega) to_ (by omega)
  rw [← hfr] at h
  exact h
/-- addAll of a whole row -/
def r_addP (bb : Nat × Nat) (a p : Nat) (σ : ST) : Option ST := gd (sc σ p = 4 ∧ a ≠ p) (r_addL bb a (sW σ p) σ)
theorem r_addP_ok (G : GG g) (d : Nat) (hd1 : 4 ≤ d) (a p : Nat) (σ : ST) (Q : VQ) : Sm (V g mX3_addAll d 0 [(0, vr (some a)), (1, vr (some (sH σ p))), (2, vi 0), (3, vi ((sW σ p).length : Nat))] [] σ τ Q) (r_addP (gRm g) a p σ) (fun r => Q.1 none r τ) := by
  unfold r_addP
  refine sm_gd (fun hg => ?_)
  obtain ⟨h1, h6⟩ := hg
  refine sm_rowf h1 (fun h2 h3 => ?_)
  refine sm_b (l' := [(0, vr (some a)), (1, vr (some (sH σ p))), (2, vi 0), (3, vi ((sW σ p).length : Nat)), (4, vi 0)]) (st' := []) (pc' := 3) [(.iload_n 2, vi 0, 1), (.istore 4, vi 0, 3)] (by decide +kernel) rfl rfl ?_
  refine sm_pick [0, 1, 3, 4] (l' := [(0, vr (some a)), (1, vr (some (sH σ p))), (3, vi ((sW σ p).length : Nat)), (4, vi 0)]) rfl ?_
  exact addAll_L (τ := τ) (d := d) (Q := Q) G (a := a) (b := sH σ p) (n := (sW σ p).length) (f := fun j => (sW σ p).getD j 0) (fun σ1 => sc σ1 p = 4 ∧ sW σ1 p = sW σ p ∧ sN σ1 p = sN σ p ∧ sH σ1 p = sH σ p) (fun σ1 hs H hR hne => by
    obtain ⟨w1, w2, w3, w4, ⟨f, w5, w6⟩, w7⟩ := hR.row hs.1
    rw [hs.2.2.2, hs.2.2.1] at w5
    rw [hs.2.1] at w6 w3
    have w3' := w3
    rw [hs.2.2.1] at w3'
    refine ⟨_, _, w5.own (by omega), by omega, h3, fun j hj => ?_⟩
    rw [w6 j _ (List.getElem?_eq_getElem hj)]
    show _ = sbW ((sW σ p).getD j 0)
    rw [List.getD_eq_getElem?_getD, List.getElem?_eq_getElem hj]
    rfl) (fun σ1 σ2 x hs hy => by
    obtain ⟨e1, e2, e3, -⟩ := r_add_some hy
    have e4 := e3 p (Ne.symm h6)
    exact ⟨by rw [e2]; exact hs.1, by rw [e4.1]; exact hs.2.1, by rw [e4.2.2.1]; exact hs.2.2.1, by rw [e4.2.2.2.2.2.2.1]; exact hs.2.2.2⟩) hd1 (sW σ p) 0 σ ⟨h1, rfl, rfl, rfl⟩ (fun j c hc => by simp [hc]) (by omega) (by omega) _ (by omega)
end RowI
