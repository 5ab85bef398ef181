set_option maxRecDepth 100000
/-! LISTS over the abstract states -/
def sLu (σ : ST) (a : Nat) (w : List Nat) : ST := (sc σ, sI σ, sJ σ, sR σ, sW σ, up (sA σ) a w, sN σ, sB σ, sE σ, sF σ, sH σ, sZ σ, sC σ, sS σ)
def sLg (σ : ST) (a : Nat) (w : List Nat) (c : Nat) : ST := (sc σ, sI σ, sJ σ, sR σ, sW σ, up (sA σ) a w, up (sN σ) a c, sB σ, sE σ, sF σ, up (sH σ) a (sZ σ), sZ σ + 1, sC σ + 1, sS σ + c)
/-- a new list -/
def nL (σ : ST) : ST := (up (sc σ) (sZ σ) 16, sI σ, sJ σ, sR σ, sW σ, up (sA σ) (sZ σ) [], up (sN σ) (sZ σ) 0, sB σ, sE σ, sF σ, up (sH σ) (sZ σ) (sH σ 1), sZ σ + 1, sC σ + 1, sS σ + 3)
def l_add (bb : Nat × Nat) (a : Nat) (x : Option Nat) (σ : ST) : Option (Int × ST) := x.bind fun x =>
  gd (sc σ a = 16 ∧ lt4 (sc σ x) ∧ (sA σ a).length < 1000000 ∧ sN σ a < 1000000) (if (sA σ a).length = sN σ a then gd (rm bb σ (lCap (sN σ a))) (some (1, sLg σ a (sA σ a ++ [x]) (lCap (sN σ a)))) else some (1, sLu σ a (sA σ a ++ [x])))
def l_size (a : Nat) (σ : ST) : Option Int := gd (sc σ a = 16) (some ((sA σ a).length : Nat))
def l_get (a : Nat) (i : Int) (σ : ST) : Option (Option Nat) := gd (sc σ a = 16 ∧ ib i (sA σ a).length) (some (some ((sA σ a).getD i.toNat 0)))
section ListV
variable {g : GE} {M N : Mt} {d d' pc pc' tgt : Nat} {off : Int} {l l' : List (Nat × LV)} {st st' : List LV} {σ σ' : ST} {τ : TT} {Q : VQ} {X Y : Type} {F A B : Option X} {K : X → Prop} {P : Prop} {H H' : Heap} {own : Nat → Nat}
/-- modCount, named by the heir -/
theorem U.gmod {rc rs : Nat} {Q : UQ} {a : Nat} {fs : List Value} {x : LV} (hat : va_at (gD g) vCl (a, .inr (15, fs)) H) (hv : fs[0]? = some (vV x)) (kk : U g mJ2_add d 5 l (x :: st) H rc rs Q) : U g mJ2_add d 2 l (vr (some a) :: st) H rc rs Q :=
  fun R s m args below meth c locs cells slots ls C0 hl0 hlo hc hs => va_get (ref := "java/util/ArrayList") (tys := tys_ g) C0.hx C0.hb (C0.words args) cd15.2.1 C0.hown C0.hK (vP1 hat) 0 rfl cd15.1 0 (by decide) (C0.word q203 args) (fun x9 h9 => u_same (C0.word q204 args) x9 h9) hv (show decode cJ2_add 2 = .ok (.getfield 63, 3) by decide +kernel) (kk R s m args below meth c locs cells slots ls C0 hl0 hlo hc hs)
theorem U.pmod {rc rs : Nat} {Q : UQ} {a : Nat} {fs : List Value} {x : Int} (hat : va_at (gD g) vCl (a, .inr (15, fs)) H) (hlen : Nat.ble 1 fs.length = true) (hB : (gs g).heap.size ≤ a)
    (kk : ∀ H', Pt1 g a (.inr (15, fs.set 0 (vV (vi x)))) H H' → U g mJ2_add d 10 l st H' rc rs Q) : U g mJ2_add d 7 l (vi x :: vr (some a) :: st) H rc rs Q := by
  intro R s m args below meth c locs cells slots ls C0 hl0 hlo hc hs
  have hap := va_apart (own := mJ2_add.1.cls) (C0.words args) cd15.2.1 tyJ2 cd15.2.2.1 cd15.2.2.2 C0.hK cd15.1
  obtain ⟨r, h1, cell, q1, q2, q3, q4⟩ := hat
  have hr : r = (RJ2, TJ2, 3) := Option.some.inj (h1.symm.trans cd15.1)
  subst hr
  obtain ⟨hS, hfc, kC, hkC, hkind⟩ := C0.hK.1 15 _ cd15.1
  obtain ⟨cf, kf, fi, f, hi, hsl⟩ := hS 0 (by decide)
  have hlay := C0.words args _ (cd15.2.1 _ (u_in_lay (show 0 < 3 by decide)))
  unfold u_lay at hlay
  rw [if_neg (by decide)] at hlay
  have hst := (u_facts hfc hkC (u_lays (C0.words args) cd15.2.1 (show 0 < 3 by decide)) hi).1
  have h6 := u_store hfc hkC hkind hlay hi (cd15.2.2.1 0 (by decide)) (show narrow (tyJ2 0) (vV (vi x)) = vV (vi x) from rfl) (show fits (tyJ2 0) (vV (vi x)) = true from rfl)
  refine W.putK C0.hx C0.hb (f := f) ⟨C0.hown, C0.word q203 args, ⟨_, _, _, u_same (C0.word q204 args) _ hi⟩, hst⟩ (by rw [q2]; exact h6) q1 q3 (by rw [hsl]; exact k2_hasslot (q4 0 (by decide))) rfl rfl (show decode cJ2_add 7 = .ok (.putfield 63, 3) by decide +kernel) fun H' e1 e2 e3 => ?_
  rw [hsl] at e1
  exact kk H' ⟨⟨_, cd15.1, t_OB.to (V := updV (vp_V fs) 0 (vV (vi x))) ⟨_, e1, q2, q3, t_set q4 hap (show 0 < 3 by decide) (vV (vi x))⟩ (fun j _ => vp_updV_set (Nat.le_of_ble_eq_true hlen) (vV (vi x)) j)⟩, e2, e3⟩ R s m args below meth c _ cells slots ls C0 hl0 (hlo.put hB) hc hs
theorem Rep.any {x : Nat} (G : GF g) (h : Rep g σ τ H) (hx : lt4 (sc σ x)) : AnyO g x H := by
  rcases hx with e | e | e | e
  · obtain ⟨cell, h1, h2, h3⟩ := h.rvR G e
    exact ⟨cell, 3, _, h1, h2, rfl, h3, q2037⟩
  · obtain ⟨cell, h1, h2, h3⟩ := h.rv G cd6 rfl e
    exact ⟨cell, 6, _, h1, h2, rfl, h3, q2041⟩
  · obtain ⟨cell, h1, h2, h3⟩ := h.rv G cd7 rfl e
    exact ⟨cell, 7, _, h1, h2, rfl, h3, q2042⟩
  · obtain ⟨cell, h1, h2, h3⟩ := h.rv G cd8 rfl e
    exact ⟨cell, 8, _, h1, h2, rfl, h3, q2032⟩
theorem Rep.list {a : Nat} (h : Rep g σ τ H) (ha : sc σ a = 16) : ∃ (mc : Int32) (f : Nat → Option Nat), va_at (gD g) vCl (lO a (sH σ a) (sA σ a).length mc) H ∧ gB g ≤ a ∧ (sA σ a).length ≤ sN σ a ∧ sN σ a < 2 ^ 24 ∧ oA g (sH σ a) (sN σ a) f H ∧ (∀ (j x : Nat), (sA σ a)[j]? = some x → f j = some x) ∧ (∀ j x : Nat, f j = some x → lt4 (sc σ x)) ∧ ((sN σ a = 0 ∧ sH σ a = sH σ 1 ∧ sH σ a < gB g) ∨ (gB g ≤ sH σ a ∧ sN σ a ≠ 0)) ∧ sH σ a ≠ a := by
  obtain ⟨⟨own, hC, -⟩, -⟩ := h
  obtain ⟨c1, c2, c3⟩ := hC a (by omega)
  unfold cellC at c3
  rw [if_neg (by rw [ha]; decide), if_pos ha] at c3
  obtain ⟨⟨mc, q1⟩, q2, q3, ⟨f, q4, q5, q7⟩, q6⟩ := c3
  refine ⟨mc, f, q1, c1, q2, q3, q4, q5, q7, ?_, ?_⟩
  · rcases q6 with q | q
    · exact Or.inl ⟨q.2.1, q.2.2, q.1⟩
    · exact Or.inr ⟨q.1, q.2.2.2⟩
  · rcases q6 with q | q
    · omega
    · intro e; rw [e] at q; omega
theorem l_size_ok (G : GG g) (d : Nat) (hd1 : 0 ≤ d) (a : Nat) (σ : ST) (Q : VQ) : Sm (V g mJ2_size d 0 [(0, vr (some a))] [] σ τ Q) (l_size a σ) (fun r => Q.1 (some (vi r)) σ τ) := by
  unfold l_size
  refine sm_gd (fun ha => ?_)
  intro hx H hR
  obtain ⟨mc, f, h1, -⟩ := hR.list ha
  refine U.b (l' := [(0, vr (some a))]) (st' := [vr (some a)]) (pc' := 1) (is := [(.aload_n 0, vi 0, 1)]) (by decide +kernel) rfl rfl ?_
  refine U.gf (k := 2) (x := vi ((sA σ a).length : Nat)) cd15 h1 rfl q201 (by rw [nI_ofI]; rfl) (by decide +kernel) ?_
  exact U.iret rfl (by decide +kernel) (V.end1 hR ((Ex_some (K := fun r => Q.1 (some (vi r)) σ τ)).mp hx))
theorem U.chk {rc rs : Nat} {Q : UQ} {x n : Int} (hx : 0 ≤ x ∧ x < n) (hn : rg n) (hq : Q.1 (some (vi x)) H rc rs) : U g mJ5_checkIndex d 0 [(0, vi x), (1, vi n), (2, vr none)] [] H rc rs Q := by
  have hrx : rg x := ⟨by omega, by have := hn.2; omega⟩
  refine U.b (l' := [(0, vi x), (1, vi n), (2, vr none)]) (st' := [vi x]) (pc' := 1) (is := [(.iload_n 0, vi 0, 1)]) (by decide +kernel) rfl rfl ?_
  refine U.if_lt (off := 8) (tgt := 9) hrx (by decide +kernel) (fun c => by omega) (fun c => ?_)
  refine U.b (l' := [(0, vi x), (1, vi n), (2, vr none)]) (st' := [vi n, vi x]) (pc' := 6) (is := [(.iload_n 0, vi 0, 5), (.iload_n 1, vi 0, 6)]) (by decide +kernel) rfl rfl ?_
  refine U.icmp_lt (off := 10) (tgt := 16) hrx hn (by decide +kernel) (fun c => ?_) (fun c => by omega)
  refine U.b (l' := [(0, vi x), (1, vi n), (2, vr none)]) (st' := [vi x]) (pc' := 17) (is := [(.iload_n 0, vi 0, 17)]) (by decide +kernel) rfl rfl ?_
  exact U.iret rfl (by decide +kernel) hq
theorem l_get_ok (G : GG g) (d : Nat) (hd1 : 3 ≤ d) (a : Nat) (i : Int) (σ : ST) (Q : VQ) : Sm (V g mJ2_get d 0 [(0, vr (some a)), (1, vi i)] [] σ τ Q) (l_get a i σ) (fun r => Q.1 (some (vr r)) σ τ) := by
  unfold l_get
  refine sm_gd (fun hg => ?_)
  obtain ⟨ha, hi⟩ := hg
  intro hx H hR
  obtain ⟨mc, f, h1, h2, h3, h4, h5, h6, h7, h8, h9⟩ := hR.list ha
  have hlt : i.toNat < (sA σ a).length := by have := hi.1; have := hi.2; omega
  refine U.b (l' := [(0, vr (some a)), (1, vi i)]) (st' := [vr (some a), vi i]) (pc' := 2) (is := [(.iload_n 1, vi 0, 1), (.aload_n 0, vi 0, 2)]) (by decide +kernel) rfl rfl ?_
  refine U.gf (k := 2) (x := vi ((sA σ a).length : Nat)) cd15 h1 rfl q201 (by rw [nI_ofI]; rfl) (by decide +kernel) ?_
  refine U.cs (N := mJ14_checkIndex) (d' := d - 1) [vi i, vi ((sA σ a).length : Nat)] [] rfl (by decide +kernel) q794 q795 q155 (Or.inl ⟨rfl, q796⟩) (show okN yJ14_checkIndex 2 = true by decide +kernel) rfl rfl (by omega) rfl ?_
  refine U.b (l' := [(0, vi i), (1, vi ((sA σ a).length : Nat))]) (st' := [vr none, vi ((sA σ a).length : Nat), vi i]) (pc' := 3) (is := [(.iload_n 0, vi 0, 1), (.iload_n 1, vi 0, 2), (.aconst_null, vi 0, 3)]) (by decide +kernel) rfl rfl ?_
  refine U.cs (N := mJ5_checkIndex) (d' := d - 2) [vi i, vi ((sA σ a).length : Nat), vr none] [] rfl (by decide +kernel) q797 q416 q143 (Or.inl ⟨rfl, q417⟩) (show okN yJ5_checkIndex 3 = true by decide +kernel) rfl rfl (by omega) rfl ?_
  refine U.chk hi ⟨by omega, by omega⟩ ?_
  refine U.iret rfl (by decide +kernel) ?_
  refine U.b (l' := [(0, vr (some a)), (1, vi i)]) (st' := [vi i, vr (some a)]) (pc' := 11) (is := [(.pop, vi 0, 9), (.aload_n 0, vi 0, 10), (.iload_n 1, vi 0, 11)]) (by decide +kernel) rfl rfl ?_
  refine U.cv (N := mJ2_elementData) (d' := d - 1) [vi i] [] rfl (by decide +kernel) q798 q799 q800 (Or.inl ⟨rfl, q801⟩) (show okN yJ2_elementData 1 = true by decide +kernel) (Rv.list G.1 h1) rfl rfl (by omega) rfl ?_
  refine U.b (l' := [(0, vr (some a)), (1, vi i)]) (st' := [vr (some a)]) (pc' := 1) (is := [(.aload_n 0, vi 0, 1)]) (by decide +kernel) rfl rfl ?_
  refine U.gf (k := 1) (x := vr (some (sH σ a))) cd15 h1 rfl q200 rfl (by decide +kernel) ?_
  refine U.b (l' := [(0, vr (some a)), (1, vi i)]) (st' := [vi i, vr (some (sH σ a))]) (pc' := 5) (is := [(.iload_n 1, vi 0, 5)]) (by decide +kernel) rfl rfl ?_
  refine U.aaldO (h5.own (by omega)) ⟨hi.1, by have := hi.2; omega⟩ h4 (by decide +kernel) ?_
  rw [h6 i.toNat _ (List.getElem?_eq_getElem hlt)]
  refine U.aret rfl rfl (by decide +kernel) ?_
  refine U.aret rfl rfl (by decide +kernel) (V.end1 hR ?_)
  have h := (Ex_some (K := fun r => Q.1 (some (vr r)) σ τ)).mp hx
  rw [List.getD_eq_getElem?_getD, List.getElem?_eq_getElem hlt] at h
  exact h
theorem getElem?_pushN {w : List Nat} {b c : Nat} {j : Nat} (h : (w ++ [b])[j]? = some c) : (w[j]? = some c ∧ j < w.length) ∨ (j = w.length ∧ c = b) := by
  rcases Nat.lt_trichotomy j w.length with e | e | e
  · left; rw [List.getElem?_append_left e] at h; exact ⟨h, e⟩
  · right; subst e; simp at h; exact ⟨rfl, h.symm⟩
  · rw [List.getElem?_append_right (by omega)] at h
    have hz : j - w.length < 1 := (List.getElem?_eq_some_iff.mp h).1
    omega
theorem Rep.listpush {a x : Nat} {mc : Int32} (h : Rep g σ τ H) (ha : sc σ a = 16) (hx : lt4 (sc σ x)) (hn : (sA σ a).length < sN σ a) {f : Nat → Option Nat} (hf : ∀ (j y : Nat), (sA σ a)[j]? = some y → f j = some y) (hf2 : ∀ j y : Nat, f j = some y → lt4 (sc σ y))
    (h1 : va_at (gD g) vCl (lO a (sH σ a) ((sA σ a).length + 1) mc) H') (h2 : va_at (gD g) vCl (sH σ a, qA g (sN σ a) (up f (sA σ a).length (some x))) H') (hsz : H'.size = H.size) (ho : ∀ q, q ≠ a → q ≠ sH σ a → H'[q]? = H[q]?) : Rep g (sLu σ a (sA σ a ++ [x])) τ H' := by
  obtain ⟨⟨own, hC, hT⟩, hzz, hle, hzs, hlow⟩ := h
  obtain ⟨ca1, ca2, ca3⟩ := hC a (by omega)
  unfold cellC at ca3
  rw [if_neg (by rw [ha]; decide), if_pos ha] at ca3
  obtain ⟨q1, q2, q3, q4, q6⟩ := ca3
  have q6' : gB g ≤ sH σ a ∧ own (sH σ a) = a ∧ sc σ (sH σ a) = 0 ∧ sN σ a ≠ 0 := by
    rcases q6 with q | q
    · omega
    · exact q
  refine ⟨⟨own, fun y hy => ?_, hT.tr (fun _ _ _ => rfl) (fun _ _ _ e => e) (fun q _ e1 e2 => ho q (fun e => by rw [e] at e2; omega) (fun e => ?_))⟩, by rw [hsz]; exact hzz, by rw [hsz]; exact hle, hzs, fun q hq => by rw [ho q (by omega) (by omega)]; exact hlow q hq⟩
  · obtain ⟨c1, c2, c3⟩ := hC y hy
    refine ⟨c1, c2, ?_⟩
    by_cases e : y = a
    · subst e
      unfold cellC
      show (if sc σ y = 4 then _ else if sc σ y = 16 then _ else _)
      rw [if_neg (by rw [ha]; decide), if_pos ha]
      have hw : sA (sLu σ y (sA σ y ++ [x])) y = sA σ y ++ [x] := up_at _ _ _
      rw [hw, List.length_append]
      refine ⟨⟨mc, h1⟩, by show _ ≤ sN σ y; simp; omega, q3, ⟨_, Or.inl ⟨by show sN σ y ≠ 0; omega, h2⟩, fun j c hc => ?_, fun j c hc => ?_⟩, Or.inr q6'⟩
      · rcases getElem?_pushN hc with ⟨e1, e2⟩ | ⟨e1, e2⟩
        · rw [up_ne _ _ (by omega)]; exact hf j c e1
        · rw [e1, e2, up_at]
      · show lt4 (sc σ c)
        unfold up at hc
        split at hc
        · cases hc; exact hx
        · exact hf2 j c hc
    · refine c3.tr hy ⟨rfl, up_ne _ _ e, rfl, rfl, rfl, rfl, rfl, fun _ => rfl, fun _ => rfl, fun _ => rfl⟩ (fun _ _ => rfl) rfl (fun _ _ r1 r2 => ⟨r1, r2⟩) (ho y e (fun e2 => hy (by rw [e2]; exact q6'.2.2.1))) (fun ht => ?_)
      rcases c3.hid ht with r | r
      · exact ho _ (by omega) (by omega)
      · exact ho _ (fun e2 => by rw [e2] at r; omega) (fun e2 => e (by rw [← r.2.1, e2, q6'.2.1]))
  · rw [e, q6'.2.1] at e1
    have hgw : gw g ≠ 0 := by have := hzs.1; omega
    have := (hT hgw).1.2.2.1
    rw [← e1] at this
    omega
theorem Rep.listgrow {a x c : Nat} {mc : Int32} (h : Rep g σ τ H) (ha : sc σ a = 16) (hx : lt4 (sc σ x)) (hn : (sA σ a).length < c) (hc : c < 2 ^ 24) {f : Nat → Option Nat} (hf : ∀ (j y : Nat), (sA σ a)[j]? = some y → f j = some y) (hf2 : ∀ j y : Nat, f j = some y → lt4 (sc σ y))
    (h1 : va_at (gD g) vCl (lO a (sZ σ) ((sA σ a).length + 1) mc) H') (h2 : va_at (gD g) vCl (sZ σ, qA g c (up f (sA σ a).length (some x))) H') (hsz : H'.size = H.size + 1) (ho : ∀ q, q ≠ a → q < H.size → H'[q]? = H[q]?) : Rep g (sLg σ a (sA σ a ++ [x]) c) τ H' := by
  obtain ⟨⟨own, hC, hT⟩, hzz, hle, hzs, hlow⟩ := h
  obtain ⟨ca1, ca2, ca3⟩ := hC a (by omega)
  have hltA := ca3.lt
  have hne : ∀ q, q < H.size → q ≠ sZ σ := fun q hq e => by omega
  have hscz : sc σ (sZ σ) = 0 := Classical.byContradiction fun hh => hne _ (hC _ hh).2.2.lt rfl
  refine ⟨⟨up own (sZ σ) a, fun y hy => ?_, hT.tr (fun q hq _ => up_ne _ _ (hne q hq)) (fun _ _ _ e => e) (fun q hq _ e2 => ho q (fun e => by rw [e] at e2; omega) hq)⟩, by rw [hsz, hzz]; rfl, by omega, ?_, fun q hq => by rw [ho q (by omega) (by omega)]; exact hlow q hq⟩
  · have hy' : sc σ y ≠ 0 := hy
    obtain ⟨c1, c2, c3⟩ := hC y hy'
    refine ⟨c1, by rw [up_ne _ _ (hne y c3.lt)]; exact c2, ?_⟩
    by_cases e : y = a
    · subst e
      unfold cellC
      show (if sc σ y = 4 then _ else if sc σ y = 16 then _ else _)
      rw [if_neg (by rw [ha]; decide), if_pos ha]
      have hw : sA (sLg σ y (sA σ y ++ [x]) c) y = sA σ y ++ [x] := up_at _ _ _
      have hN : sN (sLg σ y (sA σ y ++ [x]) c) y = c := up_at _ _ _
      have hH : sH (sLg σ y (sA σ y ++ [x]) c) y = sZ σ := up_at _ _ _
      rw [hw, hN, hH, List.length_append]
      refine ⟨⟨mc, h1⟩, by simp; omega, hc, ⟨_, Or.inl ⟨by omega, h2⟩, fun j z hz => ?_, fun j z hz => ?_⟩, Or.inr ⟨by omega, up_at _ _ _, hscz, by omega⟩⟩
      · rcases getElem?_pushN hz with ⟨e1, e2⟩ | ⟨e1, e2⟩
        · rw [up_ne _ _ (by omega)]; exact hf j z e1
        · rw [e1, e2, up_at]
      · show lt4 (sc σ z)
        unfold up at hz
        split at hz
        · cases hz; exact hx
        · exact hf2 j z hz
    · refine c3.tr hy' ⟨rfl, up_ne _ _ e, up_ne _ _ e, rfl, rfl, rfl, up_ne _ _ e, fun _ => rfl, fun _ => rfl, fun _ => rfl⟩ (fun _ _ => rfl) (up_ne _ _ (by have := hzs.1; omega)) (fun ht _ r1 r2 => ⟨by rw [up_ne _ _ (hne _ (c3.hidlt ht))]; exact r1, r2⟩) (ho y e c3.lt) (fun ht => ?_)
      refine ho _ (fun e2 => ?_) (c3.hidlt ht)
      rcases c3.hid ht with r | r
      · omega
      · rw [e2] at r; omega
  · have h0 : (0 : Nat) ≠ a := by have := hzs.1; omega
    have h1 : (1 : Nat) ≠ a := by have := hzs.1; omega
    unfold Zs at hzs ⊢
    rw [show sH (sLg σ a (sA σ a ++ [x]) c) 0 = sH σ 0 from up_ne _ _ h0, show sH (sLg σ a (sA σ a ++ [x]) c) 1 = sH σ 1 from up_ne _ _ h1]
    exact hzs
theorem l_add_ok (G : GG g) (d : Nat) (hd1 : 8 ≤ d) (a : Nat) (x : Option Nat) (σ : ST) (Q : VQ) : Sm (V g mJ2_add d 0 [(0, vr (some a)), (1, vr x)] [] σ τ Q) (l_add (gRm g) a x σ) (fun r => Q.1 (some (vi r.1)) r.2 τ) := by
  unfold l_add
  cases x with
  | none => exact sm_none
  | some x =>
  show Sm _ (gd _ _) _
  refine sm_gd (fun hg => ?_)
  obtain ⟨ha, hx4, hlen, hcap⟩ := hg
  intro hx H hR
  obtain ⟨mc, f, h1, h2, h3, h4, h5, h6, h7, h8, h9⟩ := hR.list ha
  obtain ⟨mi, hM⟩ := G.2.2.2.2.2.2.1
  have hz : H.size = sZ σ := hR.2.1
  have hle := hR.2.2.1
  obtain ⟨g1, g2, g3, g4, g5, g6, g7⟩ := hR.2.2.2.1
  have hlow := hR.2.2.2.2
  have hxa : x ≠ a := fun e => by rw [e, ha] at hx4; unfold lt4 at hx4; omega
  have hBh : sN σ a ≠ 0 → gB g ≤ sH σ a := fun e => by rcases h8 with q | q <;> omega
  refine U.b (l' := [(0, vr (some a)), (1, vr (some x))]) (st' := [vr (some a), vr (some a)]) (pc' := 2) (is := [(.aload_n 0, vi 0, 1), (.dup, vi 0, 2)]) (by decide +kernel) rfl rfl ?_
  refine U.gmod (x := vi mc.toInt) h1 (by show _ = some (Value.int (Int32.ofInt mc.toInt)); rw [Int32.ofInt_toInt]; rfl) ?_
  refine U.b (l' := [(0, vr (some a)), (1, vr (some x))]) (st' := [vi (mc.toInt + 1), vr (some a)]) (pc' := 7) (is := [(.iconst 1, vi 1, 6), (.iadd, vi 0, 7)]) (by decide +kernel) rfl rfl ?_
  refine U.pmod (x := mc.toInt + 1) h1 rfl h2 (fun H1 hp => ?_)
  have h1' : va_at (gD g) vCl (lO a (sH σ a) (sA σ a).length (Int32.ofInt (mc.toInt + 1))) H1 := hp.1
  have h5' := h5.kept (hp.2.2 _ h9)
  refine U.b (l' := [(0, vr (some a)), (1, vr (some x))]) (st' := [vr (some a), vr (some x), vr (some a)]) (pc' := 13) (is := [(.aload_n 0, vi 0, 11), (.aload_n 1, vi 0, 12), (.aload_n 0, vi 0, 13)]) (by decide +kernel) rfl rfl ?_
  refine U.gf (k := 1) (x := vr (some (sH σ a))) cd15 h1' rfl q200 rfl (by decide +kernel) ?_
  refine U.b (l' := [(0, vr (some a)), (1, vr (some x))]) (st' := [vr (some a), vr (some (sH σ a)), vr (some x), vr (some a)]) (pc' := 17) (is := [(.aload_n 0, vi 0, 17)]) (by decide +kernel) rfl rfl ?_
  refine U.gf (k := 2) (x := vi ((sA σ a).length : Nat)) cd15 h1' rfl q201 (by rw [nI_ofI]; rfl) (by decide +kernel) ?_
  refine U.cv (N := mJ2_add_2) (d' := d - 1) [vr (some x), vr (some (sH σ a)), vi ((sA σ a).length : Nat)] [] rfl (by decide +kernel) q596 q598 qs10 (Or.inl ⟨rfl, q599⟩) (show okN yJ2_add_2 3 = true by decide +kernel) (Rv.list G.1 h1') rfl rfl (by omega) rfl ?_
  have hany : ∀ y : Nat, lt4 (sc σ y) → AnyO g y H1 := fun y hy => (hR.any G.1 hy).kept (hp.2.2 y (fun e => by rw [e, ha] at hy; unfold lt4 at hy; omega))
  refine U.ladd2 G.1 hM g5 (fun q hq => by rw [hp.2.2 q (by omega)]; exact hlow q hq) h1' h5' (fun e => by rcases h8 with q | q <;> omega) (fun j y hy => hany y (h7 j y hy)) (hany x hx4) hxa (fun j e => by have := h7 j a e; rw [ha] at this; unfold lt4 at this; omega) (by rw [hp.2.1]; exact hle) h3 (by omega) h2 h9 hBh (fun e => ?_) (by omega) (fun hlt H2 e1 e2 e3 e4 => ?_) (fun hc H2 e1 e2 e3 e4 => ?_)
  · rw [if_pos e] at hx
    exact ⟨rm_1 (Ex_gd.mp hx).1, rm_2 (Ex_gd.mp hx).1⟩
  · rw [if_neg (by omega)] at hx
    refine U.b (l' := [(0, vr (some a)), (1, vr (some x))]) (st' := [vi 1]) (pc' := 24) (is := [(.iconst 1, vi 1, 24)]) (by decide +kernel) rfl rfl ?_
    refine U.zret rfl (by decide +kernel) (Or.inr rfl) ⟨sLu σ a (sA σ a ++ [x]), τ, hR.listpush ha hx4 hlt h6 h7 e1 e2 (by rw [e3, hp.2.1]) (fun q q1 q2 => by rw [e4 q q1 q2, hp.2.2 q q1]), rfl, rfl, (Ex_some (K := fun r : Int × ST => Q.1 (some (vi r.1)) r.2 τ)).mp hx⟩
  · rw [if_pos hc] at hx
    have hx2 := (Ex_gd.mp hx).2
    have hH1 : H1.size = sZ σ := by rw [hp.2.1, hz]
    rw [hH1] at e1 e2
    refine U.b (l' := [(0, vr (some a)), (1, vr (some x))]) (st' := [vi 1]) (pc' := 24) (is := [(.iconst 1, vi 1, 24)]) (by decide +kernel) rfl rfl ?_
    have hcl : (sA σ a).length < lCap (sN σ a) := by unfold lCap; split <;> omega
    have hcb : lCap (sN σ a) < 2 ^ 24 := by unfold lCap; split <;> omega
    refine U.zret rfl (by decide +kernel) (Or.inr rfl) ⟨sLg σ a (sA σ a ++ [x]) (lCap (sN σ a)), τ, hR.listgrow ha hx4 hcl hcb (f := va_cpy f (fun _ => none) 0 0 (sN σ a)) (fun j y hy => ?_) (fun j y hy => ?_) e1 e2 (by rw [e3, hp.2.1]) (fun q q1 q2 => by rw [e4 q q1 (by rw [hp.2.1]; exact q2), hp.2.2 q q1]), rfl, (Nat.sub_sub _ _ _).symm, (Ex_some (K := fun r : Int × ST => Q.1 (some (vi r.1)) r.2 τ)).mp hx2⟩
    · have hjl : j < (sA σ a).length := (List.getElem?_eq_some_iff.mp hy).1
      unfold va_cpy
      rw [if_pos (by omega)]
      simpa using h6 j y hy
    · unfold va_cpy at hy
      split at hy
      · exact h7 _ y hy
      · cases hy
/-! a new list -/
theorem arrq0 {c : ClassId} {a : Nat} {f f' : Nat → Option Nat} (h : va_at (gD g) vCl (a, .inl (c, 0, .inr (.inr (.inr (.inr f))))) H) : va_at (gD g) vCl (a, .inl (c, 0, .inr (.inr (.inr (.inr f'))))) H := by
  have h' : H[a]? = some (arrV c 0 (fun j => va_rf (f j))) := h
  show H[a]? = some (arrV c 0 (fun j => va_rf (f' j)))
  rw [h']
  simp [arrV]
theorem U.linit {rc rs : Nat} {Q : UQ} {a z : Nat} (hZ : va_Z "java/util/ArrayList" "DEFAULTCAPACITY_EMPTY_ELEMENTDATA" "[Ljava/lang/Object;" (.ref z) (fun q => gB g ≤ q) (gs g) (gs g).heap) (hlow : ∀ q, q < gB g → H[q]? = (gs g).heap[q]?) (hat : va_at (gD g) vCl (a, .inr (15, [.int 0, .null, .int 0])) H) (hB : gB g ≤ a) (hd1 : 3 ≤ d)
    (kk : ∀ H', Pt1 g a (.inr (15, [.int 0, .ref z, .int 0])) H H' → Q.1 none H' rc rs) : U g mJ2_init d 0 [(0, vr (some a))] [] H rc rs Q := by
  refine U.b (l' := [(0, vr (some a))]) (st' := [vr (some a)]) (pc' := 1) (is := [(.aload_n 0, vi 0, 1)]) (by decide +kernel) rfl rfl ?_
  refine U.ci (N := mJ1_init) (d' := d - 1) [] [] rfl (by decide +kernel) q191 q192 rfl q193 rfl rfl (by decide +kernel) rfl rfl (by omega) rfl ?_
  refine U.b (l' := [(0, vr (some a))]) (st' := [vr (some a)]) (pc' := 1) (is := [(.aload_n 0, vi 0, 1)]) (by decide +kernel) rfl rfl ?_
  refine U.ci (N := mJ0_init) (d' := d - 2) [] [] rfl (by decide +kernel) q194 q195 rfl q196 rfl rfl (by decide +kernel) rfl rfl (by omega) rfl ?_
  refine U.b (l' := [(0, vr (some a))]) (st' := [vr (some a)]) (pc' := 1) (is := [(.aload_n 0, vi 0, 1)]) (by decide +kernel) rfl rfl ?_
  refine U.obj q197 (by omega) rfl (by decide +kernel) ?_
  refine U.vret rfl (by decide +kernel) ?_
  refine U.b (l' := [(0, vr (some a))]) (st' := [vi 0, vr (some a)]) (pc' := 6) (is := [(.aload_n 0, vi 0, 5), (.iconst 0, vi 0, 6)]) (by decide +kernel) rfl rfl ?_
  refine U.pf (k := 0) (x := vi 0) cd15 hat rfl q202 rfl rfl rfl rfl hB (by decide +kernel) (fun H1 hp1 => ?_)
  refine U.vret rfl (by decide +kernel) ?_
  refine U.b (l' := [(0, vr (some a))]) (st' := [vr (some a)]) (pc' := 5) (is := [(.aload_n 0, vi 0, 5)]) (by decide +kernel) rfl rfl ?_
  refine U.gets hZ (fun q hq => by rw [hp1.2.2 q (by omega)]; exact hlow q hq) q198 (by decide +kernel) ?_
  refine U.pf (k := 1) (x := vr (some z)) cd15 hp1.1 rfl q200 rfl rfl rfl rfl hB (by decide +kernel) (fun H2 hp2 => ?_)
  exact U.vret rfl (by decide +kernel) (kk H2 ⟨hp2.1, by rw [hp2.2.1, hp1.2.1], fun q hq => by rw [hp2.2.2 q hq, hp1.2.2 q hq]⟩)
theorem Rep.newlist (h : Rep g σ τ H) (h1 : va_at (gD g) vCl (sZ σ, .inr (15, [.int 0, .ref (sH σ 1), .int 0])) H') (h2 : H'.size = H.size + 1) (h3 : ∀ q, q < H.size → H'[q]? = H[q]?) : Rep g (nL σ) τ H' := by
  have hz := h.2.1
  have hle := h.2.2.1
  obtain ⟨g1, g2, g3, g4, g5, g6, g7⟩ := h.2.2.2.1
  have hlow := h.2.2.2.2
  refine h.grow (t := 16) (by decide) rfl rfl (fun b hb => ⟨rfl, up_ne _ _ hb, up_ne _ _ hb, rfl, rfl, rfl, up_ne _ _ hb, fun _ => rfl, fun _ => rfl, fun _ => rfl⟩) h2 h3 (fun own ho => ?_)
  unfold cellC
  have e1 : sc (nL σ) (sZ σ) = 16 := up_at _ _ _
  have e2 : sA (nL σ) (sZ σ) = [] := up_at _ _ _
  have e3 : sN (nL σ) (sZ σ) = 0 := up_at _ _ _
  have e4 : sH (nL σ) (sZ σ) = sH σ 1 := up_at _ _ _
  have e5 : sH (nL σ) 1 = sH σ 1 := up_ne _ _ (by omega)
  rw [if_neg (by rw [e1]; decide), if_pos e1, e2, e3, e4, e5]
  refine ⟨⟨0, h1⟩, by decide, by decide, ⟨fun _ => none, Or.inr ⟨rfl, g7.kept ?_⟩, (fun j b hb => by cases hb), (fun j b hb => by cases hb)⟩, Or.inl ⟨g3, rfl, rfl⟩⟩
  show H'[sH σ 1]? = (gs g).heap[sH σ 1]?
  rw [h3 _ (by omega), hlow _ g3]
theorem sm_newList {i i2 : Nat} (hcl : Cond.classLink M.1.cls i "java/util/ArrayList" ∈ lw_all) (hh : nocov M (pc + 4) = true) (hlink : Cond.methodLink M.1.cls i2 yJ2_init ∈ lw_all) (hr : rm (gRm g) σ 3) (hdd : 4 ≤ d) (hw : Nat.ble (2 * (st.length + 1) + 12) 64 = true) (hd : d1 M.2.1 pc (.new i) 3 = true) (hd2 : dks M.2.1 (pc + 3) [(.dup, vi 0, pc + 4)] = true) (hd3 : d1 M.2.1 (pc + 4) (.invokespecial i2) 3 = true)
    (kk : Sm (V g M d (pc + 7) l (vr (some (sZ σ)) :: st) (nL σ) τ Q) F K) : Sm (V g M d pc l st σ τ Q) F K := by
  intro hx H hR
  have hz : H.size = sZ σ := hR.2.1
  have hle := hR.2.2.1
  obtain ⟨g1, g2, g3, g4, g5, g6, g7⟩ := hR.2.2.2.1
  have hlow := hR.2.2.2.2
  refine U.new cd15 hcl q187 q136 (fs := [.int 0, .null, .int 0]) (by decide) (rm_1 hr) (rm_2 hr) hd (fun H' h1 h2 h3 => ?_)
  refine U.b (l' := l) (st' := vr (some H.size) :: vr (some H.size) :: st) (pc' := pc + 4) (is := [(.dup, vi 0, pc + 4)]) hd2 rfl rfl ?_
  refine U.ci (N := mJ2_init) (d' := d - 1) [] (vr (some H.size) :: st) hh hd3 hlink q189 rfl q190 rfl rfl (by decide +kernel) rfl rfl (by omega) (by simpa using hw) ?_
  refine U.linit g5 (fun q hq => by rw [h3 q (by omega)]; exact hlow q hq) h1 (by omega) (by omega) (fun H2 hp => ?_)
  rw [hz] at hp ⊢
  exact V.at rfl (Nat.sub_sub _ _ _).symm (kk hx) (hR.newlist hp.1 (by rw [hp.2.1, h2]) (fun q hq => by rw [hp.2.2 q (by omega)]; exact h3 q hq))
end ListV
