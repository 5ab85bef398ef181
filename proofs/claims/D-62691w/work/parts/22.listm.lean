set_option maxRecDepth 100000
/-! ArrayList's methods, by the heap -/
/-- a list's object -/
abbrev lO (a h n : Nat) (mc : Int32) : Nat × va_E := (a, .inr (15, [.int mc, .ref h, .int (nI n)]))
def lCap (c : Nat) : Nat := if c = 0 then 10 else c + max 1 (c / 2)
theorem iShr_eq (x : Int) (k : Nat) (hx : rg x) (hk : k < 32) : iShr x k = x / 2 ^ k := by
  have hs : ∀ k : Nat, k < 32 → ((Int32.ofInt k &&& 31).toBitVec.smod 32).toNat = k := by decide +kernel
  unfold iShr
  show ((Int32.ofInt x >>> (Int32.ofInt k &&& 31))).toBitVec.toInt = _
  rw [Int32.toBitVec_shiftRight, BitVec.sshiftRight_eq', BitVec.toInt_sshiftRight, hs k hk, Int.shiftRight_eq_div_pow]
  have h := rg_to hx
  rw [show (Int32.ofInt x).toBitVec.toInt = x from h]
  simp
theorem shr1 (n : Nat) (h : n < 2 ^ 31) : iShr (n : Int) 1 = ((n / 2 : Nat) : Int) := by
  have hh := iShr_eq (n : Int) 1 ⟨by omega, by omega⟩ (by omega)
  rw [show ((1 : Nat) : Int) = 1 from rfl] at hh
  rw [hh]; simp
section ListM
variable {g : GE} {M N : Mt} {d d' pc pc' tgt : Nat} {off : Int} {l l' : List (Nat × LV)} {st st' : List LV} {H H' : Heap} {rc rs : Nat} {Q : UQ}
theorem Rv.list {a h n : Nat} {mc : Int32} (G : GF g) (hat : va_at (gD g) vCl (lO a h n mc) H) : Rv g "java/util/ArrayList" a H := by
  obtain ⟨r, h1, cell, q1, q2, q3, q4⟩ := hat
  have hr : r = (RJ2, TJ2, 3) := Option.some.inj (h1.symm.trans cd15.1)
  subst hr
  obtain ⟨-, hfc, -⟩ := G.2.2.1 15 _ cd15.1
  exact ⟨cell, q1, by rw [q3]; rfl, by rw [q2]; exact hfc⟩
theorem U.newLength {x y z : Int} (hx : 0 < x ∧ x < 100000000) (hy : 0 < y ∧ y < 100000000) (hz : 0 ≤ z ∧ z < 100000000) (hd : 1 ≤ d) (hq : Q.1 (some (vi (x + max y z))) H rc rs) : U g mJ12_newLength d 0 [(0, vi x), (1, vi y), (2, vi z)] [] H rc rs Q := by
  refine U.b (l' := [(0, vi x), (1, vi y), (2, vi z)]) (st' := [vi z, vi y, vi x]) (pc' := 3) (is := [(.iload_n 0, vi 0, 1), (.iload_n 1, vi 0, 2), (.iload_n 2, vi 0, 3)]) (by decide +kernel) rfl rfl ?_
  refine U.cs (N := mJ11_max) (d' := d - 1) [vi y, vi z] [vi x] rfl (by decide +kernel) q611 q539 q150 (Or.inl ⟨rfl, q540⟩) (show okN yJ11_max 2 = true by decide +kernel) rfl rfl (by omega) rfl ?_
  refine U.jmax ⟨by omega, by omega⟩ ⟨by omega, by omega⟩ ?_
  refine U.b (l' := [(0, vi x), (1, vi y), (2, vi z), (3, vi (x + max y z))]) (st' := [vi (x + max y z), vi 0]) (pc' := 10) (is := [(.iadd, vi 0, 7), (.istore_n 3, vi 0, 8), (.iconst 0, vi 0, 9), (.iload_n 3, vi 0, 10)]) (by decide +kernel) rfl rfl ?_
  refine U.icmp_ge (off := 11) (tgt := 21) (by decide) ⟨by omega, by omega⟩ (by decide +kernel) (fun c => by omega) (fun c => ?_)
  refine U.b (l' := [(0, vi x), (1, vi y), (2, vi z), (3, vi (x + max y z))]) (st' := [vi (x + max y z)]) (pc' := 14) (is := [(.iload_n 3, vi 0, 14)]) (by decide +kernel) rfl rfl ?_
  refine U.ldc (x := 2147483639) (by decide) (by decide +kernel) q612 ?_
  refine U.icmp_gt (off := 5) (tgt := 21) ⟨by omega, by omega⟩ (by decide) (by decide +kernel) (fun c => by omega) (fun c => ?_)
  refine U.b (l' := [(0, vi x), (1, vi y), (2, vi z), (3, vi (x + max y z))]) (st' := [vi (x + max y z)]) (pc' := 20) (is := [(.iload_n 3, vi 0, 20)]) (by decide +kernel) rfl rfl ?_
  exact U.iret rfl (by decide +kernel) hq
theorem U.copyOf2 {a n mi : Nat} {f : Nat → Option Nat} {k : Int} (hM : va_Mi "[Ljava/lang/Object;" mi (gs g)) (hat : va_at (gD g) vCl (a, qA g n f) H) (hel : ∀ (j x : Nat), f j = some x → AnyO g x H) (hle : gB g ≤ H.size) (hn : (n : Int) ≤ k) (hk : k < 16777216) (hrc : 1 ≤ rc) (hrs : k.toNat ≤ rs) (hd : 2 ≤ d)
    (hq : ∀ H', va_at (gD g) vCl (H.size, qA g k.toNat (va_cpy f (fun _ => none) 0 0 n)) H' → H'.size = H.size + 1 → (∀ q, q < H.size → H'[q]? = H[q]?) → Q.1 (some (vr (some H.size))) H' (rc - 1) (rs - k.toNat)) : U g mJ13_copyOf_2 d 0 [(0, vr (some a)), (1, vi k), (2, vr (some mi))] [] H rc rs Q := by
  refine U.b (l' := [(0, vr (some a)), (1, vi k), (2, vr (some mi))]) (st' := [vr (some mi)]) (pc' := 1) (is := [(.aload_n 2, vi 0, 1)]) (by decide +kernel) rfl rfl ?_
  refine U.ldcM q643 hM (by decide +kernel) ?_
  refine U.acmp_ne (off := 10) (tgt := 13) (by decide +kernel) (fun c => absurd rfl c) (fun _ => ?_)
  refine U.b (l' := [(0, vr (some a)), (1, vi k), (2, vr (some mi))]) (st' := [vi k]) (pc' := 7) (is := [(.iload_n 1, vi 0, 7)]) (by decide +kernel) rfl rfl ?_
  refine U.anewO q645 ⟨by omega, hk⟩ hrc hrs (by decide +kernel) (fun H1 e1 z1 o1 => ?_)
  have hat1 := hat.kept (o1 a hat.lt)
  refine U.b (l' := [(0, vr (some a)), (1, vi k), (2, vr (some mi)), (3, vr (some H.size))]) (st' := [vr (some a), vi 0, vr (some H.size), vi 0, vr (some a)]) (pc' := 30) (is := [(.goto 14, vi 0, 24), (.astore_n 3, vi 0, 25), (.aload_n 0, vi 0, 26), (.iconst 0, vi 0, 27), (.aload_n 3, vi 0, 28), (.iconst 0, vi 0, 29), (.aload_n 0, vi 0, 30)]) (by decide +kernel) rfl rfl ?_
  refine U.alen (t := 4) hat1 rfl (by decide +kernel) ?_
  refine U.b (l' := [(0, vr (some a)), (1, vi k), (2, vr (some mi)), (3, vr (some H.size))]) (st' := [vi k, vi n, vi 0, vr (some H.size), vi 0, vr (some a)]) (pc' := 32) (is := [(.iload_n 1, vi 0, 32)]) (by decide +kernel) rfl rfl ?_
  refine U.cs (N := mJ11_min) (d' := d - 1) [vi n, vi k] [vi 0, vr (some H.size), vi 0, vr (some a)] rfl (by decide +kernel) q646 q647 q150 (Or.inl ⟨rfl, q648⟩) (show okN yJ11_min 2 = true by decide +kernel) rfl rfl (by omega) rfl ?_
  refine U.jmin ⟨by omega, by omega⟩ ⟨by omega, by omega⟩ ?_
  rw [show min (n : Int) k = n by omega]
  refine U.copyq (n := (n : Int)) q649 hat1 e1 (by have : gB g ≤ H.size := hle; exact this) (fun j x hx => (hel j x hx).kept (o1 x (by obtain ⟨cell, ci, q, h1, -⟩ := hel j x hx; exact (Array.getElem?_eq_some_iff.mp h1).1))) (by omega) (by omega) (by omega) (by omega) (by omega) (by omega) rfl (by decide +kernel) (fun H2 hp => ?_)
  rw [show ((n : Nat) : Int).toNat = n by omega] at hp
  refine U.b (l' := [(0, vr (some a)), (1, vi k), (2, vr (some mi)), (3, vr (some H.size))]) (st' := [vr (some H.size)]) (pc' := 39) (is := [(.aload_n 3, vi 0, 39)]) (by decide +kernel) rfl rfl ?_
  exact U.aret rfl rfl (by decide +kernel) (hq H2 hp.1 (by rw [hp.2.1, z1]) (fun q hq => by rw [hp.2.2 q (by omega)]; exact o1 q hq))
theorem U.copyOf {a n mi : Nat} {f : Nat → Option Nat} {k : Int} (hM : va_Mi "[Ljava/lang/Object;" mi (gs g)) (hat : va_at (gD g) vCl (a, qA g n f) H) (hel : ∀ (j x : Nat), f j = some x → AnyO g x H) (hle : gB g ≤ H.size) (hn : (n : Int) ≤ k) (hk : k < 16777216) (hrc : 1 ≤ rc) (hrs : k.toNat ≤ rs) (hd : 3 ≤ d)
    (hq : ∀ H', va_at (gD g) vCl (H.size, qA g k.toNat (va_cpy f (fun _ => none) 0 0 n)) H' → H'.size = H.size + 1 → (∀ q, q < H.size → H'[q]? = H[q]?) → Q.1 (some (vr (some H.size))) H' (rc - 1) (rs - k.toNat)) : U g mJ13_copyOf d 0 [(0, vr (some a)), (1, vi k)] [] H rc rs Q := by
  refine U.b (l' := [(0, vr (some a)), (1, vi k)]) (st' := [vr (some a), vi k, vr (some a)]) (pc' := 3) (is := [(.aload_n 0, vi 0, 1), (.iload_n 1, vi 0, 2), (.aload_n 0, vi 0, 3)]) (by decide +kernel) rfl rfl ?_
  refine U.getC q619 hM hat (by omega) rfl (by decide +kernel) ?_
  refine U.cs (N := mJ13_copyOf_2) (d' := d - 1) [vr (some a), vi k, vr (some mi)] [] rfl (by decide +kernel) q640 q641 q152 (Or.inl ⟨rfl, q642⟩) (show okN yJ13_copyOf_2 3 = true by decide +kernel) rfl rfl (by omega) rfl ?_
  refine U.copyOf2 hM hat hel hle hn hk hrc hrs (by omega) (fun H' h1 h2 h3 => ?_)
  exact U.aret rfl rfl (by decide +kernel) (hq H' h1 h2 h3)
/-- the room grows: a new array, the list's object has it -/
theorem U.grow2 {a h n c z mi : Nat} {mc : Int32} {f : Nat → Option Nat} (hM : va_Mi "[Ljava/lang/Object;" mi (gs g)) (hZ : va_Z "java/util/ArrayList" "DEFAULTCAPACITY_EMPTY_ELEMENTDATA" "[Ljava/lang/Object;" (.ref z) (fun q => gB g ≤ q) (gs g) (gs g).heap) (hlow : ∀ q, q < gB g → H[q]? = (gs g).heap[q]?)
    (hat : va_at (gD g) vCl (lO a h n mc) H) (har : oA g h c f H) (hcz : c = 0 → h = z) (hel : ∀ (j x : Nat), f j = some x → AnyO g x H) (hle : gB g ≤ H.size) (hnc : n = c) (hc : c < 4000000) (hB : gB g ≤ a) (hrc : 1 ≤ rc) (hrs : lCap c ≤ rs) (hd : 5 ≤ d)
    (hq : ∀ H', va_at (gD g) vCl (lO a H.size n mc) H' → va_at (gD g) vCl (H.size, qA g (lCap c) (va_cpy f (fun _ => none) 0 0 c)) H' → H'.size = H.size + 1 → (∀ q, q ≠ a → q < H.size → H'[q]? = H[q]?) → Q.1 (some (vr (some H.size))) H' (rc - 1) (rs - lCap c)) : U g mJ2_grow_2 d 0 [(0, vr (some a)), (1, vi ((n : Nat) + 1))] [] H rc rs Q := by
  subst hnc
  have hne : a ≠ H.size := by have hal : a < H.size := hat.lt; omega
  refine U.b (l' := [(0, vr (some a)), (1, vi ((n : Nat) + 1))]) (st' := [vr (some a)]) (pc' := 1) (is := [(.aload_n 0, vi 0, 1)]) (by decide +kernel) rfl rfl ?_
  refine U.gf (k := 1) (x := vr (some h)) cd15 hat rfl q200 rfl (by decide +kernel) ?_
  refine U.alenO har (by decide +kernel) ?_
  refine U.b (l' := [(0, vr (some a)), (1, vi ((n : Nat) + 1)), (2, vi n)]) (st' := [vi n]) (pc' := 7) (is := [(.istore_n 2, vi 0, 6), (.iload_n 2, vi 0, 7)]) (by decide +kernel) rfl rfl ?_
  refine U.if_gt (off := 13) (tgt := 20) ⟨by omega, by omega⟩ (by decide +kernel) (fun c => ?_) (fun c => ?_)
  · have hcap : lCap n = n + max 1 (n / 2) := by unfold lCap; rw [if_neg (by omega)]
    refine U.b (l' := [(0, vr (some a)), (1, vi ((n : Nat) + 1)), (2, vi n)]) (st' := [vi (iShr n 1), vi ((n : Nat) + 1 - n), vi n]) (pc' := 27) (is := [(.iload_n 2, vi 0, 21), (.iload_n 1, vi 0, 22), (.iload_n 2, vi 0, 23), (.isub, vi 0, 24), (.iload_n 2, vi 0, 25), (.iconst 1, vi 1, 26), (.ishr, vi 0, 27)]) (by decide +kernel) rfl rfl ?_
    have hsh : iShr (n : Int) 1 = ((n / 2 : Nat) : Int) := shr1 n (by omega)
    rw [hsh, show ((n : Nat) : Int) + 1 - n = 1 by omega]
    refine U.cs (N := mJ12_newLength) (d' := d - 1) [vi n, vi 1, vi ((n / 2 : Nat) : Int)] [] rfl (by decide +kernel) q608 q609 q151 (Or.inl ⟨rfl, q610⟩) (show okN yJ12_newLength 3 = true by decide +kernel) rfl rfl (by omega) rfl ?_
    refine U.newLength ⟨by omega, by omega⟩ ⟨by omega, by omega⟩ ⟨by omega, by omega⟩ (by omega) ?_
    rw [show (n : Int) + max 1 ((n / 2 : Nat) : Int) = ((lCap n : Nat) : Int) by rw [hcap]; omega]
    refine U.b (l' := [(0, vr (some a)), (1, vi ((n : Nat) + 1)), (2, vi n), (3, vi ((lCap n : Nat) : Int))]) (st' := [vr (some a), vr (some a)]) (pc' := 33) (is := [(.istore_n 3, vi 0, 31), (.aload_n 0, vi 0, 32), (.aload_n 0, vi 0, 33)]) (by decide +kernel) rfl rfl ?_
    refine U.gf (k := 1) (x := vr (some h)) cd15 hat rfl q200 rfl (by decide +kernel) ?_
    refine U.b (l' := [(0, vr (some a)), (1, vi ((n : Nat) + 1)), (2, vi n), (3, vi ((lCap n : Nat) : Int))]) (st' := [vi ((lCap n : Nat) : Int), vr (some h), vr (some a)]) (pc' := 37) (is := [(.iload_n 3, vi 0, 37)]) (by decide +kernel) rfl rfl ?_
    refine U.cs (N := mJ13_copyOf) (d' := d - 1) [vr (some h), vi ((lCap n : Nat) : Int)] [vr (some a)] rfl (by decide +kernel) q616 q617 q152 (Or.inl ⟨rfl, q618⟩) (show okN yJ13_copyOf 2 = true by decide +kernel) rfl rfl (by omega) rfl ?_
    refine U.copyOf hM (har.own (by omega)) hel hle (by omega) (by omega) hrc (by omega) (by omega) (fun H1 h1 h2 h3 => ?_)
    rw [show ((lCap n : Nat) : Int).toNat = lCap n by omega] at h1 ⊢
    refine U.dupx1 (by decide +kernel) ?_
    refine U.pf (k := 1) (x := vr (some H.size)) cd15 (hat.kept (h3 a hat.lt)) rfl q200 rfl rfl rfl rfl hB (by decide +kernel) (fun H2 hp => ?_)
    exact U.aret rfl rfl (by decide +kernel) (hq H2 hp.1 (h1.kept (hp.2.2 _ (Ne.symm hne))) (by rw [hp.2.1, h2]) (fun q q1 q2 => by rw [hp.2.2 q q1]; exact h3 q q2))
  · have hn0 : n = 0 := by omega
    have hcap : lCap n = 10 := by unfold lCap; rw [if_pos hn0]
    have hhz := hcz hn0
    refine U.b (l' := [(0, vr (some a)), (1, vi ((n : Nat) + 1)), (2, vi n)]) (st' := [vr (some a)]) (pc' := 11) (is := [(.aload_n 0, vi 0, 11)]) (by decide +kernel) rfl rfl ?_
    refine U.gf (k := 1) (x := vr (some h)) cd15 hat rfl q200 rfl (by decide +kernel) ?_
    refine U.gets hZ hlow q198 (by decide +kernel) ?_
    refine U.acmp_eq (off := 28) (tgt := 45) (by decide +kernel) (fun _ => ?_) (fun c => absurd (by rw [hhz]) c)
    refine U.b (l' := [(0, vr (some a)), (1, vi ((n : Nat) + 1)), (2, vi n)]) (st' := [vi ((n : Nat) + 1), vi 10, vr (some a)]) (pc' := 49) (is := [(.aload_n 0, vi 0, 46), (.bipush 10, vi 10, 48), (.iload_n 1, vi 0, 49)]) (by decide +kernel) rfl rfl ?_
    refine U.cs (N := mJ11_max) (d' := d - 1) [vi 10, vi ((n : Nat) + 1)] [vr (some a)] rfl (by decide +kernel) q650 q539 q150 (Or.inl ⟨rfl, q540⟩) (show okN yJ11_max 2 = true by decide +kernel) rfl rfl (by omega) rfl ?_
    refine U.jmax (by decide) ⟨by omega, by omega⟩ ?_
    rw [show max 10 (((n : Nat) : Int) + 1) = ((lCap n : Nat) : Int) by rw [hcap]; omega]
    refine U.anewO q651 ⟨by omega, by omega⟩ hrc (by omega) (by decide +kernel) (fun H1 h1 h2 h3 => ?_)
    rw [show ((lCap n : Nat) : Int).toNat = lCap n by omega] at h1 ⊢
    refine U.dupx1 (by decide +kernel) ?_
    refine U.pf (k := 1) (x := vr (some H.size)) cd15 (hat.kept (h3 a hat.lt)) rfl q200 rfl rfl rfl rfl hB (by decide +kernel) (fun H2 hp => ?_)
    refine U.aret rfl rfl (by decide +kernel) (hq H2 hp.1 ?_ (by rw [hp.2.1, h2]) (fun q q1 q2 => by rw [hp.2.2 q q1]; exact h3 q q2))
    have h4 := h1.kept (hp.2.2 _ (Ne.symm hne))
    rw [show va_cpy f (fun _ => none) 0 0 n = fun _ => none from by funext j; unfold va_cpy; rw [if_neg (by omega)]]
    exact h4
theorem U.grow {a h n c z mi : Nat} {mc : Int32} {f : Nat → Option Nat} (G : GF g) (hM : va_Mi "[Ljava/lang/Object;" mi (gs g)) (hZ : va_Z "java/util/ArrayList" "DEFAULTCAPACITY_EMPTY_ELEMENTDATA" "[Ljava/lang/Object;" (.ref z) (fun q => gB g ≤ q) (gs g) (gs g).heap) (hlow : ∀ q, q < gB g → H[q]? = (gs g).heap[q]?)
    (hat : va_at (gD g) vCl (lO a h n mc) H) (har : oA g h c f H) (hcz : c = 0 → h = z) (hel : ∀ (j x : Nat), f j = some x → AnyO g x H) (hle : gB g ≤ H.size) (hnc : n = c) (hc : c < 4000000) (hB : gB g ≤ a) (hrc : 1 ≤ rc) (hrs : lCap c ≤ rs) (hd : 6 ≤ d)
    (hq : ∀ H', va_at (gD g) vCl (lO a H.size n mc) H' → va_at (gD g) vCl (H.size, qA g (lCap c) (va_cpy f (fun _ => none) 0 0 c)) H' → H'.size = H.size + 1 → (∀ q, q ≠ a → q < H.size → H'[q]? = H[q]?) → Q.1 (some (vr (some H.size))) H' (rc - 1) (rs - lCap c)) : U g mJ2_grow d 0 [(0, vr (some a))] [] H rc rs Q := by
  refine U.b (l' := [(0, vr (some a))]) (st' := [vr (some a), vr (some a)]) (pc' := 2) (is := [(.aload_n 0, vi 0, 1), (.aload_n 0, vi 0, 2)]) (by decide +kernel) rfl rfl ?_
  refine U.gf (k := 2) (x := vi n) cd15 hat rfl q201 (by rw [nI_ofI]; rfl) (by decide +kernel) ?_
  refine U.b (l' := [(0, vr (some a))]) (st' := [vi ((n : Nat) + 1), vr (some a)]) (pc' := 7) (is := [(.iconst 1, vi 1, 6), (.iadd, vi 0, 7)]) (by decide +kernel) rfl rfl ?_
  refine U.cv (N := mJ2_grow_2) (d' := d - 1) [vi ((n : Nat) + 1)] [] rfl (by decide +kernel) q604 q606 qs12 (Or.inl ⟨rfl, q607⟩) (show okN yJ2_grow_2 1 = true by decide +kernel) (Rv.list G hat) rfl rfl (by omega) rfl ?_
  refine U.grow2 hM hZ hlow hat har hcz hel hle hnc hc hB hrc hrs (by omega) (fun H' h1 h2 h3 h4 => ?_)
  exact U.aret rfl rfl (by decide +kernel) (hq H' h1 h2 h3 h4)
theorem U.ladd2 {a h n c x z mi : Nat} {mc : Int32} {f : Nat → Option Nat} (G : GF g) (hM : va_Mi "[Ljava/lang/Object;" mi (gs g)) (hZ : va_Z "java/util/ArrayList" "DEFAULTCAPACITY_EMPTY_ELEMENTDATA" "[Ljava/lang/Object;" (.ref z) (fun q => gB g ≤ q) (gs g) (gs g).heap) (hlow : ∀ q, q < gB g → H[q]? = (gs g).heap[q]?)
    (hat : va_at (gD g) vCl (lO a h n mc) H) (har : oA g h c f H) (hcz : c = 0 → h = z) (hel : ∀ (j x : Nat), f j = some x → AnyO g x H) (hx : AnyO g x H) (hxa : x ≠ a) (hea : ∀ j, f j ≠ some a) (hle : gB g ≤ H.size) (hnc : n ≤ c) (hc : c < 4000000) (hB : gB g ≤ a) (hah : h ≠ a) (hBh : c ≠ 0 → gB g ≤ h) (hres : n = c → 1 ≤ rc ∧ lCap c ≤ rs) (hd : 7 ≤ d)
    (hq1 : n < c → ∀ H', va_at (gD g) vCl (lO a h (n + 1) mc) H' → va_at (gD g) vCl (h, qA g c (up f n (some x))) H' → H'.size = H.size → (∀ q, q ≠ a → q ≠ h → H'[q]? = H[q]?) → Q.1 none H' rc rs)
    (hq2 : n = c → ∀ H', va_at (gD g) vCl (lO a H.size (n + 1) mc) H' → va_at (gD g) vCl (H.size, qA g (lCap c) (up (va_cpy f (fun _ => none) 0 0 c) n (some x))) H' → H'.size = H.size + 1 → (∀ q, q ≠ a → q < H.size → H'[q]? = H[q]?) → Q.1 none H' (rc - 1) (rs - lCap c)) : U g mJ2_add_2 d 0 [(0, vr (some a)), (1, vr (some x)), (2, vr (some h)), (3, vi n)] [] H rc rs Q := by
  have hrn : rg (n : Int) := ⟨by omega, by omega⟩
  have hne : a ≠ H.size := by have hal : a < H.size := hat.lt; omega
  have hcl : n < lCap n := by unfold lCap; split <;> omega
  have hcb : lCap c < 2 ^ 24 := by unfold lCap; split <;> omega
  -- the end: the element, the size
  have tail : ∀ (h2 c2 : Nat) (f2 : Nat → Option Nat) (H2 : Heap) (rc2 rs2 : Nat), va_at (gD g) vCl (lO a h2 n mc) H2 → va_at (gD g) vCl (h2, qA g c2 f2) H2 → AnyO g x H2 → n < c2 → c2 < 2 ^ 24 → gB g ≤ h2 → h2 ≠ a → (∀ H', va_at (gD g) vCl (lO a h2 (n + 1) mc) H' → va_at (gD g) vCl (h2, qA g c2 (up f2 n (some x))) H' → H'.size = H2.size → (∀ q, q ≠ a → q ≠ h2 → H'[q]? = H2[q]?) → Q.1 none H' rc2 rs2) →
      U g mJ2_add_2 d 11 [(0, vr (some a)), (1, vr (some x)), (2, vr (some h2)), (3, vi n)] [] H2 rc2 rs2 Q := by
    intro h2 c2 f2 H2 rc2 rs2 k1 k2 k3 k4 k5 k6 k7 k8
    refine U.b (l' := [(0, vr (some a)), (1, vr (some x)), (2, vr (some h2)), (3, vi n)]) (st' := [vr (some x), vi n, vr (some h2)]) (pc' := 14) (is := [(.aload_n 2, vi 0, 12), (.iload_n 3, vi 0, 13), (.aload_n 1, vi 0, 14)]) (by decide +kernel) rfl rfl ?_
    refine U.aastO k2 k3 ⟨by omega, by omega⟩ k5 k6 (by decide +kernel) (fun H3 hp => ?_)
    rw [show ((n : Nat) : Int).toNat = n by omega] at hp
    refine U.b (l' := [(0, vr (some a)), (1, vr (some x)), (2, vr (some h2)), (3, vi n)]) (st' := [vi ((n : Nat) + 1), vr (some a)]) (pc' := 19) (is := [(.aload_n 0, vi 0, 16), (.iload_n 3, vi 0, 17), (.iconst 1, vi 1, 18), (.iadd, vi 0, 19)]) (by decide +kernel) rfl rfl ?_
    refine U.pf (k := 2) (x := vi ((n : Nat) + 1)) cd15 (k1.kept (hp.2.2 a (Ne.symm k7))) rfl q201 rfl rfl rfl rfl hB (by decide +kernel) (fun H4 hp4 => ?_)
    refine U.vret rfl (by decide +kernel) (k8 H4 ?_ (hp.1.kept (hp4.2.2 _ k7)) (by rw [hp4.2.1, hp.2.1]) (fun q q1 q2 => by rw [hp4.2.2 q q1, hp.2.2 q q2]))
    have e := hp4.1
    show va_at (gD g) vCl (a, .inr (15, [.int mc, .ref h2, .int (nI (n + 1))])) H4
    rw [nI_ofI]
    exact e
  refine U.b (l' := [(0, vr (some a)), (1, vr (some x)), (2, vr (some h)), (3, vi n)]) (st' := [vr (some h), vi n]) (pc' := 2) (is := [(.iload_n 3, vi 0, 1), (.aload_n 2, vi 0, 2)]) (by decide +kernel) rfl rfl ?_
  refine U.alenO har (by decide +kernel) ?_
  refine U.icmp_ne (off := 8) (tgt := 11) hrn ⟨by omega, by omega⟩ (by decide +kernel) (fun c1 => ?_) (fun c1 => ?_)
  · have hlt : n < c := by omega
    exact tail h c f H rc rs hat (har.own (by omega)) hx hlt (by omega) (hBh (by omega)) hah (hq1 hlt)
  · have hcc : n = c := by omega
    obtain ⟨r1, r2⟩ := hres hcc
    refine U.b (l' := [(0, vr (some a)), (1, vr (some x)), (2, vr (some h)), (3, vi n)]) (st' := [vr (some a)]) (pc' := 7) (is := [(.aload_n 0, vi 0, 7)]) (by decide +kernel) rfl rfl ?_
    refine U.cv (N := mJ2_grow) (d' := d - 1) [] [] rfl (by decide +kernel) q600 q602 qs11 (Or.inl ⟨rfl, q603⟩) (show okN yJ2_grow 0 = true by decide +kernel) (Rv.list G hat) rfl rfl (by omega) rfl ?_
    refine U.grow G hM hZ hlow hat har hcz hel hle hcc hc hB r1 r2 (by omega) (fun H1 h1 h2 h3 h4 => ?_)
    refine U.b (l' := [(0, vr (some a)), (1, vr (some x)), (2, vr (some H.size)), (3, vi n)]) (st' := []) (pc' := 11) (is := [(.astore_n 2, vi 0, 11)]) (by decide +kernel) rfl rfl ?_
    have hxl : x < H.size := by obtain ⟨cell, ci, q, e1, -⟩ := hx; exact (Array.getElem?_eq_some_iff.mp e1).1
    refine tail H.size (lCap c) _ H1 (rc - 1) (rs - lCap c) h1 h2 (hx.kept (h4 x hxa hxl)) (by rw [hcc] at hcl ⊢; exact hcl) hcb hle (Ne.symm hne) (fun H' e1 e2 e3 e4 => hq2 hcc H' e1 e2 (by rw [e3, h3]) (fun q q1 q2 => by rw [e4 q q1 (by omega)]; exact h4 q q1 q2))
end ListM
