set_option maxRecDepth 100000
/-! Row.add and what rests on it -/
def r_add (bb : Nat × Nat) (a : Nat) (x : Int) (σ : ST) : Option ST :=
  gd (sc σ a = 4 ∧ (sW σ a).length < 8000000) (if (sW σ a).length = sN σ a then gd (rm bb σ (max 8 (2 * (sW σ a).length))) (some (sWg σ a (sW σ a ++ [u8 x]) (max 8 (2 * (sW σ a).length)))) else some (sWu σ a (sW σ a ++ [u8 x])))
theorem u8_iB (x : Int) : u8 (iB x) = u8 x := by
  unfold u8 iB
  rw [Int32.ofInt_toInt]
  simp
section RAdd
variable {g : GE} {M N : Mt} {d d' pc pc' tgt : Nat} {off : Int} {l l' : List (Nat × LV)} {st st' : List LV} {σ σ' : ST} {τ : TT} {Q : VQ} {X Y : Type} {F A B : Option X} {K : X → Prop} {P : Prop} {H H' : Heap} {own : Nat → Nat}
theorem add_tail {rc rs : Nat} {Q : UQ} {a h n c : Nat} {f : Nat → UInt8} {x : Int} (hrow : va_at (gD g) vCl (a, .inr (3, [.ref h, .int (nI n)])) H) (harr : va_at (gD g) vCl (h, .inl (ga g 0, c, .inl (fun j => sbW (f j)))) H) (hn : n < c) (hc : c < 2 ^ 24) (hBa : gB g ≤ a) (hBh : gB g ≤ h) (hah : h ≠ a)
    (hQ : ∀ H', va_at (gD g) vCl (a, .inr (3, [.ref h, .int (nI (n + 1))])) H' → va_at (gD g) vCl (h, .inl (ga g 0, c, .inl (fun j => sbW (up f n (u8 x) j)))) H' → H'.size = H.size → (∀ q, q ≠ a → q ≠ h → H'[q]? = H[q]?) → Q.1 none H' rc rs) : U g mX3_add d 45 [(0, vr (some a)), (1, vi x)] [] H rc rs Q := by
  have hrn : rg (n : Int) := ⟨by omega, by omega⟩
  refine U.b (l' := [(0, vr (some a)), (1, vi x)]) (st' := [vr (some a)]) (pc' := 46) (is := [(.aload_n 0, vi 0, 46)]) (by decide +kernel) rfl rfl ?_
  refine U.gf (k := 0) (x := vr (some h)) cd3 hrow rfl q274 rfl (by decide +kernel) ?_
  refine U.b (l' := [(0, vr (some a)), (1, vi x)]) (st' := [vr (some a), vr (some h)]) (pc' := 50) (is := [(.aload_n 0, vi 0, 50)]) (by decide +kernel) rfl rfl ?_
  refine U.gf (k := 1) (x := vi n) cd3 hrow rfl q278 (by rw [nI_ofI]; rfl) (by decide +kernel) ?_
  refine U.b (l' := [(0, vr (some a)), (1, vi x)]) (st' := [vi (iB x), vi n, vr (some h)]) (pc' := 55) (is := [(.iload_n 1, vi 0, 54), (.i2b, vi 0, 55)]) (by decide +kernel) rfl rfl ?_
  refine U.bast hrn harr ⟨by omega, by omega⟩ hBh (by decide +kernel) (fun H1 hp => ?_)
  have hrow1 := hrow.kept (hp.2.2 a (Ne.symm hah))
  have harr1 := hp.1
  rw [show (n : Int).toNat = n from by omega, ← sbW_up, u8_iB] at harr1
  refine U.b (l' := [(0, vr (some a)), (1, vi x)]) (st' := [vr (some a), vr (some a)]) (pc' := 58) (is := [(.aload_n 0, vi 0, 57), (.dup, vi 0, 58)]) (by decide +kernel) rfl rfl ?_
  refine U.gf (k := 1) (x := vi n) cd3 hrow1 rfl q278 (by rw [nI_ofI]; rfl) (by decide +kernel) ?_
  refine U.b (l' := [(0, vr (some a)), (1, vi x)]) (st' := [vi (n + 1), vr (some a)]) (pc' := 63) (is := [(.iconst 1, vi 1, 62), (.iadd, vi 0, 63)]) (by decide +kernel) rfl rfl ?_
  refine U.pf (k := 1) (x := vi (n + 1)) cd3 hrow1 rfl q278 rfl rfl rfl rfl hBa (by decide +kernel) (fun H2 hp2 => ?_)
  refine U.vret rfl (by decide +kernel) (hQ H2 ?_ (harr1.kept (hp2.2.2 h hah)) (by rw [hp2.2.1, hp.2.1]) (fun q q1 q2 => by rw [hp2.2.2 q q1, hp.2.2 q q2]))
  have h := hp2.1
  rw [nI_ofI]
  exact h
theorem getElem?_push {w : List UInt8} {b c : UInt8} {j : Nat} (h : (w ++ [b])[j]? = some c) : (w[j]? = some c ∧ j < w.length) ∨ (j = w.length ∧ c = b) := by
  rcases Nat.lt_trichotomy j w.length with e | e | e
  · left; rw [List.getElem?_append_left e] at h; exact ⟨h, e⟩
  · right; subst e; simp at h; exact ⟨rfl, h.symm⟩
  · rw [List.getElem?_append_right (by omega)] at h
    have hz : j - w.length < 1 := (List.getElem?_eq_some_iff.mp h).1
    omega
/-- a row's own array, its bytes -/
theorem Rep.rowpush {a : Nat} {b : UInt8} (h : Rep g σ τ H) (ha : sc σ a = 4) (hn : (sW σ a).length < sN σ a) {f : Nat → UInt8} (hf : ∀ (j : Nat) (b : UInt8), (sW σ a)[j]? = some b → f j = b)
    (h1 : va_at (gD g) vCl (a, .inr (3, [.ref (sH σ a), .int (nI ((sW σ a).length + 1))])) H') (h2 : va_at (gD g) vCl (sH σ a, .inl (ga g 0, sN σ a, .inl (fun j => sbW (up f (sW σ a).length b j)))) H') (hsz : H'.size = H.size) (ho : ∀ q, q ≠ a → q ≠ sH σ a → H'[q]? = H[q]?) : Rep g (sWu σ a (sW σ a ++ [b])) τ H' := by
  obtain ⟨⟨own, hC, hT⟩, hzz, hle, hzs, hlow⟩ := h
  obtain ⟨ca1, ca2, ca3⟩ := hC a (by omega)
  have ca4 := ca3
  unfold cellC at ca3
  rw [if_pos ha] at ca3
  obtain ⟨q1, q2, q3, ⟨f0, q4, q5⟩, q6⟩ := ca3
  have q6' : gB g ≤ sH σ a ∧ own (sH σ a) = a ∧ sc σ (sH σ a) = 0 := by
    rcases q6 with q | q
    · omega
    · exact q
  refine ⟨⟨own, fun x hx => ?_, hT.tr (fun _ _ _ => rfl) (fun _ _ _ e => e) (fun q _ e1 e2 => ho q (fun e => by rw [e] at e2; omega) (fun e => ?_))⟩, by rw [hsz]; exact hzz, by rw [hsz]; exact hle, hzs, fun q hq => by rw [ho q (by omega) (by omega)]; exact hlow q hq⟩
  · obtain ⟨c1, c2, c3⟩ := hC x hx
    refine ⟨c1, c2, ?_⟩
    by_cases e : x = a
    · subst e
      unfold cellC
      show (if sc σ x = 4 then _ else _)
      rw [if_pos ha]
      have hw : sW (sWu σ x (sW σ x ++ [b])) x = sW σ x ++ [b] := up_at _ _ _
      rw [hw, List.length_append]
      refine ⟨h1, by show _ ≤ sN σ x; simp; omega, q3, ⟨_, Or.inl ⟨by show sN σ x ≠ 0; omega, h2⟩, fun j c hc => ?_⟩, Or.inr q6'⟩
      rcases getElem?_push hc with ⟨e1, e2⟩ | ⟨e1, e2⟩
      · rw [up_ne _ _ (by omega)]; exact hf j c e1
      · rw [e1, e2, up_at]
    · refine c3.tr hx ⟨up_ne _ _ e, rfl, rfl, rfl, rfl, rfl, rfl, fun _ => rfl, fun _ => rfl, fun _ => rfl⟩ (fun _ _ => rfl) rfl (fun _ _ r1 r2 => ⟨r1, r2⟩) (ho x e (fun e2 => hx (by rw [e2]; exact q6'.2.2))) (fun ht => ?_)
      rcases c3.hid ht with r | r
      · exact ho _ (by omega) (by omega)
      · exact ho _ (fun e2 => by rw [e2] at r; omega) (fun e2 => e (by rw [← r.2.1, e2, q6'.2.1]))
  · rw [e, q6'.2.1] at e1
    have hgw : gw g ≠ 0 := by have := hzs.1; omega
    have := (hT hgw).1.2.2.1
    rw [← e1] at this
    omega
/-- a row with a new array -/
theorem Rep.rowgrow {a c : Nat} {b : UInt8} (h : Rep g σ τ H) (ha : sc σ a = 4) (hn : (sW σ a).length < c) (hc : c < 2 ^ 24) {f : Nat → UInt8} (hf : ∀ (j : Nat) (b : UInt8), (sW σ a)[j]? = some b → f j = b)
    (h1 : va_at (gD g) vCl (a, .inr (3, [.ref (sZ σ), .int (nI ((sW σ a).length + 1))])) H') (h2 : va_at (gD g) vCl (sZ σ, .inl (ga g 0, c, .inl (fun j => sbW (up f (sW σ a).length b j)))) H') (hsz : H'.size = H.size + 1) (ho : ∀ q, q ≠ a → q < H.size → H'[q]? = H[q]?) : Rep g (sWg σ a (sW σ a ++ [b]) c) τ H' := by
  obtain ⟨⟨own, hC, hT⟩, hzz, hle, hzs, hlow⟩ := h
  obtain ⟨ca1, ca2, ca3⟩ := hC a (by omega)
  have hltA := ca3.lt
  have hne : ∀ q, q < H.size → q ≠ sZ σ := fun q hq e => by omega
  have hscz : sc σ (sZ σ) = 0 := Classical.byContradiction fun hh => hne _ (hC _ hh).2.2.lt rfl
  refine ⟨⟨up own (sZ σ) a, fun x hx => ?_, hT.tr (fun q hq _ => up_ne _ _ (hne q hq)) (fun _ _ _ e => e) (fun q hq _ e2 => ho q (fun e => by rw [e] at e2; omega) hq)⟩, by rw [hsz, hzz]; rfl, by omega, ?_, fun q hq => by rw [ho q (by omega) (by omega)]; exact hlow q hq⟩
  · have hx' : sc σ x ≠ 0 := hx
    obtain ⟨c1, c2, c3⟩ := hC x hx'
    refine ⟨c1, by rw [up_ne _ _ (hne x c3.lt)]; exact c2, ?_⟩
    by_cases e : x = a
    · subst e
      unfold cellC
      show (if sc σ x = 4 then _ else _)
      rw [if_pos ha]
      have hw : sW (sWg σ x (sW σ x ++ [b]) c) x = sW σ x ++ [b] := up_at _ _ _
      have hN : sN (sWg σ x (sW σ x ++ [b]) c) x = c := up_at _ _ _
      have hH : sH (sWg σ x (sW σ x ++ [b]) c) x = sZ σ := up_at _ _ _
      rw [hw, hN, hH, List.length_append]
      refine ⟨h1, by simp; omega, hc, ⟨_, Or.inl ⟨by omega, h2⟩, fun j y hy => ?_⟩, Or.inr ⟨by omega, up_at _ _ _, hscz⟩⟩
      rcases getElem?_push hy with ⟨e1, e2⟩ | ⟨e1, e2⟩
      · rw [up_ne _ _ (by omega)]; exact hf j y e1
      · rw [e1, e2, up_at]
    · refine c3.tr hx' ⟨up_ne _ _ e, rfl, up_ne _ _ e, rfl, rfl, rfl, up_ne _ _ e, fun _ => rfl, fun _ => rfl, fun _ => rfl⟩ (fun _ _ => rfl) (up_ne _ _ (by have := hzs.1; omega)) (fun ht _ r1 r2 => ⟨by rw [up_ne _ _ (hne _ (c3.hidlt ht))]; exact r1, r2⟩) (ho x e c3.lt) (fun ht => ?_)
      refine ho _ (fun e2 => ?_) (c3.hidlt ht)
      rcases c3.hid ht with r | r
      · omega
      · rw [e2] at r; omega
  · have h0 : (0 : Nat) ≠ a := by have := hzs.1; omega
    have h1 : (1 : Nat) ≠ a := by have := hzs.1; omega
    unfold Zs at hzs ⊢
    rw [show sH (sWg σ a (sW σ a ++ [b]) c) 0 = sH σ 0 from up_ne _ _ h0, show sH (sWg σ a (sW σ a ++ [b]) c) 1 = sH σ 1 from up_ne _ _ h1]
    exact hzs
/-- what the picture says of a row's room -/
theorem sm_rowf {a : Nat} (ha : sc σ a = 4) (kk : (sW σ a).length ≤ sN σ a → sN σ a < 2 ^ 24 → Sm (V g M d pc l st σ τ Q) F K) : Sm (V g M d pc l st σ τ Q) F K := fun hx H hR => kk (hR.row ha).2.2.1 (hR.row ha).2.2.2.1 hx H hR
theorem r_add_ok (G : GG g) (d : Nat) (hd1 : 2 ≤ d) (a : Nat) (x : Int) (σ : ST) (Q : VQ) : Sm (V g mX3_add d 0 [(0, vr (some a)), (1, vi x)] [] σ τ Q) (r_add (gRm g) a x σ) (fun r => Q.1 none r τ) := by
  unfold r_add
  refine sm_gd (fun hg => ?_)
  obtain ⟨ha, hlen⟩ := hg
  refine sm_b (l' := [(0, vr (some a)), (1, vi x)]) (st' := [vr (some a)]) (pc' := 1) [(.aload_n 0, vi 0, 1)] (by decide +kernel) rfl rfl ?_
  refine sm_rsz ha q278 (by decide +kernel) ?_
  refine sm_b (l' := [(0, vr (some a)), (1, vi x)]) (st' := [vr (some a), vi ((sW σ a).length : Nat)]) (pc' := 5) [(.aload_n 0, vi 0, 5)] (by decide +kernel) rfl rfl ?_
  refine sm_rcl ha q274 (by decide +kernel) ?_
  refine sm_ral ha (by decide +kernel) ?_
  refine sm_rowf ha (fun w3 w4 => ?_)
  refine sm_icmp_ne (off := 36) (tgt := 45) ⟨by omega, by omega⟩ ⟨by omega, by omega⟩ (by decide +kernel) (fun c => ?_) (fun c => ?_)
  · rw [if_neg (fun e => c (by rw [e]))]
    refine fun hx H hR => ?_
    obtain ⟨w1, w2, w3, w4, ⟨f, w5, w6⟩, w7⟩ := hR.row ha
    have hlt : (sW σ a).length < sN σ a := by
      have : (sW σ a).length ≠ sN σ a := fun e => c (by rw [e])
      omega
    have hB : gB g ≤ sH σ a ∧ sH σ a ≠ a := by
      rcases w7 with q | q
      · omega
      · exact q
    refine add_tail w1 (w5.own (by omega)) hlt w4 w2 hB.1 hB.2 (fun H' h1 h2 h3 h4 => ?_)
    exact ⟨sWu σ a (sW σ a ++ [u8 x]), τ, hR.rowpush ha hlt w6 h1 h2 h3 h4, rfl, rfl, (Ex_some (K := fun r => Q.1 none r τ)).mp hx⟩
  · have hcap : (sW σ a).length = sN σ a := by omega
    rw [if_pos hcap]
    refine sm_gd (fun hg => ?_)
    refine sm_b (l' := [(0, vr (some a)), (1, vi x)]) (st' := [vr (some a), vi 2, vi 8]) (pc' := 16) [(.bipush 8, vi 8, 14), (.iconst 2, vi 2, 15), (.aload_n 0, vi 0, 16)] (by decide +kernel) rfl rfl ?_
    refine sm_rsz ha q278 (by decide +kernel) ?_
    refine sm_b (l' := [(0, vr (some a)), (1, vi x)]) (st' := [vi (2 * ((sW σ a).length : Nat)), vi 8]) (pc' := 20) [(.imul, vi 0, 20)] (by decide +kernel) rfl rfl ?_
    have hmx : jl_max 8 (2 * ((sW σ a).length : Nat)) = some ((max 8 (2 * (sW σ a).length) : Nat) : Int) := by
      unfold jl_max gd
      rw [if_pos (by decide), if_pos ⟨by omega, by omega⟩]
      split <;> congr 1 <;> omega
    refine sm_csp (N := mJ11_max) (d' := d - 1) (fun r => some (vi r)) (some (vi ((max 8 (2 * (sW σ a).length) : Nat) : Int))) (F := jl_max 8 (2 * ((sW σ a).length : Nat))) (by rw [hmx]; rfl) (fun y h => by rw [hmx] at h; cases h; rfl) [vi 8, vi (2 * ((sW σ a).length : Nat))] [] rfl (by decide +kernel) q538 q539 q150 (Or.inl ⟨rfl, q540⟩) (show okN yJ11_max 2 = true by decide +kernel) rfl rfl (by omega) rfl (fun Q' => jl_max_ok G (d - 1) (by omega) 8 (2 * ((sW σ a).length : Nat)) τ Q') ?_
    refine fun hx H hR => ?_
    obtain ⟨w1, w2, w3, w4, ⟨f, w5, w6⟩, w7⟩ := hR.row ha
    have hz : H.size = sZ σ := hR.2.1
    have hgz : gB g ≤ sZ σ := by have := hR.2.2.1; omega
    generalize hcc : max 8 (2 * (sW σ a).length) = cc at hg hx ⊢
    have hcl : (sW σ a).length < cc := by omega
    have hcb : cc < 2 ^ 24 := by omega
    refine U.newa (atype := .byte) (t := 0) (ty := .byte) rfl q212 rfl (by decide) ⟨by omega, by omega⟩ (rm_1 hg) (by have := rm_2 hg; omega) (by decide +kernel) (fun H1 e1 z1 o1 => ?_)
    rw [show ((cc : Nat) : Int).toNat = cc from by omega] at e1 ⊢
    rw [hz] at e1 ⊢
    have hnew : va_at (gD g) vCl (sZ σ, .inl (ga g 0, cc, .inl (fun _ => sbW 0))) H1 := e1
    have hrow1 := w1.kept (o1 a w1.lt)
    have harr1 := w5.kept (o1 _ w5.lt)
    refine U.b (l' := [(0, vr (some a)), (1, vi x), (2, vr (some (sZ σ)))]) (st' := [vr (some a)]) (pc' := 27) (is := [(.astore_n 2, vi 0, 26), (.aload_n 0, vi 0, 27)]) (by decide +kernel) rfl rfl ?_
    refine U.gf (k := 0) (x := vr (some (sH σ a))) cd3 hrow1 rfl q274 rfl (by decide +kernel) ?_
    refine U.b (l' := [(0, vr (some a)), (1, vi x), (2, vr (some (sZ σ)))]) (st' := [vr (some a), vi 0, vr (some (sZ σ)), vi 0, vr (some (sH σ a))]) (pc' := 34) (is := [(.iconst 0, vi 0, 31), (.aload_n 2, vi 0, 32), (.iconst 0, vi 0, 33), (.aload_n 0, vi 0, 34)]) (by decide +kernel) rfl rfl ?_
    refine U.gf (k := 1) (x := vi ((sW σ a).length : Nat)) cd3 hrow1 rfl q278 (by rw [nI_ofI]; rfl) (by decide +kernel) ?_
    refine U.copybT q541 (fun s' hv => harr1.T w4 G.1 s' hv) hnew (by omega) (fun j => by unfold sbW; simp) (by omega) (by omega) (by omega) (by omega) (by omega) w4 hcb (by omega) rfl (by decide +kernel) (fun H2 hp2 => ?_)
    have hneA : a ≠ sZ σ := by have := w1.lt; omega
    have hrow2 := hrow1.kept (hp2.2.2 a hneA)
    refine U.b (l' := [(0, vr (some a)), (1, vi x), (2, vr (some (sZ σ)))]) (st' := [vr (some (sZ σ)), vr (some a)]) (pc' := 42) (is := [(.aload_n 0, vi 0, 41), (.aload_n 2, vi 0, 42)]) (by decide +kernel) rfl rfl ?_
    refine U.pf (k := 0) (x := vr (some (sZ σ))) cd3 hrow2 rfl q274 rfl rfl rfl rfl w2 (by decide +kernel) (fun H3 hp3 => ?_)
    have harr3 := hp2.1.kept (hp3.2.2 _ (Ne.symm hneA))
    refine U.sub (l' := [(0, vr (some a)), (1, vi x)]) (fun q hq => by simp at hq ⊢; rcases hq with e | e <;> simp [e]) ?_
    have hfe : (va_cpy (fun j => sbW (f j)) (fun _ => sbW 0) (0 : Int).toNat (0 : Int).toNat ((sW σ a).length : Int).toNat) = fun j => sbW (if j < (sW σ a).length then f j else 0) := by
      funext j
      unfold va_cpy
      by_cases hj : j < (sW σ a).length
      · rw [if_pos (by constructor <;> simp <;> omega), if_pos hj]; simp
      · rw [if_neg (by simp; omega), if_neg hj]
    rw [hfe] at harr3
    refine add_tail (h := sZ σ) (f := fun j => if j < (sW σ a).length then f j else 0) hp3.1 harr3 hcl hcb w2 (by omega) (Ne.symm hneA) (fun H' h1 h2 h3 h4 => ?_)
    refine ⟨sWg σ a (sW σ a ++ [u8 x]) cc, τ, hR.rowgrow ha hcl hcb (f := fun j => if j < (sW σ a).length then f j else 0) (fun j b hj => ?_) h1 h2 (by rw [h3, hp3.2.1, hp2.2.1, z1]) (fun q q1 q2 => ?_), rfl, (Nat.sub_sub _ _ _).symm, (Ex_some (K := fun r => Q.1 none r τ)).mp hx⟩
    · have hjl : j < (sW σ a).length := (List.getElem?_eq_some_iff.mp hj).1
      show (if j < (sW σ a).length then f j else 0) = b
      rw [if_pos hjl]; exact w6 j b hj
    · rw [h4 q q1 (by omega), hp3.2.2 q q1, hp2.2.2 q (by omega), o1 q q2]
end RAdd
