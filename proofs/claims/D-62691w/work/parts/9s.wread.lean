set_option maxRecDepth 100000
/-! THE WIRE, READ: numbers, as the system reads them -/
def WRd (σ : ST) (a b : Nat) (I : Nat → Nat) (n p : Nat) : Prop := sc σ a = 12 ∧ sR σ 176 a = some b ∧ sc σ b = 101 ∧ sN σ b = 1000 ∧ (∀ k, k < n → (sB σ b k).toNat = I k) ∧ n ≤ 1000 ∧ sI σ 177 a = (p : Int) ∧ p ≤ n ∧ a < sZ σ ∧ b < sZ σ
section Wd
variable {z : Nat} {σ σ1 : ST} {S : SC} {fa ma ea : Nat → Nat} {od : Nat → List Nat} {a b n p e f m : Nat} {I : Nat → Nat}
theorem WRd.to (h : WRd σ a b I n p) {q : Nat} (hq : q ≤ n) : WRd (pI σ 177 a (q : Int)) a b I n q := by
  obtain ⟨h1, h2, h3, h4, h5, h6, h7, h8, h9, h10⟩ := h
  exact ⟨h1, h2, h3, h4, h5, h6, by rw [sI_pI, if_pos ⟨rfl, rfl⟩], hq, h9, h10⟩
theorem WRd.ne (h : WRd σ a b I n p) : a ≠ b := fun e => by
  have h1 := h.1
  have h2 := h.2.2.1
  rw [e] at h1; omega
theorem WRd.fr (h : WRd σ a b I n p) {W : Nat → Prop} (F : FR W σ σ1) (ha : ¬ W a) (hb : ¬ W b) : WRd σ1 a b I n p := by
  obtain ⟨h1, h2, h3, h4, h5, h6, h7, h8, h9, h10⟩ := h
  have ka := (F.2 a h9).2 ha
  have kb := (F.2 b h10).2 hb
  have hz := F.1.1
  exact ⟨by rw [(F.2 a h9).1]; exact h1, by rw [ka.2.2.2.2.2.2.2.2.2]; exact h2, by rw [(F.2 b h10).1]; exact h3, by rw [kb.2.2.1]; exact h4, fun k hk => by rw [kb.2.2.2.1]; exact h5 k hk, h6, by rw [ka.2.2.2.2.2.2.2.1]; exact h7, h8, by omega, by omega⟩
theorem wr_vL (he : e ≤ n) : ∀ (c k N p : Nat) (v : Int64) (σ : ST), k + (c + 1) = 10 → c + 1 < N → WRd σ a b I n p → Rn (·.2) σ (fun bb => wr_varint_L5 bb a (e : Int) N v (k : Int) σ) (fun r => match vrL I e (c + 1) k p v with | some q => r = (some q.2, pI σ 177 a (q.1 : Int)) | none => ∃ j : Nat, j ≤ n ∧ r = (none, nX (pI σ 177 a (j : Int))))
  | c, k, 0, p, v, σ, _, h, _ => by omega
  | c, k, N + 1, p, v, σ, hk, hN, hW => by
    obtain ⟨h1, h2, h3, h4, h5, h6, h7, h8, h9, h10⟩ := hW
    have hW : WRd σ a b I n p := ⟨h1, h2, h3, h4, h5, h6, h7, h8, h9, h10⟩
    rw [vrL]
    by_cases c1 : e ≤ p
    · rw [if_pos c1]
      refine Rn_eq (fun bb => by rw [wr_varint_L5, gd_pos (by omega), if_neg (by omega), gd_pos h1, h7, gd_pos (by omega), gd_pos (by omega), if_pos (by omega), bind_some']) ?_
      refine Rn_must (Or.inl rfl) (fun _ => ⟨rfl, p, h8, ?_⟩) (fun w => by omega)
      rw [pI_self σ 177 a h7]
    · rw [if_neg c1]
      have hb : (sB σ b p).toNat = I p := h5 p (by omega)
      have h256 : I p < 256 := by rw [← hb]; exact (sB σ b p).toNat_lt
      refine Rn_eq (fun bb => by rw [wr_varint_L5, gd_pos (by omega), if_neg (by omega), gd_pos h1, h7, gd_pos (by omega), gd_pos (by omega), if_neg (by omega), bind_some']) ?_
      refine Rn_must (Or.inr rfl) (fun w => by omega) (fun _ => ?_)
      refine Rn_eq (fun bb => by rw [gd_pos h1, h2, bind_some', gd_pos h3, h7, h4, gd_pos (by omega), nm_eq, nm_eq, sb_and, Int.toNat_natCast, hb, gd_pos (by omega), show (p : Int) + 1 = ((p + 1 : Nat) : Int) by omega]) ?_
      have hW1 : WRd (pI σ 177 a ((p + 1 : Nat) : Int)) a b I n (p + 1) := hW.to (by omega)
      refine Rn_le (σ1 := pI σ 177 a ((p + 1 : Nat) : Int)) ⟨Nat.le_refl _, Nat.le_refl _, Nat.le_refl _⟩ ?_
      by_cases c9 : k = 9 ∧ 2 ≤ I p
      · rw [if_pos c9]
        refine Rn_eq (fun bb => by rw [if_neg (by omega), bind_some']) ?_
        exact Rn_must (Or.inl rfl) (fun _ => ⟨rfl, p + 1, by omega, rfl⟩) (fun w => by omega)
      · rw [if_neg c9]
        refine Rn_eq (fun bb => by rw [if_pos (by omega), bind_some']) ?_
        refine Rn_must (Or.inr rfl) (fun w => by omega) (fun _ => ?_)
        refine Rn_eq (fun bb => by rw [nm_eq, gd_pos (by omega)]) ?_
        by_cases c128 : 128 ≤ I p
        · rw [if_pos c128]
          refine Rn_pos (by omega) ?_
          cases c with
          | zero => omega
          | succ c =>
            rw [show (k : Int) + 1 = ((k + 1 : Nat) : Int) by omega]
            refine (wr_vL he c (k + 1) N (p + 1) _ (pI σ 177 a ((p + 1 : Nat) : Int)) (by omega) (by omega) hW1).mono (fun r _ hr => ?_)
            split at hr
            · rw [pI_pI] at hr; exact hr
            · obtain ⟨j, j1, j2⟩ := hr
              rw [pI_pI] at j2
              exact ⟨j, j1, j2⟩
        · rw [if_neg c128]
          refine Rn_neg (by omega) ?_
          exact Rn_some (Le.refl _) rfl
theorem WRd.varint (h : WRd σ a b I n p) (he : e ≤ n) {x : Int} (hx : x = (e : Int)) : Rn (·.2) σ (fun bb => wr_varint bb a x σ) (fun r => match vrS I e p with | some q => r = (some q.2, pI σ 177 a (q.1 : Int)) | none => ∃ j : Nat, j ≤ n ∧ r = (none, nX (pI σ 177 a (j : Int)))) := by
  subst hx
  exact wr_vL he 9 0 FU p 0 σ (by omega) (FU_gt (by omega)) h
theorem wr_fL (bb : Nat × Nat) (h : WRd σ a b I n p) (w : Int) : ∀ (k N : Nat) (v : Int64), p + k ≤ n → k < N → wr_fixed_L25 bb a w σ N v ((k : Int) - 1) = some (fxL I p k v)
  | k, 0, v, _, h => by omega
  | 0, N + 1, v, _, _ => by rw [wr_fixed_L25, gd_pos (by omega), if_pos (by omega)]; rfl
  | k + 1, N + 1, v, hk, hN => by
    have hn := h.2.2.2.2.2.1
    have hb : (sB σ b (p + k)).toNat = I (p + k) := h.2.2.2.2.1 _ (by omega)
    rw [wr_fixed_L25, gd_pos (by omega), if_neg (by omega), gd_pos h.1, h.2.1, bind_some', gd_pos h.2.2.1, h.2.2.2.2.2.2.1, h.2.2.2.1, gd_pos (by omega), nm_eq, sb_and, show ((p : Int) + (((k + 1 : Nat) : Int) - 1)).toNat = p + k by omega, hb, show ((k + 1 : Nat) : Int) - 1 + (-1) = (k : Int) - 1 by omega, wr_fL bb h w k N _ (by omega) (by omega)]
    rfl
theorem WRd.fixed (h : WRd σ a b I n p) (he : e ≤ n) {w : Nat} (hw : w ≤ 8) {x y : Int} (hx : x = (w : Int)) (hy : y = (e : Int)) : Rn (·.2) σ (fun bb => wr_fixed bb a x y σ) (fun r => match fxS I w e p with | some q => r = (some q.2, pI σ 177 a (q.1 : Int)) | none => ∃ j : Nat, j ≤ n ∧ r = (none, nX (pI σ 177 a (j : Int)))) := by
  subst hx hy
  have hn := h.2.2.2.2.2.1
  have hp := h.2.2.2.2.2.2.2.1
  have h7 := h.2.2.2.2.2.2.1
  unfold wr_fixed fxS
  by_cases c : e < p + w
  · rw [if_pos c]
    refine Rn_eq (fun bb => by rw [gd_pos h.1, h7, gd_pos (by omega), gd_pos (by omega), if_pos (by omega), bind_some']) ?_
    refine Rn_must (Or.inl rfl) (fun _ => ⟨rfl, p, hp, ?_⟩) (fun w => by omega)
    rw [pI_self σ 177 a h7]
  · rw [if_neg c]
    refine Rn_eq (fun bb => by rw [gd_pos h.1, h7, gd_pos (by omega), gd_pos (by omega), if_neg (by omega), bind_some']) ?_
    refine Rn_must (Or.inr rfl) (fun w => by omega) (fun _ => ?_)
    refine Rn_eq (fun bb => by rw [nm_eq, wr_fL bb h (w : Int) w FU 0 (by omega) (FU_gt (by omega)), bind_some', gd_pos h.1, nm_eq, h7, show (p : Int) + (w : Int) = ((p + w : Nat) : Int) by omega]) ?_
    exact Rn_some (σ := σ) ⟨Nat.le_refl _, Nat.le_refl _, Nat.le_refl _⟩ rfl
theorem WRd.length (h : WRd σ a b I n p) (he : e ≤ n) {x : Int} (hx : x = (e : Int)) : Rn (·.2) σ (fun bb => wr_length bb a x σ) (fun r => match lnS I e p with | some q => r = (some (q.2 : Int), pI σ 177 a (q.1 : Int)) | none => ∃ j : Nat, j ≤ n ∧ r = (none, nX (pI σ 177 a (j : Int)))) := by
  have hn := h.2.2.2.2.2.1
  unfold wr_length lnS
  refine Rn_gd h.1 ?_
  refine Rn_tB (h.varint he hx) (fun σ' _ hr => ⟨rfl, ?_⟩) (fun y σ' _ hr => ?_)
  · cases ev : vrS I e p with
    | none => rw [ev] at hr; obtain ⟨j, j1, j2⟩ := hr; cases j2; exact ⟨j, j1, rfl⟩
    | some q => rw [ev] at hr; cases hr
  · cases ev : vrS I e p with
    | none => rw [ev] at hr; obtain ⟨j, j1, j2⟩ := hr; cases j2
    | some q =>
      rw [ev] at hr
      cases hr
      have qb := vrS_bd ev
      have hW1 : WRd (pI σ 177 a (q.1 : Int)) a b I n q.1 := h.to (by omega)
      have h71 := hW1.2.2.2.2.2.2.1
      have lc := ln_s (e := e) (r := q) qb.2 (by omega) (x := x - (q.1 : Int)) (by rw [hx])
      show Rn (fun r : Option Int × ST => r.2) (pI σ 177 a (q.1 : Int)) _ (fun r => match (if e < q.1 + un q.2 then none else some (q.1, q.1 + un q.2)) with | some q => _ | none => _)
      by_cases c : e < q.1 + un q.2
      · rw [if_pos c]
        refine Rn_eq (fun bb => by rw [gd_pos (by exact fun _ => hW1.1), h71, if_pos (lc.mpr c), bind_some']) ?_
        exact Rn_must (Or.inl rfl) (fun _ => ⟨rfl, q.1, by omega, rfl⟩) (fun w => by omega)
      · rw [if_neg c]
        refine Rn_eq (fun bb => by rw [gd_pos (by exact fun _ => hW1.1), h71, if_neg (fun w => c (lc.mp w)), bind_some']) ?_
        refine Rn_must (Or.inr rfl) (fun w => by omega) (fun _ => ?_)
        refine Rn_eq (fun bb => by rw [gd_pos hW1.1, h71, ln_i (by omega) c, show (q.1 : Int) + (un q.2 : Int) = ((q.1 + un q.2 : Nat) : Int) by omega]) ?_
        exact Rn_some (Le.refl _) rfl
theorem byNum_L (hS : SW S) (hH : HSc z σ S fa ma ea od) (hm : m < S.1) {oa : Nat} (c3 : sc σ oa = 103) (c4 : sN σ oa = (od m).length) (c5 : ∀ j, j < (od m).length → sF σ oa j = some (fa ((od m).getD j 0))) (k : Nat) (hk : k < 2147483648) : ∀ (c N i : Nat), i + c = (od m).length → c < N → (∀ j, j < i → qn S ((od m).getD j 0) ≠ k) → ∃ o, mt_byNumber_L12 (lN k) (some oa) ((od m).length : Int) σ N (i : Int) = some (o.map fa) ∧ (match o with | some f => f ∈ od m ∧ qn S f = k | none => ∀ f, f ∈ od m → qn S f ≠ k)
  | c, 0, i, _, h, _ => by omega
  | 0, N + 1, i, h, _, hb => by
    have h50 := (hH.2.2.2.1 m hm).2.2.2.2.1
    refine ⟨none, by rw [mt_byNumber_L12, gd_pos (by omega), gd_pos (by omega), if_pos (by omega)]; rfl, fun f hf => ?_⟩
    obtain ⟨j, hj, e⟩ := mem_getD hf
    rw [← e]; exact hb j (by omega)
  | c + 1, N + 1, i, h, hN, hb => by
    obtain ⟨-, -, -, -, h50, o6, -⟩ := hH.2.2.2.1 m hm
    have hi : i < (od m).length := by omega
    have hfm := getD_mem hi
    have hf := ((o6 _).mp hfm).1
    obtain ⟨b1, b2, b3, b4, b5, b6, -⟩ := hH.2.1 _ hf
    have q : (iL (sI σ 131 (fa ((od m).getD i 0))) = lN k) ↔ qn S ((od m).getD i 0) = k := by
      rw [b6]
      have w := (hS.2.2.2.2.1 _ hf).2.2.1
      rw [iL_n rfl (by omega), lN_inj (by show _ < 18446744073709551616; omega) (by show _ < 18446744073709551616; omega)]
    rw [mt_byNumber_L12, gd_pos (by omega), gd_pos (by omega), if_neg (by omega), bind_some', gd_pos c3, c4, gd_pos (by omega), nm_eq, Int.toNat_natCast, c5 i hi, bind_some', gd_pos b2]
    by_cases cq : qn S ((od m).getD i 0) = k
    · rw [if_pos (q.mpr cq)]
      exact ⟨some ((od m).getD i 0), rfl, hfm, cq⟩
    · rw [if_neg (fun w => cq (q.mp w)), show (i : Int) + 1 = ((i + 1 : Nat) : Int) by omega]
      refine byNum_L hS hH hm c3 c4 c5 k hk c N (i + 1) (by omega) (by omega) (fun j hj => ?_)
      by_cases e : j = i
      · rw [e]; exact cq
      · exact hb j (by omega)
theorem mt_byNumber_eq (hS : SW S) (hH : HSc z σ S fa ma ea od) (hm : m < S.1) {k : Nat} (hk : k < 2147483648) {x : Int64} (hx : x = lN k) : mt_byNumber (ma m) x σ = some ((byU S m k).map fa) := by
  subst hx
  obtain ⟨d1, d2, d3, ⟨oa, c1, c2, c3, c4, c5⟩, d5, d6, d7⟩ := hH.2.2.2.1 m hm
  obtain ⟨o, e1, e2⟩ := byNum_L hS hH hm c3 c4 c5 k hk (od m).length FU 0 (by omega) (FU_gt (by omega)) (fun j hj => absurd hj (Nat.not_lt_zero _))
  have e1' : mt_byNumber_L12 (lN k) (some oa) ((od m).length : Int) σ FU 0 = some (o.map fa) := e1
  have eo : o = byU S m k := by
    refine BU.uniq hS ?_ (byU_ok S m k)
    cases o with
    | some f => exact ⟨((d6 f).mp e2.1).1, ((d6 f).mp e2.1).2, e2.2⟩
    | none => exact fun g hg hgm => e2 g ((d6 g).mpr ⟨hg, hgm⟩)
  unfold mt_byNumber
  rw [gd_pos d2, nm_eq, c1, bind_some', gd_pos c3, nm_eq, c4, e1', eo]
theorem sl_cut (h : WRd σ a b I n p) {q e : Nat} (hq : q ≤ e) (he : e ≤ n) : sl (sB σ b) q (e - q) = cut I q e := by
  unfold sl cut
  refine List.map_congr_left (fun j hj => ?_)
  have hj' := List.mem_range.mp hj
  have hb := h.2.2.2.2.1 (q + j) (by omega)
  rw [← hb]; simp
theorem sk_32 (hS : SW S) (hf : f < nF_ S) : ((sk S f : Nat) : Int) = 32 ↔ 32 ≤ qk S f := by
  have := (hS.2.2.2.2.1 f hf).2.2.2.1
  have := hS.2.2.1
  have := hS.2.2.2.1
  unfold sk ks
  split
  · omega
  · split <;> omega
theorem mnt_s (hS : SW S) (hf : f < nF_ S) (v : Int64) : (if ((sk S f : Nat) : Int) = 0 ∨ ((sk S f : Nat) : Int) = 32 then (nm (iL (lI v)) fun x25 => some x25) else (if ((sk S f : Nat) : Int) = 2 then (nm (v &&& 4294967295) fun x28 => some x28) else (if ((sk S f : Nat) : Int) = 4 then (nm (iL (iXor (lI (lUsh (v &&& 4294967295) 1)) (-(lI (v &&& 1))))) fun x31 => some x31) else (if ((sk S f : Nat) : Int) = 5 then (nm ((lUsh v 1) ^^^ (-(v &&& 1))) fun x34 => some x34) else (if ((sk S f : Nat) : Int) = 8 then (Option.bind (if v = 0 then (some 0) else (some 1)) fun (v39 : Int64) => some v39) else (some v))))) : Option Int64) = some (mnt S f v) := by
  have e0 := sk_is hS hf 0 (by omega) (x := 0) rfl
  have e2 := sk_is hS hf 2 (by omega) (x := 2) rfl
  have e4 := sk_is hS hf 4 (by omega) (x := 4) rfl
  have e5 := sk_is hS hf 5 (by omega) (x := 5) rfl
  have e8 := sk_is hS hf 8 (by omega) (x := 8) rfl
  have e32 := sk_32 hS hf
  unfold mnt
  by_cases c0 : qk S f = 0 ∨ 32 ≤ qk S f
  · rw [if_pos (c0.imp e0.mpr e32.mpr), if_pos c0, nm_eq]
  · rw [if_neg (fun q => c0 (q.imp e0.mp e32.mp)), if_neg c0]
    by_cases c2 : qk S f = 2
    · rw [if_pos (e2.mpr c2), if_pos c2, nm_eq]
    · rw [if_neg (fun q => c2 (e2.mp q)), if_neg c2]
      by_cases c4 : qk S f = 4
      · rw [if_pos (e4.mpr c4), if_pos c4, nm_eq]
      · rw [if_neg (fun q => c4 (e4.mp q)), if_neg c4]
        by_cases c5 : qk S f = 5
        · rw [if_pos (e5.mpr c5), if_pos c5, nm_eq]
        · rw [if_neg (fun q => c5 (e5.mp q)), if_neg c5]
          by_cases c8 : qk S f = 8
          · rw [if_pos (e8.mpr c8), if_pos c8]
            by_cases cv : v = 0
            · rw [if_pos cv, if_pos cv]; rfl
            · rw [if_neg cv, if_neg cv]; rfl
          · rw [if_neg (fun q => c8 (e8.mp q)), if_neg c8]
/-- a slot with a number -/
theorem WRd.number (hS : SW S) (hH : HSc z σ S fa ma ea od) (h : WRd σ a b I n p) (hza : z ≤ a) (hf : f < nF_ S) (hpl : plain S f) (he : e ≤ n) {x : Int} (hx : x = (e : Int)) : Rn (·.2) σ (fun bb => wr_number bb a (some (fa f)) x σ) (fun r => FR (fun y => y = a) σ r.2 ∧ (match nmS S I f e p with | some q => r.1 = some (some (sZ σ)) ∧ WRd r.2 a b I n q.1 ∧ Sl r.2 (sZ σ) (sZ σ) S fa f (mnt S f q.2) [] ∧ sZ r.2 = sZ σ + 1 ∧ sS r.2 = sS σ + 5 ∧ sC r.2 = sC σ + 1 | none => r.1 = none ∧ sS r.2 ≤ sS σ + 11 ∧ sC r.2 ≤ sC σ + 2)) := by
  have hz := hH.1
  have ha := h.2.2.2.2.2.2.2.2.1
  obtain ⟨Y, hY⟩ : ∃ Y, Y = pR (nO σ 13 5) 192 (sZ σ) (some (fa f)) := ⟨_, rfl⟩
  have FY : FR (fun _ => False) σ Y := by
    rw [hY]
    exact (FR.nO (fun _ => False) σ 13 5).tr (FR.at1 (W := fun x => x = sZ σ) (at_pR _ 192 (sZ σ) (some (fa f))) rfl) (fun x hx q => by omega)
  have FYa : FR (fun y => y = a) σ Y := ⟨FY.1, fun x hx => ⟨(FY.2 x hx).1, fun _ => (FY.2 x hx).2 (fun q => q)⟩⟩
  have zY : sZ Y = sZ σ + 1 := by rw [hY]; rfl
  have sY : sS Y = sS σ + 5 := by rw [hY]; rfl
  have cY : sC Y = sC σ + 1 := by rw [hY]; rfl
  have hWY : WRd Y a b I n p := h.fr FY (fun q => q) (fun q => q)
  have hHY : HSc z Y S fa ma ea od := hH.kept hS ⟨FY.1, fun x hx => ⟨(FY.2 x hx).1, fun _ => (FY.2 x hx).2 (fun q => q)⟩⟩
  have b2 := (hHY.2.1 f hf).2.1
  have hnk : ¬ (qk S f = 9 ∨ qk S f = 10) := ((plain_m hS hf).mp hpl).1
  have hr := wrK_rg S f
  have hwp := wrK_plain hS hf
  have k13 : sc Y (sZ σ) = 13 := by rw [hY]; show (if sZ σ = sZ σ then 13 else _) = 13; rw [if_pos rfl]
  have k192 : sR Y 192 (sZ σ) = some (fa f) := by rw [hY, sR_pR, if_pos ⟨rfl, rfl⟩]
  have k19 : ∀ k, k ≠ 192 → sR Y k (sZ σ) = none := fun k hk => by rw [hY, sR_pR, if_neg (fun q => hk q.1), sR_nO_, if_pos rfl]
  have hne : sZ σ ≠ a := by omega
  unfold wr_number
  refine Rn_rm (σ1 := nO σ 13 5) (Nat.le_refl _) (Nat.le_refl _) (Nat.le_succ _) ?_
  have eI : ∀ bb, sl_init bb (sZ σ) (some (fa f)) (nO σ 13 5) = some Y := fun bb => by
    unfold sl_init
    rw [gd_pos (by rw [sc_nO_, if_pos rfl]), nm_eq, hY]
  refine Rn_eq (fun bb => by rw [nm_eq, eI bb, bind_some', bind_some', gd_pos b2, fd_wire_eq hS hHY hf, bind_some', gd_pos (by omega)]) ?_
  refine Rn_le (σ1 := Y) (by rw [hY]; exact ⟨Nat.le_refl _, Nat.le_refl _, Nat.le_refl _⟩) ?_
  -- what comes of the number
  refine Rn_bind (su := fun y : (Option (Option Nat) × ST) ⊕ (Int64 × ST) => match y with | Sum.inl u => u.2 | Sum.inr u => u.2) (J := fun y => match nmS S I f e p with | some q => y = Sum.inr (q.2, pI Y 177 a (q.1 : Int)) | none => ∃ j : Nat, j ≤ n ∧ y = Sum.inl (none, nX (pI Y 177 a (j : Int)))) ?_ (fun y _ hy => ?_)
  · unfold nmS
    have fx : ∀ (w : Nat) (u : Int), w ≤ 8 → u = (w : Int) → Rn (fun y : (Option (Option Nat) × ST) ⊕ (Int64 × ST) => match y with | Sum.inl u => u.2 | Sum.inr u => u.2) Y (fun bb => gd (sc Y a = 12) (Option.bind (wr_fixed bb a u x Y) (tB (fun z => Sum.inl ((none, z))) fun y50 σ51 => some (Sum.inr ((y50, σ51)))))) (fun y => match fxS I w e p with | some q => y = Sum.inr (q.2, pI Y 177 a (q.1 : Int)) | none => ∃ j : Nat, j ≤ n ∧ y = Sum.inl (none, nX (pI Y 177 a (j : Int)))) := fun w u hw hu => by
      refine Rn_gd hWY.1 ?_
      refine Rn_tB (hWY.fixed he hw hu hx) (fun σ' _ hr => ⟨rfl, ?_⟩) (fun y σ' _ hr => ?_)
      · cases ev : fxS I w e p with
        | none => rw [ev] at hr; obtain ⟨j, j1, j2⟩ := hr; cases j2; exact ⟨j, j1, rfl⟩
        | some q => rw [ev] at hr; cases hr
      · cases ev : fxS I w e p with
        | none => rw [ev] at hr; obtain ⟨j, j1, j2⟩ := hr; cases j2
        | some q => rw [ev] at hr; cases hr; exact Rn_some (Le.refl _) rfl
    by_cases c5 : wrK S f = 5
    · rw [if_neg (by omega), if_pos c5]
      refine Rn_pos c5 ?_
      exact fx 4 4 (by omega) rfl
    · refine Rn_neg c5 ?_
      by_cases c1 : wrK S f = 1
      · rw [if_pos c1]
        refine Rn_pos c1 ?_
        exact fx 8 8 (by omega) rfl
      · rw [if_neg c1, if_neg c5]
        refine Rn_neg c1 ?_
        refine Rn_gd hWY.1 ?_
        refine Rn_tB (hWY.varint he hx) (fun σ' _ hr => ⟨rfl, ?_⟩) (fun y σ' _ hr => ?_)
        · cases ev : vrS I e p with
          | none => rw [ev] at hr; obtain ⟨j, j1, j2⟩ := hr; cases j2; exact ⟨j, j1, rfl⟩
          | some q => rw [ev] at hr; cases hr
        · cases ev : vrS I e p with
          | none => rw [ev] at hr; obtain ⟨j, j1, j2⟩ := hr; cases j2
          | some q => rw [ev] at hr; cases hr; exact Rn_some (Le.refl _) rfl
  · cases ev : nmS S I f e p with
    | none =>
      rw [ev] at hy
      obtain ⟨j, j1, j2⟩ := hy
      subst j2
      refine Rn_some (Le.refl _) ⟨?_, rfl, ?_, ?_⟩
      · exact ((FYa.tr (FR.at1 (W := fun y => y = a) (at_pI Y 177 a (j : Int)) rfl) (fun x _ q => q)).tr (FR.nX (fun _ => False) _) (fun x _ q => q.elim))
      · show sS Y + 6 ≤ _; omega
      · show sC Y + 1 ≤ _; omega
    | some q =>
      rw [ev] at hy
      subst hy
      have qb := nmS_bd ev
      obtain ⟨X, hX⟩ : ∃ X, X = pI Y 177 a (q.1 : Int) := ⟨_, rfl⟩
      have FX : FR (fun y => y = a) Y X := by rw [hX]; exact FR.at1 (at_pI Y 177 a (q.1 : Int)) rfl
      have hHX : HSc z X S fa ma ea od := hHY.kept hS ⟨FX.1, fun x hx => ⟨(FX.2 x hx).1, fun w => (FX.2 x hx).2 (fun u => w (by rw [u]; exact hza))⟩⟩
      have hWX : WRd X a b I n q.1 := by rw [hX]; exact hWY.to (by omega)
      have b2X := (hHX.2.1 f hf).2.1
      have k132 : sI X 132 (fa f) = (sk S f : Int) := (hHX.2.1 f hf).2.2.2.2.2.2.1
      have hsk : sk S f ≤ 32 := by
        unfold sk ks
        split
        · omega
        · split <;> omega
      have x13 : sc X (sZ σ) = 13 := by rw [hX]; exact k13
      show Rn (fun r : Option (Option Nat) × ST => r.2) (pI Y 177 a (q.1 : Int)) _ _
      rw [← hX]
      refine Rn_eq (fun bb => by rw [elim_r, gd_pos b2X, k132, gd_pos (by omega), mnt_s hS hf, bind_some', gd_pos x13, nm_eq]) ?_
      refine Rn_some (σ := X) ⟨Nat.le_refl _, Nat.le_refl _, Nat.le_refl _⟩ ⟨?_, rfl, ?_, ?_, ?_, ?_, ?_⟩
      · show FR (fun y => y = a) σ (pJ X 193 (sZ σ) (mnt S f q.2))
        exact ((FYa.tr FX (fun x _ q => q)).tr (FR.at1 (W := fun y => y = sZ σ) (at_pJ X 193 (sZ σ) (mnt S f q.2)) rfl) (fun x hx q => by omega))
      · exact hWX
      · refine ⟨by show sZ σ < sZ X; rw [hX]; show sZ σ < sZ Y; omega, x13, ?_, ?_, ?_, ?_, ?_⟩
        · show sR X 192 (sZ σ) = _; rw [hX]; exact k192
        · show sJ (pJ X 193 (sZ σ) (mnt S f q.2)) 193 (sZ σ) = _
          rw [sJ_pJ, if_pos ⟨rfl, rfl⟩]
        · show sR X 195 (sZ σ) = _; rw [hX]; exact k19 195 (by decide)
        · show sR X 196 (sZ σ) = _; rw [hX]; exact k19 196 (by decide)
        · rw [if_neg hnk]
          show sR X 194 (sZ σ) = _; rw [hX]; exact k19 194 (by decide)
      · show sZ X = _; rw [hX]; exact zY
      · show sS X = _; rw [hX]; exact sY
      · show sC X = _; rw [hX]; exact cY
end Wd
