set_option maxRecDepth 100000
/-! JSON: texts, as the system reads them -/
/-- from one state of a reader to another: only the reader and what it says changed; e throws -/
def JF (σ σ' : ST) (a ra e : Nat) : Prop := FR (fun b => b = a ∨ b = ra) σ σ' ∧ sS σ' + rp (sN σ ra) ≤ sS σ + rp (sN σ' ra) + 6 * e ∧ sC σ' + sN σ ra / 8 ≤ sC σ + sN σ' ra / 8 + e ∧ sN σ ra ≤ sN σ' ra ∧ sN σ' ra ≤ max (sN σ ra) 2000
section JF0
variable {I : Nat → Nat} {n k p : Nat} {σ σ1 σ2 : ST} {a b ra wa e e1 e2 : Nat}
theorem JF.refl (σ : ST) (a ra : Nat) : JF σ σ a ra 0 := ⟨FR.refl _ _, Nat.le_refl _, Nat.le_refl _, Nat.le_refl _, Nat.le_max_left _ _⟩
theorem JF.tr (h : JF σ σ1 a ra e1) (k : JF σ1 σ2 a ra e2) : JF σ σ2 a ra (e1 + e2) := by
  obtain ⟨a1, a2, a3, a4, a5⟩ := h
  obtain ⟨b1, b2, b3, b4, b5⟩ := k
  exact ⟨a1.tr b1 (fun _ _ q => q), by omega, by omega, by omega, by omega⟩
theorem JF.at (σ : ST) (a ra : Nat) (v : Int) : JF σ (pI σ 210 a v) a ra 0 := ⟨FR.at1 (at_pI σ 210 a v) (Or.inl rfl), Nat.le_refl _, Nat.le_refl _, Nat.le_refl _, Nat.le_max_left _ _⟩
theorem JF.nX (σ : ST) (a ra : Nat) : JF σ (nX σ) a ra 1 := ⟨FR.nX _ σ, by rw [sN_nX_, sS_nX_]; omega, by rw [sN_nX_, sC_nX_]; omega, Nat.le_refl _, Nat.le_max_left _ _⟩
theorem JF.ofRA {w : List UInt8} (h : RA σ ra w σ1) (hw : (sW σ ra).length + w.length ≤ 1000) : JF σ σ1 a ra 0 := by
  have hl := h.len
  obtain ⟨h1, h2, h3, h4, h5, h6, h7, h8, h9⟩ := h
  exact ⟨⟨h2.1, fun b hb => ⟨(h2.2 b hb).1, fun q => (h2.2 b hb).2 (fun q' => q (Or.inr q'))⟩⟩, by omega, by omega, h7, by omega⟩
/-- how much room a row that grew has -/
def CP (σ σ' : ST) (ra : Nat) : Prop := sN σ' ra ≤ max (sN σ ra) (max 8 (2 * (sW σ' ra).length)) ∧ (sW σ ra).length ≤ (sW σ' ra).length
theorem CP.refl (σ : ST) (ra : Nat) : CP σ σ ra := ⟨Nat.le_max_left _ _, Nat.le_refl _⟩
theorem CP.tr (h : CP σ σ1 ra) (k : CP σ1 σ2 ra) : CP σ σ2 ra := by
  obtain ⟨a1, a2⟩ := h
  obtain ⟨b1, b2⟩ := k
  exact ⟨by omega, by omega⟩
theorem CP.ofRA {w : List UInt8} (h : RA σ ra w σ1) : CP σ σ1 ra := ⟨h.2.2.2.2.2.2.2.1, h.2.2.2.2.2.2.2.2.1⟩
theorem JRd.lt (h : JRd σ a b ra wa I n p) : a < sZ σ ∧ b < sZ σ ∧ ra < sZ σ ∧ wa < sZ σ := h.2.2.2.2.2.2.2.2.2.2.2.2.2
theorem JRd.rw (h : JRd σ a b ra wa I n p) : RW σ ra := h.2.2.2.2.2.2.2.2.2.2.1
theorem JRd.kept (h : JRd σ a b ra wa I n p) (ha : SameB σ σ1 a) (hb : SameB σ σ1 b) (hc : ∀ x, x < sZ σ → sc σ1 x = sc σ x) (hr : RW σ1 ra) (hl : sZ σ ≤ sZ σ1) : JRd σ1 a b ra wa I n p := by
  obtain ⟨h1, h2, h3, h4, h5, h6, h7, h8, h9, h10, h11, h12, h13, h14, h15, h16, h17⟩ := h
  obtain ⟨a1, a2, a3, a4, a5, a6, a7, a8, a9, a10⟩ := ha
  obtain ⟨b1, b2, b3, b4, b5, b6, b7, b8, b9, b10⟩ := hb
  exact ⟨by rw [hc a h14]; exact h1, by rw [a10]; exact h2, by rw [hc b h15]; exact h3, by rw [b3]; exact h4, fun k hk => by rw [b4]; exact h5 k hk, h6, by rw [a8]; exact h7, by rw [a8]; exact h8, h9, by rw [a10]; exact h10, hr, by rw [a10]; exact h12, by rw [hc wa h17]; exact h13, by omega, by omega, by omega, by omega⟩
theorem JRd.ne (h : JRd σ a b ra wa I n p) : a ≠ ra ∧ b ≠ ra ∧ wa ≠ ra ∧ a ≠ b ∧ a ≠ wa := by
  have h1 := h.1
  have h3 := h.2.2.1
  have h11 := h.rw.1
  have h13 := h.2.2.2.2.2.2.2.2.2.2.2.2.1
  exact ⟨fun e => by rw [e] at h1; omega, fun e => by rw [e] at h3; omega, fun e => by rw [e] at h13; omega, fun e => by rw [e] at h1; omega, fun e => by rw [e] at h1; omega⟩
theorem JRd.ofRA {w : List UInt8} (h : JRd σ a b ra wa I n p) (k : RA σ ra w σ1) : JRd σ1 a b ra wa I n p :=
  h.kept ((k.2.1.2 a h.lt.1).2 h.ne.1) ((k.2.1.2 b h.lt.2.1).2 h.ne.2.1) (fun x hx => (k.2.1.2 x hx).1) k.rw k.2.1.1.1
end JF0
section JT2
variable {I : Nat → Nat} {n k p : Nat} {σ : ST} {a b ra wa : Nat}
theorem jr_hex_L (b : Nat) : ∀ (m f k j : Nat) (v : Int) (σ : ST), JRd σ a b ra wa I n k → 0 ≤ v → m + j = 4 → m < f → Rn (·.2) σ (fun bb => jr_hex_L4 bb a f v (j : Int) σ) (fun r => if hx I n m k v = -1 then ∃ q : Nat, q ≤ 1001 ∧ r = (none, nX (pI σ 210 a (q : Int))) else r = (some (hx I n m k v), pI σ 210 a ((k + m : Nat) : Int)))
  | 0, f, k, j, v, σ, hJ, hv, hm, hf => by
    obtain ⟨f, rfl⟩ : ∃ g, f = g + 1 := ⟨f - 1, by omega⟩
    have e : ∀ bb, jr_hex_L4 bb a (f + 1) v (j : Int) σ = some (some v, σ) := fun bb => by rw [jr_hex_L4, gd_pos (by omega), if_pos (by omega)]
    refine Rn_eq e (Rn_some (Le.refl _) ?_)
    rw [hx]
    rw [if_neg (by omega), Nat.add_zero, pI_self σ 210 a hJ.2.2.2.2.2.2.2.1]
  | m + 1, f, k, j, v, σ, hJ, hv, hm, hf => by
    obtain ⟨f, rfl⟩ : ∃ g, f = g + 1 := ⟨f - 1, by omega⟩
    have hx0 := rg_byte hJ.rgI
    have hr := hxd_rg (lk I n k)
    refine Rn_eq (fun bb => by rw [jr_hex_L4, gd_pos (by omega), if_neg (by omega), gd_pos hJ.1, hJ.look, bind_some']) ?_
    have e : (gd (rg (lk I n k)) (if (lk I n k < 48) ∨ (57 < lk I n k) then (if (lk I n k < 97) ∨ (102 < lk I n k) then (if (lk I n k < 65) ∨ (70 < lk I n k) then (some (((-1)))) else (some ((lk I n k - 55)))) else (some ((lk I n k - 87)))) else (some ((lk I n k - 48)))) : Option Int) = some (hxd (lk I n k)) := by
      rw [gd_pos hx0]
      unfold hxd
      repeat' split
      all_goals rfl
    refine Rn_pure e ?_
    refine Rn_eq (fun bb => by rw [gd_pos (by omega)]) ?_
    rw [hx]
    refine Rn_10 (fun c => ?_) (fun c => ?_)
    · refine Rn_must (Or.inl rfl) (fun _ => ⟨rfl, ?_⟩) (fun q => by omega)
      rw [if_pos (by omega)]
      exact ⟨k, hJ.2.2.2.2.2.2.2.2.1, by rw [pI_self σ 210 a hJ.2.2.2.2.2.2.2.1]⟩
    · refine Rn_must (Or.inr rfl) (fun q => by omega) (fun _ => ?_)
      refine Rn_eq (fun bb => by rw [nm_eq, gd_pos hJ.1, nm_eq, hJ.2.2.2.2.2.2.2.1, show (k : Int) + 1 = ((k + 1 : Nat) : Int) by omega, show (j : Int) + 1 = ((j + 1 : Nat) : Int) by omega]) ?_
      rw [if_neg (by omega)]
      have hk : k < n := hxd_in (I := I) (by omega)
      have hn := hJ.2.2.2.2.2.1
      refine Rn_le ⟨Nat.le_refl _, Nat.le_refl _, Nat.le_refl _⟩ ((jr_hex_L b m f (k + 1) (j + 1) (16 * v + hxd (lk I n k)) _ (hJ.to (q := k + 1) (by omega) rfl) (by omega) (by omega) (by omega)).mono (fun r _ hr => ?_))
      by_cases c2 : hx I n m (k + 1) (16 * v + hxd (lk I n k)) = -1
      · rw [if_pos c2] at hr ⊢
        obtain ⟨q, q1, q2⟩ := hr
        exact ⟨q, q1, by rw [q2, pI_pI]⟩
      · rw [if_neg c2] at hr ⊢
        rw [hr, pI_pI, show k + 1 + m = k + (m + 1) by omega]
theorem JRd.hex (h : JRd σ a b ra wa I n p) : Rn (·.2) σ (fun bb => jr_hex bb a σ) (fun r => if hx I n 4 p 0 = -1 then ∃ q : Nat, q ≤ 1001 ∧ r = (none, nX (pI σ 210 a (q : Int))) else r = (some (hx I n 4 p 0), pI σ 210 a ((p + 4 : Nat) : Int))) := by
  have q := jr_hex_L b 4 FU p 0 0 σ h (by omega) (by omega) (FU_gt (by omega))
  exact q
/-- a throw, or not: the rest of a call that may throw -/
theorem Rn_tB {Y X : Type} {st : X → ST} {σ : ST} {K : X → Prop} {A : Nat × Nat → Option (Option Y × ST)} {thr : ST → X} {G : Nat × Nat → Y → ST → Option X} {J : Option Y × ST → Prop} (hA : Rn (·.2) σ A J) (kT : ∀ σ', Le σ σ' → J (none, σ') → st (thr σ') = σ' ∧ K (thr σ')) (kS : ∀ y σ', Le σ σ' → J (some y, σ') → Rn st σ' (fun bb => G bb y σ') K) : Rn st σ (fun bb => Option.bind (A bb) (tB thr (G bb))) K := by
  refine Rn_bind (G := fun bb => tB thr (G bb)) hA (fun y hl hJ => ?_)
  obtain ⟨y, σ'⟩ := y
  cases y with
  | none =>
    obtain ⟨t1, t2⟩ := kT σ' hl hJ
    exact Rn_some (by rw [t1]; exact Le.refl _) t2
  | some y => exact kS y σ' hl hJ
/-- a sign told by digits, its place behind -/
def told (I : Nat → Nat) (n k : Nat) : Option (Int × Nat) :=
  if hx I n 4 k 0 = -1 then none
  else if hx I n 4 k 0 < 55296 ∨ 56320 ≤ hx I n 4 k 0 then (if hx I n 4 k 0 < 56320 ∨ 57344 ≤ hx I n 4 k 0 then some (hx I n 4 k 0, k + 4) else none)
  else if lk I n (k + 4) = 92 ∧ lk I n (k + 5) = 117 ∧ 56320 ≤ hx I n 4 (k + 6) 0 ∧ hx I n 4 (k + 6) 0 < 57344 then some (pair (hx I n 4 k 0) (hx I n 4 (k + 6) 0), k + 10) else none
def TO (σ : ST) (a : Nat) (o : Option (Int × Nat)) (r : Option Int × ST) : Prop := match o with
  | some v => r = (some v.1, pI σ 210 a (v.2 : Int))
  | none => ∃ q : Nat, q ≤ 1001 ∧ r = (none, nX (pI σ 210 a (q : Int)))
theorem TO.up {o : Option (Int × Nat)} {r : Option Int × ST} {v : Int} (h : TO (pI σ 210 a v) a o r) : TO σ a o r := by
  unfold TO at h ⊢
  cases o with
  | none => obtain ⟨q, q1, q2⟩ := h; exact ⟨q, q1, by rw [q2, pI_pI]⟩
  | some w => simp only at h ⊢; rw [h, pI_pI]
theorem JRd.tolds (h : JRd σ a b ra wa I n p) : Rn (·.2) σ (fun bb => jr_told bb a σ) (TO σ a (told I n p)) := by
  have hn := h.2.2.2.2.2.1
  have h4 := hx4_rg I n p
  unfold jr_told
  refine Rn_gd h.1 ?_
  refine Rn_tB h.hex (fun σ' _ hJ => ⟨rfl, ?_⟩) (fun v σ' _ hJ => ?_)
  · unfold told
    by_cases c : hx I n 4 p 0 = -1
    · rw [if_pos c] at hJ ⊢
      obtain ⟨q, q1, q2⟩ := hJ
      exact ⟨q, q1, q2⟩
    · rw [if_neg c] at hJ
      cases hJ
  · by_cases c : hx I n 4 p 0 = -1
    · rw [if_pos c] at hJ
      obtain ⟨q, q1, q2⟩ := hJ
      cases q2
    · rw [if_neg c] at hJ
      have e1 : v = hx I n 4 p 0 := Option.some.inj (congrArg Prod.fst hJ)
      have e2 : σ' = pI σ 210 a ((p + 4 : Nat) : Int) := congrArg Prod.snd hJ
      subst e1 e2
      have hJ4 := h.to (q := p + 4) (by omega) rfl
      refine Rn_eq (fun bb => by rw [gd_pos (by omega)]) ?_
      unfold told
      rw [if_neg c]
      refine Rn_01 (fun c1 => ?_) (fun c1 => ?_)
      · refine Rn_must (Or.inr rfl) (fun q => by omega) (fun _ => ?_)
        refine Rn_gd (by omega) (Rn_if (fun c2 => ?_) (fun c2 => ?_))
        · refine Rn_some (Le.refl _) ?_
          rw [if_pos (by omega), if_pos (by omega)]
          rfl
        · rw [if_neg (by omega)]
          refine Rn_gd hJ4.1 ?_
          refine Rn_pure hJ4.look ?_
          refine Rn_eq (fun bb => by rw [gd_pos (rg_byte hJ4.rgI)]) ?_
          refine Rn_01 (fun c3 => ?_) (fun c3 => ?_)
          · refine Rn_must (Or.inr rfl) (fun q => by omega) (fun _ => ?_)
            have l4 : p + 4 < n := lk_in (by rw [c3]; decide)
            have hJ5 := h.to (q := p + 5) (by omega) rfl
            refine Rn_gd hJ4.1 ?_
            refine Rn_eq (fun bb => by rw [nm_eq, pI_pI, hJ4.2.2.2.2.2.2.2.1, show ((p + 4 : Nat) : Int) + 1 = ((p + 5 : Nat) : Int) by omega]) ?_
            refine Rn_le (σ1 := pI σ 210 a ((p + 5 : Nat) : Int)) ⟨Nat.le_refl _, Nat.le_refl _, Nat.le_refl _⟩ ?_
            refine Rn_gd hJ5.1 ?_
            refine Rn_pure hJ5.look ?_
            refine Rn_eq (fun bb => by rw [gd_pos (rg_byte hJ5.rgI)]) ?_
            refine Rn_01 (fun c4 => ?_) (fun c4 => ?_)
            · refine Rn_must (Or.inr rfl) (fun q => by omega) (fun _ => ?_)
              have l5 : p + 5 < n := lk_in (by rw [c4]; decide)
              have hJ6 := h.to (q := p + 6) (by omega) rfl
              refine Rn_gd hJ5.1 ?_
              refine Rn_eq (fun bb => by rw [nm_eq, pI_pI, hJ5.2.2.2.2.2.2.2.1, show ((p + 5 : Nat) : Int) + 1 = ((p + 6 : Nat) : Int) by omega]) ?_
              refine Rn_le (σ1 := pI σ 210 a ((p + 6 : Nat) : Int)) ⟨Nat.le_refl _, Nat.le_refl _, Nat.le_refl _⟩ ?_
              refine Rn_gd hJ6.1 ?_
              have h6 := hx4_rg I n (p + 6)
              refine Rn_tB hJ6.hex (fun σ' _ hJ => ⟨rfl, ?_⟩) (fun w σ' _ hJ => ?_)
              · by_cases c5 : hx I n 4 (p + 6) 0 = -1
                · rw [if_pos c5] at hJ
                  obtain ⟨q, q1, q2⟩ := hJ
                  rw [if_neg (by omega)]
                  exact ⟨q, q1, by rw [q2, pI_pI]⟩
                · rw [if_neg c5] at hJ
                  cases hJ
              · by_cases c5 : hx I n 4 (p + 6) 0 = -1
                · rw [if_pos c5] at hJ
                  obtain ⟨q, q1, q2⟩ := hJ
                  cases q2
                · rw [if_neg c5] at hJ
                  have e1 : w = hx I n 4 (p + 6) 0 := Option.some.inj (congrArg Prod.fst hJ)
                  have e2 : σ' = pI (pI σ 210 a ((p + 6 : Nat) : Int)) 210 a ((p + 6 + 4 : Nat) : Int) := congrArg Prod.snd hJ
                  rw [pI_pI] at e2
                  subst e1 e2
                  refine Rn_eq (fun bb => by rw [gd_pos (by omega)]) ?_
                  refine Rn_10 (fun c6 => ?_) (fun c6 => ?_)
                  · refine Rn_must (Or.inl rfl) (fun _ => ⟨rfl, ?_⟩) (fun q => by omega)
                    rw [if_neg (by omega)]
                    exact ⟨p + 6 + 4, by omega, rfl⟩
                  · refine Rn_must (Or.inr rfl) (fun q => by omega) (fun _ => ?_)
                    refine Rn_some (Le.refl _) ?_
                    rw [if_pos ⟨c3, c4, by omega, by omega⟩]
                    rfl
            · refine Rn_must (Or.inl rfl) (fun _ => ⟨rfl, ?_⟩) (fun q => by omega)
              rw [if_neg (fun q => c4 q.2.1)]
              exact ⟨p + 5, by omega, rfl⟩
          · refine Rn_must (Or.inl rfl) (fun _ => ⟨rfl, ?_⟩) (fun q => by omega)
            rw [if_neg (fun q => c3 q.1)]
            exact ⟨p + 4, by omega, rfl⟩
      · refine Rn_must (Or.inl rfl) (fun _ => ⟨rfl, ?_⟩) (fun q => by omega)
        rw [if_pos (by omega), if_neg (by omega)]
        exact ⟨p + 4, by omega, rfl⟩
/-- a sign's bytes behind a row -/
theorem rn_sign {σ : ST} {a : Nat} (ha : RW σ a) (hn : (sW σ a).length < 7000000) {v : Int} (hv : rg v) : Rn id σ (fun bb => row_addSign bb a v σ) (RA σ a (sayL v)) := by
  unfold row_addSign sayL
  refine Rn_gd hv (Rn_if (fun c1 => ?_) (fun c1 => ?_))
  · rw [if_pos c1]
    refine Rn_if (fun c2 => ?_) (fun c2 => ?_)
    · rw [if_pos c2]
      refine Rn_if (fun c3 => ?_) (fun c3 => ?_)
      · rw [if_pos c3]
        refine Rn_gd ha.1 (Rn_bind (rn_add ha (by omega) _) (fun σ1 _ g1 => Rn_gd g1.rw.1 (Rn_bind (rn_add g1.rw (by rw [g1.len]; simp; omega) _) (fun σ2 _ g2 => Rn_gd g2.rw.1 (Rn_bind (rn_add g2.rw (by rw [g2.len, g1.len]; simp; omega) _) (fun σ3 _ g3 => Rn_gd g3.rw.1 (Rn_bind (rn_add g3.rw (by rw [g3.len, g2.len, g1.len]; simp; omega) _) (fun σ4 _ g4 => Rn_some (Le.refl _) ?_))))))))
        exact ((g1.tr g2).tr g3).tr g4
      · rw [if_neg c3]
        refine Rn_gd ha.1 (Rn_bind (rn_add ha (by omega) _) (fun σ1 _ g1 => Rn_gd g1.rw.1 (Rn_bind (rn_add g1.rw (by rw [g1.len]; simp; omega) _) (fun σ2 _ g2 => Rn_gd g2.rw.1 (Rn_bind (rn_add g2.rw (by rw [g2.len, g1.len]; simp; omega) _) (fun σ3 _ g3 => Rn_some (Le.refl _) ?_))))))
        exact (g1.tr g2).tr g3
    · rw [if_neg c2]
      refine Rn_gd ha.1 (Rn_bind (rn_add ha (by omega) _) (fun σ1 _ g1 => Rn_gd g1.rw.1 (Rn_bind (rn_add g1.rw (by rw [g1.len]; simp; omega) _) (fun σ2 _ g2 => Rn_some (Le.refl _) ?_))))
      exact g1.tr g2
  · rw [if_neg c1]
    exact Rn_gd ha.1 (Rn_bind (rn_add ha (by omega) _) (fun σ1 _ g1 => Rn_some (Le.refl _) g1))
/-- what comes behind a backslash -/
def esc1 (I : Nat → Nat) (n k : Nat) : Option (Int × Nat) := if lk I n k = 117 then told I n (k + 1) else if escv (lk I n k) = -1 then none else some (escv (lk I n k), k + 1)
/-- one step of a text: its bytes, the next place -/
def stp (I : Nat → Nat) (n k : Nat) : Option (List UInt8 × Nat) := if lk I n k = 92 then (esc1 I n (k + 1)).map (fun v => (sayL v.1, v.2)) else some ([u8 (lk I n k)], k + 1)
theorem told_rg {v : Int × Nat} (h : told I n k = some v) : 0 ≤ v.1 ∧ v.1 < 1114112 ∧ v.2 ≤ n ∧ k + 4 ≤ v.2 ∧ (sayL v.1).length + k + 1 ≤ v.2 := by
  unfold told at h
  have h4 := hx4_rg I n k
  have h6 := hx4_rg I n (k + 6)
  split at h
  · cases h
  · split at h
    · split at h
      · cases h
        have := (sayL_len (hx I n 4 k 0)).2.1
        exact ⟨by omega, by omega, by simp only; omega, by simp only; omega, by simp only; omega⟩
      · cases h
    · split at h
      · rename_i q
        cases h
        have hp := pair_rg (v := hx I n 4 k 0) (w := hx I n 4 (k + 6) 0) (by omega) q.2.2
        have := (sayL_len (pair (hx I n 4 k 0) (hx I n 4 (k + 6) 0))).1
        exact ⟨by simp only; omega, by simp only; omega, by simp only; omega, by simp only; omega, by simp only; omega⟩
      · cases h
theorem esc1_rg {v : Int × Nat} (h : esc1 I n k = some v) : 0 ≤ v.1 ∧ v.1 < 1114112 ∧ v.2 ≤ n ∧ k < v.2 ∧ (sayL v.1).length + k ≤ v.2 := by
  unfold esc1 at h
  split at h
  · have := told_rg h
    omega
  · split at h
    · cases h
    · rename_i q
      cases h
      have h1 := escv_rg (lk I n k)
      have h2 := escv_in q
      have := (sayL_len (escv (lk I n k))).2.2.1 (by omega)
      exact ⟨by simp only; omega, by simp only; omega, by simp only; omega, by simp only; omega, by simp only; omega⟩
theorem stp_rg {v : List UInt8 × Nat} (hk : k < n) (h : stp I n k = some v) : v.2 ≤ n ∧ k < v.2 ∧ v.1.length + k ≤ v.2 := by
  unfold stp at h
  split at h
  · cases e : esc1 I n (k + 1) with
    | none => rw [e] at h; cases h
    | some w =>
      rw [e] at h
      cases h
      have := esc1_rg e
      exact ⟨by simp only; omega, by simp only; omega, by simp only; omega⟩
  · cases h
    exact ⟨by simp only; omega, by simp only; omega, by simp only [List.length_cons, List.length_nil]; omega⟩
theorem strS_stp {w : List UInt8} (h0 : ¬ lk I n k < 32) (h1 : lk I n k ≠ 34) : strS I n k w = match stp I n k with | some v => strS I n v.2 (w ++ v.1) | none => none := by
  rw [strS, dif_neg h0, if_neg h1]
  unfold stp esc1 told
  simp only [Nat.add_assoc, Nat.reduceAdd]
  by_cases c2 : lk I n k = 92
  · rw [if_pos c2, if_pos c2]
    by_cases c3 : lk I n (k + 1) = 117
    · rw [if_pos c3, if_pos c3]
      by_cases c4 : hx I n 4 (k + 2) 0 < 55296 ∨ 56320 ≤ hx I n 4 (k + 2) 0
      · rw [if_pos c4, if_pos c4]
        by_cases c5 : hx I n 4 (k + 2) 0 < 56320 ∨ 57344 ≤ hx I n 4 (k + 2) 0
        · rw [if_pos c5, if_pos c5]
          by_cases c6 : hx I n 4 (k + 2) 0 = -1
          · rw [if_pos c6, if_pos c6]; rfl
          · rw [if_neg c6, if_neg c6]; rfl
        · rw [if_neg c5, if_neg c5, if_neg (show ¬ hx I n 4 (k + 2) 0 = -1 by omega)]; rfl
      · rw [if_neg c4, if_neg c4, if_neg (show ¬ hx I n 4 (k + 2) 0 = -1 by omega)]
        by_cases c5 : lk I n (k + 6) = 92 ∧ lk I n (k + 7) = 117 ∧ 56320 ≤ hx I n 4 (k + 8) 0 ∧ hx I n 4 (k + 8) 0 < 57344
        · rw [if_pos c5, if_pos c5]; rfl
        · rw [if_neg c5, if_neg c5]; rfl
    · rw [if_neg c3, if_neg c3]
      by_cases c4 : escv (lk I n (k + 1)) = -1
      · rw [if_pos c4, if_pos c4]; rfl
      · rw [if_neg c4, if_neg c4]; rfl
  · rw [if_neg c2, if_neg c2]
def ES (σ : ST) (a ra : Nat) (o : Option (Int × Nat)) (r : Option Unit × ST) : Prop := match o with
  | some v => ∃ σ', r = (some (), σ') ∧ RA (pI σ 210 a (v.2 : Int)) ra (sayL v.1) σ'
  | none => ∃ q : Nat, q ≤ 1001 ∧ r = (none, nX (pI σ 210 a (q : Int)))
theorem JRd.add1 (h : JRd σ a b ra wa I n p) (hw : (sW σ ra).length ≤ 1000) (x : Int) (hx : x < 128) : Rn (·.2) σ (fun bb => Option.bind (some ra) fun p7 => gd (sc σ p7 = 4) (Option.bind (r_add bb p7 x σ) fun y10 => some ((some (), y10)))) (fun r : Option Unit × ST => ∃ σ', r = (some (), σ') ∧ RA σ ra (sayL x) σ') := by
  refine Rn_eq (fun bb => by rw [bind_some']) ?_
  refine Rn_gd h.rw.1 (Rn_bind (rn_add h.rw (by omega) x) (fun σ1 _ g1 => Rn_some (Le.refl _) ⟨σ1, rfl, ?_⟩))
  unfold sayL
  rw [if_neg (by omega)]
  exact g1
theorem JRd.escape (h : JRd σ a b ra wa I n p) (hp : p ≤ 1000) (hw : (sW σ ra).length ≤ 1000) : Rn (·.2) σ (fun bb => jr_escape bb a (some ra) σ) (ES σ a ra (esc1 I n p)) := by
  have hJ := h.to (q := p + 1) (by omega) rfl
  have hxx := h.rgI
  unfold jr_escape
  refine Rn_gd h.1 (Rn_pure h.look ?_)
  refine Rn_eq (fun bb => by rw [nm_eq, h.2.2.2.2.2.2.2.1, show (p : Int) + 1 = ((p + 1 : Nat) : Int) by omega]) ?_
  refine Rn_gd (rg_byte hxx) ?_
  refine Rn_le (σ1 := pI σ 210 a ((p + 1 : Nat) : Int)) ⟨Nat.le_refl _, Nat.le_refl _, Nat.le_refl _⟩ ?_
  have key : ∀ x : Int, x < 128 → x ≠ -1 → lk I n p ≠ 117 → escv (lk I n p) = x → Rn (·.2) (pI σ 210 a ((p + 1 : Nat) : Int)) (fun bb => Option.bind (some ra) fun p7 => gd (sc (pI σ 210 a ((p + 1 : Nat) : Int)) p7 = 4) (Option.bind (r_add bb p7 x (pI σ 210 a ((p + 1 : Nat) : Int))) fun y10 => some ((some (), y10)))) (ES σ a ra (esc1 I n p)) := fun x h1 h2 h3 h4 => by
    refine (hJ.add1 hw x h1).mono (fun r _ hr => ?_)
    unfold esc1
    rw [if_neg h3, h4, if_neg h2]
    exact hr
  refine Rn_if (fun c1 => key _ (by omega) (by omega) (by omega) ?_) (fun c1 => ?_)
  · unfold escv
    rcases c1 with e | e | e <;> rw [e] <;> decide
  refine Rn_if (fun c2 => key 8 (by omega) (by omega) (by omega) (by rw [c2]; decide)) (fun c2 => ?_)
  refine Rn_if (fun c3 => key 12 (by omega) (by omega) (by omega) (by rw [c3]; decide)) (fun c3 => ?_)
  refine Rn_if (fun c4 => key 10 (by omega) (by omega) (by omega) (by rw [c4]; decide)) (fun c4 => ?_)
  refine Rn_if (fun c5 => key 13 (by omega) (by omega) (by omega) (by rw [c5]; decide)) (fun c5 => ?_)
  refine Rn_if (fun c6 => key 9 (by omega) (by omega) (by omega) (by rw [c6]; decide)) (fun c6 => ?_)
  refine Rn_if (fun c7 => ?_) (fun c7 => ?_)
  · unfold esc1
    rw [if_pos c7]
    refine Rn_gd hJ.1 ?_
    refine Rn_tB hJ.tolds (fun σ' _ ho => ⟨rfl, ?_⟩) (fun v σ' _ ho => ?_)
    · have ho := ho.up
      cases e : told I n (p + 1) with
      | none =>
        rw [e] at ho
        obtain ⟨q, q1, q2⟩ := ho
        cases q2
        exact ⟨q, q1, rfl⟩
      | some v => rw [e] at ho; cases ho
    · have ho := ho.up
      cases e : told I n (p + 1) with
      | none => rw [e] at ho; obtain ⟨q, q1, q2⟩ := ho; cases q2
      | some v =>
        rw [e] at ho
        cases ho
        have hv := told_rg e
        have hn := h.2.2.2.2.2.1
        have hJ2 := h.to (q := v.2) (by omega) rfl
        refine Rn_eq (fun bb => by rw [bind_some']) ?_
        refine Rn_gd hJ2.rw.1 (Rn_bind (rn_sign hJ2.rw (by show (sW σ ra).length < _; omega) (by omega)) (fun σ1 _ g1 => Rn_some (Le.refl _) ⟨σ1, rfl, g1⟩))
  · refine Rn_must (Or.inl rfl) (fun _ => ⟨rfl, ?_⟩) (fun q => by omega)
    unfold esc1
    rw [if_neg c7, if_pos ?_]
    · exact ⟨p + 1, by omega, rfl⟩
    · unfold escv
      rw [if_neg c2, if_neg c3, if_neg c4, if_neg c5, if_neg c6, if_neg (by omega)]
def stS (r : (Option (Option Nat) × ST) ⊕ ST) : ST := Sum.elim (·.2) id r
def SO (σ : ST) (a b ra wa : Nat) (I : Nat → Nat) (n : Nat) (o : Option (Nat × List UInt8)) (r : (Option (Option Nat) × ST) ⊕ ST) : Prop := match o with
  | some e => ∃ σ', r = Sum.inr σ' ∧ JRd σ' a b ra wa I n e.1 ∧ sW σ' ra = e.2 ∧ JF σ σ' a ra 0 ∧ CP σ σ' ra
  | none => ∃ σ', r = Sum.inl (none, σ') ∧ JF σ σ' a ra 1
theorem SO.up {σ σ1 : ST} {o : Option (Nat × List UInt8)} {r : (Option (Option Nat) × ST) ⊕ ST} (f : JF σ σ1 a ra 0) (g : CP σ σ1 ra) (h : SO σ1 a b ra wa I n o r) : SO σ a b ra wa I n o r := by
  unfold SO at h ⊢
  cases o with
  | none => obtain ⟨σ', q1, q2⟩ := h; exact ⟨σ', q1, by have := f.tr q2; simpa using this⟩
  | some e => obtain ⟨σ', q1, q2, q3, q4, q5⟩ := h; exact ⟨σ', q1, q2, q3, by have := f.tr q4; simpa using this, g.tr q5⟩
theorem jr_string_L : ∀ (m f k : Nat) (w : List UInt8) (σ : ST), JRd σ a b ra wa I n k → sW σ ra = w → n + 1 - k ≤ m → m < f → w.length ≤ k → k ≤ n → Rn stS σ (fun bb => jr_string_L13 bb a f σ) (SO σ a b ra wa I n (strS I n k w)) := by
  intro m
  induction m with
  | zero => intro f k w σ hJ hw h1 h2 h3 h4; omega
  | succ m ih =>
    intro f k w σ hJ hw h1 h2 h3 h4
    obtain ⟨f, rfl⟩ : ∃ g, f = g + 1 := ⟨f - 1, by omega⟩
    have hxx := hJ.rgI
    have hn := hJ.2.2.2.2.2.1
    refine Rn_eq (fun bb => by rw [jr_string_L13, gd_pos hJ.1, hJ.look, bind_some', gd_pos (rg_byte hxx)]) ?_
    refine Rn_if (fun c1 => ?_) (fun c1 => ?_)
    · rw [strS, dif_neg (by omega), if_pos c1]
      exact Rn_some (Le.refl _) ⟨σ, rfl, hJ, hw, JF.refl _ _ _, CP.refl _ _⟩
    · refine Rn_eq (fun bb => by rw [bind_some', gd_pos (rg_byte hxx)]) ?_
      refine Rn_10 (fun c0 => ?_) (fun c0 => ?_)
      · refine Rn_must (Or.inl rfl) (fun _ => ⟨rfl, ?_⟩) (fun q => by omega)
        rw [strS, dif_pos c0]
        exact ⟨nX σ, rfl, JF.nX σ a ra⟩
      · refine Rn_must (Or.inr rfl) (fun q => by omega) (fun _ => ?_)
        have hk : k < n := lk_in (I := I) (by omega)
        have hJ1 := hJ.to (q := k + 1) (by omega) rfl
        refine Rn_gd hJ.1 (Rn_pure hJ.look ?_)
        refine Rn_eq (fun bb => by rw [nm_eq, hJ.2.2.2.2.2.2.2.1, show (k : Int) + 1 = ((k + 1 : Nat) : Int) by omega, gd_pos (rg_byte hxx)]) ?_
        rw [strS_stp c0 c1]
        refine Rn_bind (su := Sum.elim stS id) (J := fun y => match stp I n k with | some v => ∃ σ', y = Sum.inr σ' ∧ JRd σ' a b ra wa I n v.2 ∧ sW σ' ra = w ++ v.1 ∧ JF σ σ' a ra 0 ∧ CP σ σ' ra | none => ∃ σ', y = Sum.inl (Sum.inl (none, σ')) ∧ JF σ σ' a ra 1) (Rn_le (σ1 := pI σ 210 a ((k + 1 : Nat) : Int)) ⟨Nat.le_refl _, Nat.le_refl _, Nat.le_refl _⟩ ?_) (fun y hl hy => ?_)
        · have e211 : sR (pI σ 210 a ((k + 1 : Nat) : Int)) 211 a = some ra := hJ1.2.2.2.2.2.2.2.2.2.1
          refine Rn_if (fun c2 => ?_) (fun c2 => ?_)
          · unfold stp
            rw [if_pos c2]
            refine Rn_gd hJ1.1 ?_
            refine Rn_eq (fun bb => by rw [e211]) ?_
            refine Rn_tB (hJ1.escape (by omega) (by show (sW σ ra).length ≤ _; rw [hw]; omega)) (fun σ' _ ho => ⟨rfl, ?_⟩) (fun v σ' _ ho => ?_)
            · cases e : esc1 I n (k + 1) with
              | none =>
                rw [e] at ho
                obtain ⟨q, q1, q2⟩ := ho
                cases q2
                refine ⟨_, rfl, ?_⟩
                rw [pI_pI]
                have := (JF.at σ a ra (q : Int)).tr (JF.nX (pI σ 210 a (q : Int)) a ra)
                simpa using this
              | some v => rw [e] at ho; obtain ⟨σ2, q1, q2⟩ := ho; cases q1
            · cases e : esc1 I n (k + 1) with
              | none => rw [e] at ho; obtain ⟨q, q1, q2⟩ := ho; cases q2
              | some u =>
                rw [e] at ho
                obtain ⟨σ2, q1, q2⟩ := ho
                cases q1
                rw [pI_pI] at q2
                have hv := esc1_rg e
                refine Rn_some (Le.refl _) ⟨σ', rfl, (hJ.to (q := u.2) (by omega) rfl).ofRA q2, ?_, ?_, (by exact (CP.ofRA q2 : CP (pI σ 210 a (u.2 : Int)) σ' ra))⟩
                · rw [q2.1]
                  show sW σ ra ++ _ = _
                  rw [hw]
                · have := (JF.at σ a ra (u.2 : Int)).tr (JF.ofRA (a := a) q2 (by show (sW σ ra).length + _ ≤ _; rw [hw]; omega))
                  simpa using this
          · unfold stp
            rw [if_neg c2]
            refine Rn_gd hJ1.1 ?_
            refine Rn_pure e211 ?_
            refine Rn_gd hJ1.rw.1 (Rn_bind (rn_add hJ1.rw (by show (sW σ ra).length < _; rw [hw]; omega) _) (fun σ1 _ g1 => Rn_some (Le.refl _) ⟨σ1, rfl, hJ1.ofRA g1, ?_, ?_, (by exact (CP.ofRA g1 : CP (pI σ 210 a ((k + 1 : Nat) : Int)) σ1 ra))⟩))
            · rw [g1.1]
              show sW σ ra ++ _ = _
              rw [hw]
            · have := (JF.at σ a ra ((k + 1 : Nat) : Int)).tr (JF.ofRA (a := a) g1 (by show (sW σ ra).length + _ ≤ _; rw [hw]; simp; omega))
              simpa using this
        · cases e : stp I n k with
          | none =>
            rw [e] at hy
            obtain ⟨σ', q1, q2⟩ := hy
            subst q1
            exact Rn_eq (fun bb => by rw [elim_l]) (Rn_some (Le.refl _) ⟨σ', rfl, q2⟩)
          | some v =>
            rw [e] at hy
            obtain ⟨σ', q1, q2, q3, q4, q5⟩ := hy
            subst q1
            have hv := stp_rg hk e
            refine Rn_eq (fun bb => by rw [elim_r]) ?_
            refine (ih f v.2 (w ++ v.1) σ' q2 q3 (by omega) (by omega) (by rw [List.length_append]; omega) (by omega)).mono (fun r _ hr => SO.up q4 q5 hr)
end JT2
