set_option maxRecDepth 100000
/-! SCHEMAS, READ: a field's object -/
section Fi
theorem fd_L51 {X q j : Nat} {w : List UInt8} (hw24 : w.length ≤ 100) : ∀ (N k : Nat) (g : Bool) (σ : ST), sc σ q = 4 → sW σ q = w → q < sZ σ → q ≠ j → X ≠ j → X < sZ σ → sR σ 130 X = some j → sc σ X = 9 → RW σ j → (sW σ j).length + (w.length - k) ≤ 1000 → k ≤ w.length → w.length - k < N → Rn id σ (fun bb => fd_init_L51 bb X (some q) N (if g = true then 1 else 0) (k : Int) σ) (RA σ j (jsL g (w.drop k)))
  | 0, k, g, σ, _, _, _, _, _, _, _, _, _, _, _, h => by omega
  | N + 1, k, g, σ, h1, h2, h3, h4, h5, h6, h7, h8, h9, hA, hB, hC => by
    by_cases c : w.length ≤ k
    · have e : w.drop k = [] := List.drop_eq_nil_of_le c
      refine Rn_eq (fun bb => by rw [fd_init_L51, bind_some', gd_pos h1, gd_pos (by omega), h2, if_pos (by omega)]) ?_
      rw [e]; exact Rn_some (Le.refl _) (RA.nil h9)
    · have hk : k < w.length := by omega
      have ed : w.drop k = w[k] :: w.drop (k + 1) := List.drop_eq_getElem_cons hk
      have er : row_at q (k : Int) σ = some ((w[k].toNat : Nat) : Int) := by
        rw [row_at_eq h1 rfl (by omega), h2, lk_lt hk]
        unfold wI
        rw [List.getD_eq_getElem?_getD, List.getElem?_eq_getElem hk]; rfl
      obtain ⟨ch, hch⟩ : ∃ ch, ch = w[k] := ⟨_, rfl⟩
      rw [← hch] at er ed
      have hlt := ch.toNat_lt
      by_cases c95 : ch.toNat = 95
      · have ej : jsL g (w.drop k) = jsL true (w.drop (k + 1)) := by rw [ed, jsL, if_pos c95]
        refine Rn_eq (G := fun bb => fd_init_L51 bb X (some q) N 1 ((k + 1 : Nat) : Int) σ) (fun bb => by rw [fd_init_L51, bind_some', gd_pos h1, gd_pos (by omega), h2, if_neg (by omega), er, bind_some', gd_pos (by omega), if_pos (show ((ch.toNat : Nat) : Int) = 95 by omega), bind_some', gd_pos (by omega), if_pos (show ((ch.toNat : Nat) : Int) = 95 by omega), bind_some']; rfl) ?_
        rw [ej]
        exact fd_L51 hw24 N (k + 1) true σ h1 h2 h3 h4 h5 h6 h7 h8 h9 (by omega) (by omega) (by omega)
      · have ej : jsL g (w.drop k) = [if g = true ∧ 97 ≤ ch.toNat ∧ ch.toNat ≤ 122 then UInt8.ofNat (ch.toNat - 32) else ch] ++ jsL false (w.drop (k + 1)) := by rw [ed, jsL, if_neg c95]; rfl
        obtain ⟨v, ev, ub⟩ : ∃ v : Int, (gd (rg (if g = true then (1 : Int) else 0)) (if (((if g = true then (1 : Int) else 0) = 0) ∨ (((ch.toNat : Nat) : Int) < 97)) ∨ (122 < ((ch.toNat : Nat) : Int)) then (some ((ch.toNat : Nat) : Int)) else (some (((ch.toNat : Nat) : Int) - 32)))) = some v ∧ u8 v = (if g = true ∧ 97 ≤ ch.toNat ∧ ch.toNat ≤ 122 then UInt8.ofNat (ch.toNat - 32) else ch) := by
          cases g with
          | false =>
            refine ⟨_, by rw [gd_pos (by show rg 0; omega), if_pos (Or.inl (Or.inl (by simp)))], ?_⟩
            rw [if_neg (by simp), u8_b]
          | true =>
            by_cases c2 : 97 ≤ ch.toNat ∧ ch.toNat ≤ 122
            · refine ⟨_, by rw [gd_pos (by show rg 1; omega), if_neg (by simp; omega)], ?_⟩
              rw [if_pos ⟨rfl, c2⟩]
              exact u8_n (by omega) (by omega)
            · refine ⟨_, by rw [gd_pos (by show rg 1; omega), if_pos (by simp; omega)], ?_⟩
              rw [if_neg (fun q => c2 q.2), u8_b]
        rw [ej]
        have k4 := h9.1
        refine Rn_eq (G := fun bb => Option.bind (Option.bind (r_add bb j v σ) fun y59 => some y59) fun v31 => fd_init_L51 bb X (some q) N 0 ((k + 1 : Nat) : Int) v31) (fun bb => by
          rw [fd_init_L51, bind_some', gd_pos h1, gd_pos (by omega), h2, if_neg (by omega), er, bind_some', gd_pos (by omega), if_neg (show ¬ ((ch.toNat : Nat) : Int) = 95 by omega), gd_pos h8, ev, bind_some', h7, bind_some', gd_pos k4]
          refine congrArg (Option.bind _) (funext fun v31 => ?_)
          rw [gd_pos (by omega), if_neg (show ¬ ((ch.toNat : Nat) : Int) = 95 by omega), bind_some']; rfl) ?_
        have A1 : Rn id σ (fun bb => Option.bind (r_add bb j v σ) fun y59 => some y59) (RA σ j [u8 v]) := Rn_bind (su := id) (rn_add h9 (by omega) v) (fun y _ h => Rn_some (Le.refl _) h)
        refine Rn_bind (su := id) A1 (fun σ1 _ g1 => ?_)
        have g1 : RA σ j [u8 v] σ1 := g1
        have fr := g1.2.1
        have z1 := fr.1.1
        have sq := (fr.2 q h3).2 h4
        have sX := (fr.2 X h6).2 h5
        have l1 := g1.len
        simp only [List.length_singleton] at l1
        have ih := fd_L51 hw24 N (k + 1) false σ1 (by rw [g1.2.2.1]; exact h1) (by rw [sq.1]; exact h2) (by omega) h4 h5 (by omega) (by rw [sX.2.2.2.2.2.2.2.2.2]; exact h7) (by rw [g1.2.2.1]; exact h8) g1.rw (by omega) (by omega) (by omega)
        refine Rn.mono ih (fun σ2 _ g2 => ?_)
        rw [← ub]; exact g1.tr g2
variable {σ : ST}
/-- a field made -/
def FdI (X : Nat) (ms : Option Nat) (q : Nat) (w : List UInt8) (σ σ' : ST) : Prop := FR (fun x => x = X) σ σ' ∧ sc σ' X = 9 ∧ sR σ' 128 X = ms ∧ sR σ' 129 X = some q ∧ sR σ' 130 X = some (sZ σ) ∧ (sc σ' (sZ σ) = 4 ∧ sW σ' (sZ σ) = jsn w) ∧ sR σ' 139 X = some (sZ σ + 1) ∧ (sc σ' (sZ σ + 1) = 16 ∧ sA σ' (sZ σ + 1) = [] ∧ sN σ' (sZ σ + 1) = 0) ∧ sI σ' 132 X = -1 ∧ sI σ' 133 X = -1 ∧ (∀ k, k ≠ 132 → k ≠ 133 → sI σ' k X = sI σ k X) ∧ sR σ' 137 X = sR σ 137 X ∧ sR σ' 138 X = sR σ 138 X ∧ sZ σ + 2 ≤ sZ σ' ∧ sS σ' ≤ sS σ + 93 ∧ sC σ' ≤ sC σ + 8
theorem fd_init_eq {X q : Nat} {ms : Option Nat} {w : List UInt8} (hX : sc σ X = 9) (hz : X < sZ σ) (hq : sc σ q = 4) (hw : sW σ q = w) (hqz : q < sZ σ) (hl : w.length ≤ 24) : Rn id σ (fun bb => fd_init bb X ms (some q) σ) (FdI X ms q w σ) := by
  have n0 : X ≠ sZ σ := by omega
  have n1 : X ≠ sZ σ + 1 := by omega
  have m0 : q ≠ sZ σ := by omega
  have m1 : q ≠ sZ σ + 1 := by omega
  unfold fd_init
  refine Rn_nW ?_
  refine Rn_pR (by simp [sc_nW_, n0, hX]) ?_
  refine Rn_pI (by simp [sc_pR, sc_nW_, n0, hX]) ?_
  refine Rn_pI (by simp [sc_pI, sc_pR, sc_nW_, n0, hX]) ?_
  refine Rn_nL ?_
  refine Rn_pR (by simp [sc_nL_, sc_pI, sc_pR, sc_nW_, sZ_pI, sZ_pR, sZ_nW_, n0, n1, hX]) ?_
  refine Rn_pR (by simp [sc_nL_, sc_pI, sc_pR, sc_nW_, sZ_pI, sZ_pR, sZ_nW_, n0, n1, hX]) ?_
  refine Rn_pR (by simp [sc_nL_, sc_pI, sc_pR, sc_nW_, sZ_pI, sZ_pR, sZ_nW_, n0, n1, hX]) ?_
  obtain ⟨A, hA⟩ : ∃ A, A = pR (pR (pR (nL (pI (pI (pR (nW σ) 130 X (some (sZ σ))) 132 X (-1)) 133 X (-1))) 139 X (some (sZ (pI (pI (pR (nW σ) 130 X (some (sZ σ))) 132 X (-1)) 133 X (-1))))) 128 X ms) 129 X (some q) := ⟨_, rfl⟩
  have zA : sZ A = sZ σ + 2 := by rw [hA]; rfl
  have sSA : sS A = sS σ + 5 := by rw [hA]; simp [sS_pR, sS_pI, sS_nL_, sS_nW_]
  have sCA : sC A = sC σ + 2 := by rw [hA]; simp [sC_pR, sC_pI, sC_nL_, sC_nW_]
  have hXA : sc A X = 9 := by rw [hA]; simp [sc_nL_, sc_pI, sc_pR, sc_nW_, sZ_pI, sZ_pR, sZ_nW_, n0, n1, hX]
  have hqA : sc A q = 4 := by rw [hA]; simp [sc_nL_, sc_pI, sc_pR, sc_nW_, sZ_pI, sZ_pR, sZ_nW_, m0, m1, hq]
  have hwA : sW A q = w := by rw [hA]; simp [sW_nL_, sW_pI, sW_pR, sW_nW_, m0, hw]
  have rA : ∀ k, sR A k X = if k = 129 then some q else if k = 128 then ms else if k = 139 then some (sZ σ + 1) else if k = 130 then some (sZ σ) else sR σ k X := fun k => by
    rw [hA]; simp [sR_pR, sR_pI, sR_nL_, sR_nW_, sZ_pI, sZ_pR, sZ_nW_]
  have iA : ∀ k, sI A k X = if k = 133 then -1 else if k = 132 then -1 else sI σ k X := fun k => by
    rw [hA]; simp [sI_pR, sI_pI, sI_nL_, sI_nW_]
  have FA : FR (fun x => x = X) σ A := by
    rw [hA]
    exact FR.t1 (FR.nW _ _) (FR.t1 (FR.at1 (at_pR _ _ _ _) rfl) (FR.t1 (FR.at1 (at_pI _ _ _ _) rfl) (FR.t1 (FR.at1 (at_pI _ _ _ _) rfl) (FR.t1 (FR.nL _ _) (FR.t1 (FR.at1 (at_pR _ _ _ _) rfl) (FR.t1 (FR.at1 (at_pR _ _ _ _) rfl) (FR.at1 (at_pR _ _ _ _) rfl)))))))
  have j4 : sc A (sZ σ) = 4 := by rw [hA]; simp [sc_nL_, sc_pI, sc_pR, sc_nW_, sZ_pI, sZ_pR, sZ_nW_]
  have jW : sW A (sZ σ) = [] := by rw [hA]; simp [sW_nL_, sW_pI, sW_pR, sW_nW_]
  have jN : sN A (sZ σ) = 0 := by rw [hA]; simp [sN_nL_, sN_pI, sN_pR, sN_nW_, sZ_pI, sZ_pR, sZ_nW_]
  have l1 : sc A (sZ σ + 1) = 16 := by rw [hA]; simp [sc_nL_, sc_pI, sc_pR, sc_nW_, sZ_pI, sZ_pR, sZ_nW_]
  have l2 : sA A (sZ σ + 1) = [] := by rw [hA]; simp [sA_nL_, sA_pI, sA_pR, sA_nW_, sZ_pI, sZ_pR, sZ_nW_]
  have l3 : sN A (sZ σ + 1) = 0 := by rw [hA]; simp [sN_nL_, sN_pI, sN_pR, sN_nW_, sZ_pI, sZ_pR, sZ_nW_]
  rw [← hA]
  have RWA : RW A (sZ σ) := ⟨j4, by rw [jW]; exact Nat.zero_le _, Or.inl jN⟩
  have LL := fd_L51 (X := X) (q := q) (j := sZ σ) (w := w) (by omega) FU 0 false A hqA hwA (by omega) m0 n0 (by omega) (by rw [rA]; rfl) hXA RWA (by rw [jW]; simp; omega) (by omega) (FU_gt (by omega))
  refine Rn.mono LL (fun σ' _ g => ?_)
  have g : RA A (sZ σ) (jsL false (w.drop 0)) σ' := g
  obtain ⟨g1, g2, g3, g4, r1, r2, r3, r4, r5, -⟩ := g
  rw [jW, List.nil_append, List.drop_zero] at g1
  have gl := jsL_len w false
  have e0 : rp 0 = 0 := rfl
  have ec : rp (sN σ' (sZ σ)) = 2 * sN σ' (sZ σ) - 8 := rfl
  rw [jN] at r1 r2 r4
  rw [g1] at r4
  have sX := (g2.2 X (by omega)).2 n0
  have sl := (g2.2 (sZ σ + 1) (by omega)).2 (by omega)
  have rX : ∀ k, sR σ' k X = sR A k X := sX.2.2.2.2.2.2.2.2.2
  have iX : ∀ k, sI σ' k X = sI A k X := sX.2.2.2.2.2.2.2.1
  have zz := g2.1.1
  refine ⟨FR.tr FA g2 (fun x hx e => by omega), by rw [g3]; exact hXA, by rw [rX, rA]; rfl, by rw [rX, rA]; rfl, by rw [rX, rA]; rfl, ⟨by rw [g3]; exact j4, g1⟩, by rw [rX, rA]; rfl, ⟨by rw [g3]; exact l1, by rw [sl.2.1]; exact l2, by rw [sl.2.2.1]; exact l3⟩, by rw [iX, iA]; rfl, by rw [iX, iA]; rfl, fun k h1 h2 => by rw [iX, iA, if_neg h2, if_neg h1], by rw [rX, rA]; rfl, by rw [rX, rA]; rfl, by omega, by omega, by omega⟩
end Fi
