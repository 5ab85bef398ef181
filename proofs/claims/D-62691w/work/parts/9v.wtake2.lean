set_option maxRecDepth 100000
/-! THE WIRE, READ: values with a length, as the system takes them -/
theorem cut_b {I : Nat → Nat} {p r j : Nat} (hI : ∀ k, I k < 256) (hj : j < (cut I p r).length) : ((cut I p r).getD j 0).toNat = I (p + j) := by
  rw [cut_len] at hj
  unfold cut
  rw [List.getD_eq_getElem?_getD, List.getElem?_map, List.getElem?_range hj]
  show (UInt8.ofNat (I (p + j))).toNat = _
  exact tn_of (hI _)
theorem txt_cut {I : Nat → Nat} (hI : ∀ k, I k < 256) {p e : Nat} (hp : p ≤ e) : txt (gN I) e p = tw (cut I p e) := by
  have h1 := txt_dfa (g := gN I) (e := e) (gN_rg hI) (e - p) (e - p) p (Nat.le_refl _) (by omega)
  have h2 := tw_dfa (cut I p e)
  have h3 := uR_uL (cut I p e) (gN I) p 0 (fun j hj => by rw [cut_b hI hj])
  rw [cut_len] at h3
  rw [h3] at h1
  cases h : tw (cut I p e) with
  | true => exact h1.mpr (h2.mp h)
  | false =>
    cases h' : txt (gN I) e p with
    | false => rfl
    | true => have := h2.mpr (h1.mp h'); rw [h] at this; cases this
/-- a reader's contract: a message's value is read on -/
def WM (z : Nat) (S : SC) (fa ma ea : Nat → Nat) (od : Nat → List Nat) (a b : Nat) (I : Nat → Nat) (n d : Nat) (rec : Nat × Nat → Option Nat → Option Nat → Int → Int → ST → Option (Option Unit × ST)) (dp : Int) (sp : Nat → Nat → Nat → TV d → Option (TV d)) : Prop := ∀ (m p e va : Nat) (T : TV d) (F : Nat → Prop) (σ : ST), m < S.1 → p ≤ e → e ≤ n → HSc z σ S fa ma ea od → WRd σ a b I n p → HV S fa ma d σ va m T F → (∀ x, F x → z ≤ x ∧ x < sZ σ ∧ x ≠ a ∧ x ≠ b) → TP d T p → Rn (fun r : Option Unit × ST => r.2) σ (fun bb => rec bb (some a) (some va) (e : Int) dp σ) (fun r => FR (fun x => x = a ∨ F x) σ r.2 ∧ (match sp m p e T with | some T' => r.1 = some () ∧ ∃ F', WRd r.2 a b I n e ∧ HV S fa ma d r.2 va m T' F' ∧ (∀ y, F' y → F y ∨ (sZ σ ≤ y ∧ y < sZ r.2)) ∧ (∀ y, F y → F' y) ∧ sS r.2 ≤ sS σ + 8 * (e - p) ∧ sC r.2 ≤ sC σ + 5 * (e - p) | none => r.1 = none ∧ sS r.2 ≤ sS σ + (8 * (n - p) + 40) ∧ sC r.2 ≤ sC σ + (5 * (n - p) + 40)))
abbrev st2 (y : (Option Unit × ST) ⊕ ST) : ST := match y with
  | Sum.inl u => u.2
  | Sum.inr u => u
section Tk
variable {z : Nat} {S : SC} {fa ma ea : Nat → Nat} {od : Nat → List Nat} {a b n p e f m v d : Nat} {I : Nat → Nat} {σ : ST}
theorem HSc.ge (h : HSc z σ S fa ma ea od) (hS : SW S) {σ1 : ST} {W : Nat → Prop} (F : FR W σ σ1) (hW : ∀ x, W x → z ≤ x) : HSc z σ1 S fa ma ea od := h.kept hS ⟨F.1, fun x hx => ⟨(F.2 x hx).1, fun w => (F.2 x hx).2 (fun u => w (hW x u))⟩⟩
/-- a new slot -/
def nSl (σ : ST) (x : Nat) : ST := pR (nO σ 13 5) 192 (sZ σ) (some x)
theorem nSl_fr (σ : ST) (x : Nat) : FR (fun _ => False) σ (nSl σ x) := (FR.nO (fun _ => False) σ 13 5).tr (FR.at1 (W := fun y => y = sZ σ) (at_pR _ 192 (sZ σ) (some x)) rfl) (fun y hy q => by omega)
theorem nSl_at (σ : ST) (x : Nat) : sc (nSl σ x) (sZ σ) = 13 ∧ sR (nSl σ x) 192 (sZ σ) = some x ∧ (∀ k, k ≠ 192 → sR (nSl σ x) k (sZ σ) = none) ∧ sJ (nSl σ x) 193 (sZ σ) = 0 ∧ sZ (nSl σ x) = sZ σ + 1 ∧ sS (nSl σ x) = sS σ + 5 ∧ sC (nSl σ x) = sC σ + 1 := by
  refine ⟨?_, ?_, fun k hk => ?_, ?_, rfl, rfl, rfl⟩
  · show (if sZ σ = sZ σ then 13 else _) = 13; rw [if_pos rfl]
  · unfold nSl; rw [sR_pR, if_pos ⟨rfl, rfl⟩]
  · unfold nSl; rw [sR_pR, if_neg (fun q => hk q.1), sR_nO_, if_pos rfl]
  · show sJ (nO σ 13 5) 193 (sZ σ) = 0; rw [sJ_nO_, if_pos rfl]
theorem sl_init_n (bb : Nat × Nat) (σ : ST) (x : Nat) : sl_init bb (sZ σ) (some x) (nO σ 13 5) = some (nSl σ x) := by
  unfold sl_init nSl
  rw [gd_pos (by rw [sc_nO_, if_pos rfl]), nm_eq]
/-- a text or bytes: the slot's row -/
theorem wt_str (hS : SW S) (hI : ∀ k, I k < 256) (hH : HSc z σ S fa ma ea od) (hW : WRd σ a b I n p) (hza : z ≤ a) (hf : f < nF_ S) (hk : qk S f = 9 ∨ qk S f = 10) {l : Nat × Nat} (hl : p < l.1 ∧ l.1 ≤ l.2 ∧ l.2 ≤ n) : Rn st2 (nSl (pI σ 177 a (l.1 : Int)) (fa f)) (fun bb => (gd (rm bb (nSl (pI σ 177 a (l.1 : Int)) (fa f)) 2) (nm (nW (nSl (pI σ 177 a (l.1 : Int)) (fa f))) fun σ30 => gd (sc σ30 (sZ σ) = 13) (nm (pR σ30 194 (sZ σ) (some (sZ (nSl (pI σ 177 a (l.1 : Int)) (fa f))))) fun σ32 => gd (sc σ32 (sZ σ) = 13) (gd (sc σ32 a = 12) (Option.bind (sR σ32 194 (sZ σ)) fun p35 => gd (sc σ32 p35 = 4) (Option.bind (sR σ32 176 a) fun p38 => Option.bind (r_addA bb p35 p38 (sI σ32 177 a) (l.2 : Int) σ32) fun y40 => gd (sc y40 (fa f) = 9) (Option.bind (gd (rg (sI y40 132 (fa f))) (gd (¬ ((sI y40 132 (fa f)) = 10) → sc y40 (sZ σ) = 13) (gd (¬ ((sI y40 132 (fa f)) = 10) → ¬ (sR y40 194 (sZ σ)) = none) (gd (¬ ((sI y40 132 (fa f)) = 10) → sc y40 (ad (sR y40 194 (sZ σ))) = 4) (gd (¬ ((sI y40 132 (fa f)) = 10) → ok (row_isText (ad (sR y40 194 (sZ σ))) y40)) (gd (¬ ((sI y40 132 (fa f)) = 10) → rg (vv (row_isText (ad (sR y40 194 (sZ σ))) y40))) (if ((sI y40 132 (fa f)) = 10) ∨ (¬ ((vv (row_isText (ad (sR y40 194 (sZ σ))) y40)) = 0)) then (some 1) else (some 0)))))))) fun (v52 : Int) => Option.bind (s_must bb v52 y40) (tB (fun z => Sum.inl ((none, z))) fun y57 σ58 => gd (sc σ58 a = 12) (nm (pI σ58 177 a (l.2 : Int)) fun σ60 => some (Sum.inr σ60))))))))) : Option ((Option Unit × ST) ⊕ ST))) (fun y => FR (fun x => x = a) σ (st2 y) ∧ sS (st2 y) ≤ sS σ + (13 + max 8 (4 * (l.2 - l.1))) ∧ sC (st2 y) ≤ sC σ + (4 + (l.2 - l.1) / 4) ∧ (if qk S f = 9 ∧ ¬ txt (gN I) l.2 l.1 = true then y = Sum.inl (none, st2 y) else y = Sum.inr (st2 y) ∧ sS (st2 y) ≤ sS σ + (7 + max 8 (4 * (l.2 - l.1))) ∧ WRd (st2 y) a b I n l.2 ∧ sR (st2 y) 196 (sZ σ) = none ∧ HSl S fa (HV S fa ma d (st2 y)) (st2 y) (sZ σ) (f, 0, cut I l.1 l.2, emp d) (fun x => x = sZ σ + 1) ∧ sZ σ + 1 < sZ (st2 y))) := by
  have hz := hH.1
  have ha := hW.2.2.2.2.2.2.2.2.1
  have hb := hW.2.2.2.2.2.2.2.2.2
  have hn := hW.2.2.2.2.2.1
  obtain ⟨X0, hX0⟩ : ∃ X0, X0 = pI σ 177 a (l.1 : Int) := ⟨_, rfl⟩
  have hW0 : WRd X0 a b I n l.1 := by rw [hX0]; exact hW.to (by omega)
  have F0 : FR (fun x => x = a) σ X0 := by rw [hX0]; exact FR.at1 (at_pI σ 177 a (l.1 : Int)) rfl
  have zX : sZ X0 = sZ σ := by rw [hX0]; rfl
  have sX : sS X0 = sS σ := by rw [hX0]; rfl
  have cX : sC X0 = sC σ := by rw [hX0]; rfl
  rw [← hX0, ← zX]
  obtain ⟨Y, hY⟩ : ∃ Y, Y = nSl X0 (fa f) := ⟨_, rfl⟩
  obtain ⟨y1, y2, y3, y4, y5, y6, y7⟩ := nSl_at X0 (fa f)
  have FY := nSl_fr X0 (fa f)
  rw [← hY] at y1 y2 y3 y4 y5 y6 y7 FY ⊢
  obtain ⟨X2, hX2⟩ : ∃ X2, X2 = pR (nW Y) 194 (sZ X0) (some (sZ Y)) := ⟨_, rfl⟩
  have F2 : FR (fun _ => False) X0 X2 := by
    rw [hX2]
    exact (FY.tr (FR.nW (fun _ => False) Y) (fun x _ q => q)).tr (FR.at1 (W := fun y => y = sZ X0) (at_pR (nW Y) 194 (sZ X0) (some (sZ Y))) rfl) (fun x hx q => by omega)
  have z2 : sZ X2 = sZ X0 + 2 := by rw [hX2]; show sZ Y + 1 = _; omega
  have hW2 : WRd X2 a b I n l.1 := hW0.fr F2 (fun q => q) (fun q => q)
  have k13 : sc X2 (sZ X0) = 13 := by rw [hX2]; show sc (nW Y) (sZ X0) = 13; rw [sc_nW_, if_neg (by omega)]; exact y1
  have k194 : sR X2 194 (sZ X0) = some (sZ Y) := by rw [hX2, sR_pR, if_pos ⟨rfl, rfl⟩]
  have kR : ∀ k, k ≠ 194 → sR X2 k (sZ X0) = sR Y k (sZ X0) := fun k hk => by rw [hX2, sR_pR, if_neg (fun q => hk q.1), sR_nW_]
  have kJ : sJ X2 193 (sZ X0) = 0 := by rw [hX2]; exact y4
  have hRW : RW X2 (sZ Y) := by
    rw [hX2]
    refine ⟨?_, ?_, Or.inl ?_⟩
    · show sc (nW Y) (sZ Y) = 4; rw [sc_nW_, if_pos rfl]
    · show (sW (nW Y) (sZ Y)).length ≤ _; rw [sW_nW_, if_pos rfl]; exact Nat.zero_le _
    · show sN (nW Y) (sZ Y) = 0; rw [sN_nW_, if_pos rfl]
  have w0 : sW X2 (sZ Y) = [] := by rw [hX2]; show sW (nW Y) (sZ Y) = []; rw [sW_nW_, if_pos rfl]
  have n0 : sN X2 (sZ Y) = 0 := by rw [hX2]; show sN (nW Y) (sZ Y) = 0; rw [sN_nW_, if_pos rfl]
  have s2 : sS X2 = sS X0 + 7 := by rw [hX2]; show sS Y + 2 = _; omega
  have c2 : sC X2 = sC X0 + 2 := by rw [hX2]; show sC Y + 1 = _; omega
  have h177 : sI X2 177 a = (l.1 : Int) := hW2.2.2.2.2.2.2.1
  refine Rn_rm (σ1 := nW Y) (Nat.le_refl _) (Nat.le_refl _) (Nat.le_succ _) ?_
  refine Rn_eq (fun bb => by rw [nm_eq, gd_pos (show sc (nW Y) (sZ X0) = 13 by rw [sc_nW_, if_neg (by omega)]; exact y1), nm_eq, ← hX2, gd_pos k13, gd_pos hW2.1, k194, bind_some', gd_pos hRW.1, hW2.2.1, bind_some', h177]) ?_
  refine Rn_le (σ1 := X2) (by rw [hX2]; exact ⟨Nat.le_refl _, Nat.le_refl _, Nat.le_refl _⟩) ?_
  have hcl : (cut I l.1 l.2).length = l.2 - l.1 := cut_len I l.1 l.2
  refine Rn_bind (su := id) (J := RA X2 (sZ Y) (cut I l.1 l.2)) ?_ (fun Z _ g => ?_)
  · unfold r_addA
    refine Rn_eq (fun bb => by rw [gd_pos ⟨hW2.2.2.1, by omega, by omega, by rw [hW2.2.2.2.1]; omega, by omega, by omega⟩, show ((l.2 : Int) - (l.1 : Int)).toNat = l.2 - l.1 by omega, Int.toNat_natCast, sl_cut hW2 hl.2.1 hl.2.2]) ?_
    exact rn_addL (cut I l.1 l.2) hRW (by rw [w0, hcl]; simp only [List.length_nil]; omega)
  · change RA X2 (sZ Y) (cut I l.1 l.2) Z at g
    show Rn st2 Z _ _
    obtain ⟨g1, g2, g3, g4, r1, r2, r3, r4, r5⟩ := g
    rw [w0, List.nil_append] at g1
    rw [n0] at r1 r2
    rw [n0, g1, hcl] at r4
    have e0 : rp 0 = 0 := rfl
    have ec : rp (sN Z (sZ Y)) = 2 * sN Z (sZ Y) - 8 := rfl
    have F3 : FR (fun x => x = a) σ Z := (F0.tr F2 (fun x _ q => q.elim)).tr g2 (fun x hx q => by omega)
    have F3' : FR (fun _ => False) X0 Z := F2.tr g2 (fun x hx q => by omega)
    have hHZ : HSc z Z S fa ma ea od := hH.ge hS F3 (fun x q => by rw [q]; exact hza)
    have hWZ : WRd Z a b I n l.1 := hW0.fr F3' (fun q => q) (fun q => q)
    have b2 := (hHZ.2.1 f hf).2.1
    have k132 : sI Z 132 (fa f) = (sk S f : Int) := (hHZ.2.1 f hf).2.2.2.2.2.2.1
    have hsk : sk S f = qk S f := by unfold sk ks; rw [if_neg (by omega), if_neg (by omega)]
    have sl0 := (g2.2 (sZ X0) (by omega)).2 (by omega)
    have zZ := g2.1.1
    have q13 : sc Z (sZ X0) = 13 := by rw [g3]; exact k13
    have q194 : sR Z 194 (sZ X0) = some (sZ Y) := by rw [sl0.2.2.2.2.2.2.2.2.2]; exact k194
    have qR : ∀ k, k ≠ 194 → k ≠ 192 → sR Z k (sZ X0) = none := fun k h1 h2 => by rw [sl0.2.2.2.2.2.2.2.2.2, kR k h1]; exact y3 k h2
    have q192 : sR Z 192 (sZ X0) = some (fa f) := by rw [sl0.2.2.2.2.2.2.2.2.2, kR 192 (by decide)]; exact y2
    have qJ : sJ Z 193 (sZ X0) = 0 := by rw [sl0.2.2.2.2.2.2.2.2.1]; exact kJ
    have tx : row_isText (sZ Y) Z = some (if txt (gN I) l.2 l.1 = true then 1 else 0) := by
      rw [row_isText_eq g4.1 (by rw [g1, hcl]; omega), g1, txt_cut hI hl.2.1]
      rfl
    have zYX : sZ Y = sZ X0 + 1 := y5
    have cost : sS Z ≤ sS σ + (7 + max 8 (4 * (l.2 - l.1))) := by omega
    have costC : sC Z ≤ sC σ + (3 + (l.2 - l.1) / 4) := by omega
    refine Rn_eq (fun bb => by rw [gd_pos b2, k132, gd_pos (by omega), q194, show ad (some (sZ Y)) = sZ Y from rfl, tx, vv_s, gd_pos (by exact fun _ => q13), gd_pos (by exact fun _ => by simp), gd_pos (by exact fun _ => g4.1), gd_pos (by exact fun _ => rfl), gd_pos (by exact fun _ => by split <;> omega)]) ?_
    by_cases ct : qk S f = 9 ∧ ¬ txt (gN I) l.2 l.1 = true
    · refine Rn_eq (fun bb => by rw [if_neg (show ¬ (((sk S f : Nat) : Int) = 10 ∨ ¬ ((if txt (gN I) l.2 l.1 = true then (1 : Int) else 0) = 0)) by rw [if_neg ct.2]; omega), bind_some']) ?_
      refine Rn_must (Or.inl rfl) (fun _ => ⟨rfl, F3.tr (FR.nX (fun _ => False) Z) (fun x _ q => q.elim), ?_, ?_, ?_⟩) (fun w => by omega)
      · show sS Z + 6 ≤ _; omega
      · show sC Z + 1 ≤ _; omega
      · rw [if_pos ct]
    · refine Rn_eq (fun bb => by rw [if_pos (show (((sk S f : Nat) : Int) = 10 ∨ ¬ ((if txt (gN I) l.2 l.1 = true then (1 : Int) else 0) = 0)) by
        by_cases k9 : qk S f = 9
        · right
          have : txt (gN I) l.2 l.1 = true := by
            by_cases q : txt (gN I) l.2 l.1 = true
            · exact q
            · exact absurd ⟨k9, q⟩ ct
          rw [if_pos this]; omega
        · left; omega), bind_some']) ?_
      refine Rn_must (Or.inr rfl) (fun w => by omega) (fun _ => ?_)
      refine Rn_eq (fun bb => by rw [gd_pos hWZ.1, nm_eq]) ?_
      have FP : FR (fun x => x = a) Z (pI Z 177 a (l.2 : Int)) := FR.at1 (at_pI Z 177 a (l.2 : Int)) rfl
      refine Rn_some (σ := Z) ⟨Nat.le_refl _, Nat.le_refl _, Nat.le_refl _⟩ ⟨F3.tr FP (fun x _ q => q), ?_, ?_, ?_⟩
      · show sS Z ≤ _; omega
      · show sC Z ≤ _; omega
      · rw [if_neg ct]
        refine ⟨rfl, by show sS Z ≤ _; omega, hWZ.to hl.2.2, qR 196 (by decide) (by decide), ⟨q13, hf, q192, ?_⟩, by show sZ X0 + 1 < sZ Z; omega⟩
        rw [if_neg (show ¬ isM S f by omega)]
        refine ⟨qR 195 (by decide) (by decide), qJ, ?_⟩
        rw [if_pos hk]
        exact ⟨rfl, sZ Y, q194, zYX, by show sZ Y < sZ Z; omega, g4.1, g1⟩
end Tk
