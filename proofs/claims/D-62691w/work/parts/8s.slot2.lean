set_option maxRecDepth 100000
/-! JSON: a value that is no message, as the system reads it -/
section Sl2
variable {z : Nat} {σ : ST} {S : SC} {fa ma ea : Nat → Nat} {od : Nat → List Nat} {a b ra wa : Nat} {I : Nat → Nat} {n p : Nat}
theorem strT_bl (I : Nat → Nat) (n p : Nat) : strT I n (bl I n p) = strX I n (bl I n p) := by
  unfold strT strX
  rw [bl_bl]
theorem YO.thr {o : Option (Nat × List UInt8)} {X σ' : ST} (h : YO X a b ra wa I n o (none, σ')) : o = none ∧ JF X σ' a ra 1 := by
  cases o with
  | none => obtain ⟨σ1, e, g⟩ := h; cases e; exact ⟨rfl, g⟩
  | some e => obtain ⟨σ1, q, -⟩ := h; cases q
theorem YO.suc {o : Option (Nat × List UInt8)} {y : Option Nat} {X σ' : ST} (h : YO X a b ra wa I n o (some y, σ')) : ∃ e, o = some e ∧ y = some ra ∧ JRd σ' a b ra wa I n e.1 ∧ sW σ' ra = e.2 ∧ JF X σ' a ra 0 ∧ sN σ' ra ≤ max (sN X ra) (max 8 (2 * e.2.length)) := by
  cases o with
  | none => obtain ⟨σ1, e, g⟩ := h; cases e
  | some e => obtain ⟨σ1, q, q2, q3, q4, q5⟩ := h; cases q; exact ⟨e, rfl, rfl, q2, q3, q4, q5⟩
set_option maxHeartbeats 4000000 in
theorem JRd.slot (hS : SW S) (hH : HSc z σ S fa ma ea od) (h : JRd σ a b ra wa I n p) (hp : p ≤ n) (hza : z ≤ a ∧ z ≤ ra ∧ z ≤ wa) {f : Nat} (hf : f < nF_ S) (hnm : ¬ isM S f) : Rn (·.2) σ (fun bb => jr_slot bb a (some (fa f)) σ) (SLO z σ a b ra wa I n (bl I n p) S fa f (sclS S I n f (bl I n p))) := by
  have hn := h.2.2.2.2.2.1
  have hbl1 := bl_ge' I n p
  have hbl2 := bl_le' I n p
  have hJ1 := h.atbl
  have hne := h.ne
  obtain ⟨l1, l2, l3, l4⟩ := h.lt
  have sk4 := (hS.2.2.2.2.1 f hf).2.2.2.1
  have hM := hS.2.2.1
  have hE := hS.2.2.2.1
  have hk : qk S f ≤ 10 ∨ 32 ≤ qk S f := by omega
  have hskv := sk_eq hk
  obtain ⟨q, hq⟩ : ∃ q, q = bl I n p := ⟨_, rfl⟩
  have hbq : bl I n q = q := by rw [hq, bl_bl]
  rw [← hq]
  obtain ⟨sl, hsl⟩ : ∃ s, s = sZ σ := ⟨_, rfl⟩
  obtain ⟨X, hX⟩ : ∃ X, X = pR (nO (pI σ 210 a ((q : Nat) : Int)) 13 5) 192 sl (some (fa f)) := ⟨_, rfl⟩
  have hzz := hH.1
  have hfz : fa f < z := (hH.2.1 f hf).1
  have hJX : JRd X a b ra wa I n q := by rw [hX, hq]; exact (hJ1.new 13 5).pRk (by decide)
  have xsl : sl < sZ X := by rw [hX, hsl]; show sZ σ < sZ σ + 1; omega
  have x13 : sc X sl = 13 := by rw [hX]; show sc (nO (pI σ 210 a ((q : Nat) : Int)) 13 5) sl = 13; rw [sc_nO_, if_pos (by rw [hsl]; rfl)]
  have x192 : sR X 192 sl = some (fa f) := by rw [hX, sR_pR, if_pos ⟨rfl, rfl⟩]
  have x193 : sJ X 193 sl = 0 := by rw [hX, sJ_pR, sJ_nO_, if_pos (by rw [hsl]; rfl)]
  have xR : ∀ k, k ≠ 192 → sR X k sl = none := fun k hk => by rw [hX, sR_pR, if_neg (fun e => hk e.1), sR_nO_, if_pos (by rw [hsl]; rfl)]
  have XG : JG σ X a ra wa 5 1 := by
    have g1 : JG σ (pI σ 210 a ((q : Nat) : Int)) a ra wa 0 0 := (JF.at σ a ra _).toG (Nat.le_max_left _ _)
    have g2 := g1.fresh (FR.nO (fun _ => False) (pI σ 210 a ((q : Nat) : Int)) 13 5) (fun x q => q.elim) l3 (c' := 5) (k' := 1) (Nat.le_refl _) (Nat.le_refl _)
    have g3 := g2.fresh (W := fun x => x = sl) (FR.at1 (at_pR (nO (pI σ 210 a ((q : Nat) : Int)) 13 5) 192 sl (some (fa f))) rfl) (fun x q => by rw [q, hsl]; exact Nat.le_refl _) l3 (c' := 0) (k' := 0) (Nat.le_refl _) (Nat.le_refl _)
    rw [hX]; exact g3
  have hsla : sl ≠ a ∧ sl ≠ ra ∧ sl ≠ wa := by rw [hsl]; omega
  have keep : ∀ (Y : ST) (W : Nat → Prop), FR W X Y → ¬ W sl → sc Y sl = 13 ∧ sR Y 192 sl = some (fa f) ∧ sJ Y 193 sl = 0 ∧ (∀ k, k ≠ 192 → sR Y k sl = none) ∧ sl < sZ Y := fun Y W F hW => by
    have s := (F.2 sl xsl).2 hW
    exact ⟨by rw [(F.2 sl xsl).1]; exact x13, by rw [s.2.2.2.2.2.2.2.2.2]; exact x192, by rw [s.2.2.2.2.2.2.2.2.1]; exact x193, fun k hk => by rw [s.2.2.2.2.2.2.2.2.2]; exact xR k hk, Nat.lt_of_lt_of_le xsl F.1.1⟩
  have nW3 : ¬ (sl = a ∨ sl = ra ∨ sl = wa) := by omega
  have hHk : ∀ (Y : ST) (c k : Nat), JG σ Y a ra wa c k → HSc z Y S fa ma ea od := fun Y c k g => hH.kept hS ⟨g.1.1, fun x hx => ⟨(g.1.2 x hx).1, fun w => (g.1.2 x hx).2 (fun u => w (by rcases u with u | u | u <;> rw [u] <;> omega))⟩⟩
  have hHX := hHk X 5 1 XG
  obtain ⟨f1, f2, f3, f4, f5, f6, f7, -⟩ := hHX.2.1 f hf
  have hfw : fa f ≠ wa := by omega
  unfold jr_slot
  refine Rn_gd h.1 ?_
  refine Rn_eq (fun bb => by rw [h.blanks bb, bind_some', ← hq]) ?_
  refine Rn_rm (σ1 := X) (by rw [hX]; exact Nat.le_refl _) (by rw [hX]; exact Nat.le_refl _) (by rw [hX]; exact Nat.le_succ _) ?_
  have esz : sZ (pI σ 210 a ((q : Nat) : Int)) = sl := by rw [hsl]; rfl
  have esl : ∀ bb, sl_init bb sl (some (fa f)) (nO (pI σ 210 a ((q : Nat) : Int)) 13 5) = some X := fun bb => by
    unfold sl_init
    rw [gd_pos (by rw [sc_nO_, if_pos esz.symm]), nm_eq, hX]
  refine Rn_eq (fun bb => by rw [nm_eq, esz, esl bb, bind_some', bind_some']) ?_
  refine Rn_gd f2 (Rn_gd (by rw [f7, hskv]; split <;> omega) ?_)
  have fresh : ∀ (Y : ST) (c k : Nat) (v : Int64), JG σ Y a ra wa c k → JG σ (pJ Y 193 sl v) a ra wa c k := fun Y c k v g => by
    have := g.fresh (W := fun x => x = sl) (FR.at1 (at_pJ Y 193 sl v) rfl) (fun x q => by rw [q, hsl]; exact Nat.le_refl _) l3 (c' := 0) (k' := 0) (Nat.le_refl _) (Nat.le_refl _)
    exact this
  have freshR : ∀ (Y : ST) (c k : Nat) (v : Option Nat), JG σ Y a ra wa c k → JG σ (pR Y 194 sl v) a ra wa c k := fun Y c k v g => by
    have := g.fresh (W := fun x => x = sl) (FR.at1 (at_pR Y 194 sl v) rfl) (fun x q => by rw [q, hsl]; exact Nat.le_refl _) l3 (c' := 0) (k' := 0) (Nat.le_refl _) (Nat.le_refl _)
    exact this
  have numSl : ∀ (Y : ST) (W : Nat → Prop) (x : Int64), FR W X Y → ¬ W sl → ¬ (qk S f = 9 ∨ qk S f = 10) → Sl (pJ Y 193 sl x) (sZ σ) (sZ σ) S fa f x [] := fun Y W x F hW hk => by
    obtain ⟨k1, k2, k3, k4, k5⟩ := keep Y W F hW
    rw [← hsl]
    refine ⟨k5, k1, k2, by rw [sJ_pJ, if_pos ⟨rfl, rfl⟩], k4 195 (by decide), k4 196 (by decide), ?_⟩
    rw [if_neg hk]
    exact k4 194 (by decide)
  have s6 : slen 6 = 4 ∧ slen 7 = 5 := by decide +kernel
  have gat : ∀ (Y : ST) (v : Int), JG Y (pI Y 210 a v) a ra wa 0 0 := fun Y v => (JF.at Y a ra v).toG (Nat.le_max_left _ _)
  by_cases c8 : qk S f = 8
  · refine Rn_pos (by rw [f7, hskv, if_neg (by omega)]; omega) ?_
    refine Rn_gd hJX.1 ?_
    unfold sclS
    rw [if_pos c8]
    have ecst : ∀ o, cst S f o = 5 := fun o => by unfold cst; rw [if_neg (by omega)]
    by_cases li : lit I n q 6
    · have lin := lit_in (by omega) li
      rw [if_pos li]
      refine Rn_eq (fun bb => by rw [hJX.word bb (s := 6) (by omega), hbq, if_pos li, bind_some']) ?_
      obtain ⟨X1, hX1⟩ : ∃ Y, Y = pI X 210 a ((q + slen 6 : Nat) : Int) := ⟨_, rfl⟩
      rw [← hX1]
      have F1 : FR (fun x => x = a ∨ x = ra ∨ x = wa) X X1 := by rw [hX1]; exact ((JF.at X a ra _).toG (wa := wa) (Nat.le_max_left _ _)).1
      have k1 := keep X1 _ F1 nW3
      refine Rn_eq (fun bb => by rw [gd_pos (show rg ((1 : Int), X1).1 by show rg 1; omega), if_neg (show ¬ ((1 : Int), X1).1 = 0 by show ¬ (1 : Int) = 0; omega), bind_some']) ?_
      refine Rn_le (σ1 := X1) (by rw [hX1]; exact ⟨Nat.le_refl _, Nat.le_refl _, Nat.le_refl _⟩) ?_
      refine Rn_must (Or.inr rfl) (fun e => by cases e) (fun _ => ?_)
      refine Rn_eq (fun bb => by rw [gd_pos (show rg ((1 : Int), X1).1 by show rg 1; omega), if_neg (show ¬ ((1 : Int), X1).1 = 0 by show ¬ (1 : Int) = 0; omega), bind_some']) ?_
      refine Rn_gd k1.1 ?_
      refine Rn_eq (fun bb => by rw [nm_eq]) (Rn_some ⟨Nat.le_refl _, Nat.le_refl _, Nat.le_refl _⟩ ⟨pJ X1 193 sl 1, by rw [hsl], ?_, numSl X1 _ 1 F1 nW3 (by omega), ?_⟩)
      · rw [hX1]; exact (hJX.to (q := q + slen 6) (by omega) rfl).pJ'
      · rw [ecst]
        show JG σ (pJ X1 193 sl 1) a ra wa (5 + sg (q + slen 6 - q)) _
        have G1 : JG σ X1 a ra wa 5 1 := by rw [hX1]; exact XG.tr (gat X _)
        exact (fresh X1 _ _ 1 G1).mono (by omega) (by omega)
    · rw [if_neg li]
      refine Rn_eq (fun bb => by rw [hJX.word bb (s := 6) (by omega), hbq, if_neg li, bind_some']) ?_
      obtain ⟨X1, hX1⟩ : ∃ Y, Y = pI X 210 a ((q : Nat) : Int) := ⟨_, rfl⟩
      rw [← hX1]
      have hJ2 : JRd X1 a b ra wa I n q := by rw [hX1]; exact hJX.to (q := q) (by omega) rfl
      have F1 : JG σ X1 a ra wa 5 1 := by rw [hX1]; exact XG.tr (gat X _)
      have F1' : FR (fun x => x = a ∨ x = ra ∨ x = wa) X X1 := by rw [hX1]; exact ((JF.at X a ra _).toG (wa := wa) (Nat.le_max_left _ _)).1
      refine Rn_eq (fun bb => by rw [gd_pos (show rg ((0 : Int), X1).1 by show rg 0; omega), if_pos (show ((0 : Int), X1).1 = 0 from rfl), gd_pos (show sc ((0 : Int), X1).2 a = 14 from hJ2.1), hJ2.word bb (s := 7) (by omega), hbq]) ?_
      refine Rn_le (σ1 := X1) (by rw [hX1]; exact ⟨Nat.le_refl _, Nat.le_refl _, Nat.le_refl _⟩) ?_
      by_cases l7 : lit I n q 7
      · have lin := lit_in (by omega) l7
        rw [if_pos l7, if_pos l7]
        obtain ⟨X2, hX2⟩ : ∃ Y, Y = pI X1 210 a ((q + slen 7 : Nat) : Int) := ⟨_, rfl⟩
        refine Rn_eq (fun bb => by rw [← hX2, bind_some', gd_pos (show rg ((1 : Int), X2).1 by show rg 1; omega), if_neg (show ¬ ((1 : Int), X2).1 = 0 by show ¬ (1 : Int) = 0; omega), bind_some']) ?_
        have F2 : FR (fun x => x = a ∨ x = ra ∨ x = wa) X X2 := F1'.tr (by rw [hX2]; exact ((JF.at X1 a ra _).toG (wa := wa) (Nat.le_max_left _ _)).1) (fun _ _ w => w)
        have k1 := keep X2 _ F2 nW3
        refine Rn_le (σ1 := X2) (by rw [hX2]; exact ⟨Nat.le_refl _, Nat.le_refl _, Nat.le_refl _⟩) ?_
        refine Rn_must (Or.inr rfl) (fun e => by cases e) (fun _ => ?_)
        refine Rn_eq (fun bb => by rw [gd_pos (show rg ((0 : Int), X1).1 by show rg 0; omega), if_pos (show ((0 : Int), X1).1 = 0 from rfl), bind_some']) ?_
        refine Rn_gd k1.1 ?_
        refine Rn_eq (fun bb => by rw [nm_eq]) (Rn_some ⟨Nat.le_refl _, Nat.le_refl _, Nat.le_refl _⟩ ⟨pJ X2 193 sl 0, by rw [hsl], ?_, numSl X2 _ 0 F2 nW3 (by omega), ?_⟩)
        · rw [hX2]; exact (hJ2.to (q := q + slen 7) (by omega) rfl).pJ'
        · rw [ecst]
          show JG σ (pJ X2 193 sl 0) a ra wa (5 + sg (q + slen 7 - q)) _
          have G2 : JG σ X2 a ra wa 5 1 := by rw [hX2]; exact F1.tr (gat X1 _)
          exact (fresh X2 _ _ 0 G2).mono (by omega) (by omega)
      · rw [if_neg l7, if_neg l7]
        obtain ⟨X2, hX2⟩ : ∃ Y, Y = pI X1 210 a ((q : Nat) : Int) := ⟨_, rfl⟩
        refine Rn_eq (fun bb => by rw [← hX2, bind_some', gd_pos (show rg ((0 : Int), X2).1 by show rg 0; omega), if_pos (show ((0 : Int), X2).1 = 0 from rfl), bind_some']) ?_
        refine Rn_le (σ1 := X2) (by rw [hX2]; exact ⟨Nat.le_refl _, Nat.le_refl _, Nat.le_refl _⟩) ?_
        refine Rn_must (Or.inl rfl) (fun _ => ⟨rfl, nX X2, rfl, ?_⟩) (fun e => by cases e)
        have G2 : JG σ X2 a ra wa 5 1 := by rw [hX2]; exact F1.tr (gat X1 _)
        exact (G2.tr ((JF.nX X2 a ra).toG (wa := wa) (Nat.le_max_left _ _))).mono (by omega) (by omega)
  · refine Rn_neg (by rw [f7, hskv]; split <;> omega) ?_
    have hstr := hJX.string
    have eT : strT I n q = strX I n q := by rw [hq]; exact strT_bl I n p
    rw [eT] at hstr
    have thr : ∀ (σ' : ST) (c k : Nat), JG σ σ' a ra wa c k → c ≤ 9000 → k ≤ 300 → ∃ σ1, ((none : Option (Option Nat)), σ') = (none, σ1) ∧ JG σ σ1 a ra wa 9000 300 := fun σ' c k g h1 h2 => ⟨σ', rfl, g.mono h1 h2⟩
    -- a new row behind what was read
    have bytesEnd : ∀ (Y σ2 : ST) (w : List UInt8) (e l : Nat), JRd Y a b ra wa I n e → JF X Y a ra 0 → sN Y ra ≤ max (sN X ra) (max 8 (2 * l)) → l ≤ e - q → RA (nW Y) (sZ Y) w σ2 → w.length ≤ 1000 → sc σ2 sl = 13 ∧ JRd (pR σ2 194 sl (some (sZ Y))) a b ra wa I n e ∧ ((qk S f = 9 ∨ qk S f = 10) → Sl (pR σ2 194 sl (some (sZ Y))) (sZ σ) (sZ σ) S fa f 0 w) ∧ (∀ v, JG σ (pR σ2 194 sl v) a ra wa (7 + max 8 (4 * w.length) + sg (e - q)) (3 + w.length / 4)) := fun Y σ2 w e l hJY hF hNl hle hRA hw => by
      obtain ⟨ca, cb, cc, cd, ce⟩ := hRA.cost
      have hzY : sZ X ≤ sZ Y := hF.1.1.1
      have F3 : FR (fun x => sZ Y ≤ x) Y σ2 := (FR.nW (fun x => sZ Y ≤ x) Y).tr ce (fun x _ w => by rw [w]; exact Nat.le_refl _)
      have F4 : FR (fun x => (x = a ∨ x = ra) ∨ sZ X ≤ x) X σ2 := by
        have F0 : FR (fun x => (x = a ∨ x = ra) ∨ sZ X ≤ x) X Y := ⟨hF.1.1, fun x hx => ⟨(hF.1.2 x hx).1, fun w => (hF.1.2 x hx).2 (fun u => w (Or.inl u))⟩⟩
        exact F0.tr F3 (fun x _ w => Or.inr (by have : sZ Y ≤ x := w; omega))
      obtain ⟨k1, k2, k3, k4, k5⟩ := keep σ2 _ F4 (by omega)
      obtain ⟨m1, m2, m3, m4⟩ := hJY.lt
      have hJ2 : JRd σ2 a b ra wa I n e := hJY.fr F3 (by omega) (by omega) (by omega)
      refine ⟨k1, hJ2.pRk (by decide), fun hkk => ?_, fun v => ?_⟩
      · rw [← hsl]
        refine ⟨k5, k1, by rw [sR_pR, if_neg (fun w => absurd w.1 (by decide))]; exact k2, k3, by rw [sR_pR, if_neg (fun w => absurd w.1 (by decide))]; exact k4 195 (by decide), by rw [sR_pR, if_neg (fun w => absurd w.1 (by decide))]; exact k4 196 (by decide), ?_⟩
        rw [if_pos hkk]
        exact ⟨sZ Y, by rw [sR_pR, if_pos ⟨rfl, rfl⟩], by omega, cd, hRA.rw.1, cc⟩
      · have G1 : JG σ Y a ra wa (5 + sg (e - q)) 1 := XG.tr (hF.tok hNl hle)
        have G2 := G1.fresh F3 (fun x w => by have h1 : sZ Y ≤ x := w; have := G1.1.1.1; omega) l3 (c' := 2 + max 8 (4 * w.length)) (k' := 2 + w.length / 4) (by omega) (by omega)
        exact (freshR σ2 _ _ v G2).mono (by omega) (by omega)
    by_cases c9 : qk S f = 9
    · refine Rn_pos (by rw [f7, hskv, if_neg (by omega)]; omega) ?_
      unfold sclS
      rw [if_neg c8, if_pos c9]
      refine Rn_gd hJX.1 (Rn_tB hstr (fun σ' _ hy => ⟨rfl, ?_⟩) (fun y Y _ hy => ?_))
      · obtain ⟨e0, g0⟩ := hy.thr
        rw [e0]
        exact thr σ' _ _ (XG.tr g0.toG0) (by omega) (by omega)
      · obtain ⟨e, e0, ey, hJY, hw, g0, gN⟩ := hy.suc
        subst ey
        have hb := strX_bd e0
        have hbl := strX_len e0
        rw [e0]
        refine Rn_eq (fun bb => by rw [bind_some', gd_pos hJY.rw.1]) ?_
        refine Rn_bind (rn_copy hJY.rw hw (by omega) hJY.lt.2.2.1) (fun y57 _ hy57 => ?_)
        obtain ⟨σ2, e57, g57⟩ := hy57
        subst e57
        obtain ⟨d1, d2, d3, d4⟩ := bytesEnd Y σ2 e.2 e.1 e.2.length hJY g0 gN (by omega) g57 (by omega)
        refine Rn_gd d1 ?_
        refine Rn_eq (fun bb => by rw [nm_eq]) (Rn_some ⟨Nat.le_refl _, Nat.le_refl _, Nat.le_refl _⟩ ⟨_, by rw [hsl], d2, d3 (Or.inl c9), ?_⟩)
        have ec : cst S f e.2 = 7 + max 8 (4 * e.2.length) := by unfold cst; rw [if_pos (Or.inl c9)]
        show JG σ _ a ra wa (cst S f e.2 + sg (e.1 - q)) (4 + e.2.length / 4)
        rw [ec]
        exact (d4 _).mono (by omega) (by omega)
    · refine Rn_neg (by rw [f7, hskv]; split <;> omega) ?_
      by_cases c10 : qk S f = 10
      · refine Rn_pos (by rw [f7, hskv, if_neg (by omega)]; omega) ?_
        unfold sclS
        rw [if_neg c8, if_neg c9, if_pos c10]
        refine Rn_gd hJX.1 (Rn_tB hstr (fun σ' _ hy => ⟨rfl, ?_⟩) (fun y Y _ hy => ?_))
        · obtain ⟨e0, g0⟩ := hy.thr
          rw [e0]
          exact thr σ' _ _ (XG.tr g0.toG0) (by omega) (by omega)
        · obtain ⟨e, e0, ey, hJY, hw, g0, gN⟩ := hy.suc
          subst ey
          have hb := strX_bd e0
          have hbl := strX_len e0
          rw [e0]
          refine Rn_bind (rn_unb hJY.rw hw (by omega) hJY.lt.2.2.1) (fun y66 _ hy66 => ?_)
          show Rn _ _ _ (SLO z σ a b ra wa I n q S fa f ((unb e.2).map fun o => (e.1, 0, o)))
          cases eu : unb e.2 with
          | none =>
            rw [eu] at hy66
            obtain ⟨σ2, e66, g66⟩ := hy66
            subst e66
            have d1 : sc σ2 sl = 13 ∧ JG σ (pR σ2 194 sl none) a ra wa 8100 260 := by
              rcases g66 with g | ⟨o, g, go⟩
              · subst g
                have G1 : JG σ σ2 a ra wa (5 + (6 * 0 + 4000)) 1 := XG.tr g0.toG0
                exact ⟨(keep σ2 _ (g0.toG0 (wa := wa)).1 nW3).1, (freshR σ2 _ _ none G1).mono (by omega) (by omega)⟩
              · obtain ⟨d1, -, -, d4⟩ := bytesEnd Y σ2 o e.1 e.2.length hJY g0 gN (by omega) g go
                have sgl : sg (e.1 - q) ≤ 4 * (e.1 - q) := by unfold sg; split <;> omega
                exact ⟨d1, (d4 none).mono (by omega) (by omega)⟩
            refine Rn_gd d1.1 ?_
            refine Rn_eq (fun bb => by rw [nm_eq]) ?_
            refine Rn_gd d1.1 ?_
            refine Rn_eq (fun bb => by rw [if_pos (show sR (pR σ2 194 sl none) 194 sl = none by rw [sR_pR, if_pos ⟨rfl, rfl⟩]), bind_some']) ?_
            refine Rn_le (σ1 := pR σ2 194 sl none) ⟨Nat.le_refl _, Nat.le_refl _, Nat.le_refl _⟩ ?_
            exact Rn_must (Or.inl rfl) (fun _ => ⟨rfl, thr _ _ _ (d1.2.tr ((JF.nX (pR σ2 194 sl none) a ra).toG (wa := wa) (Nat.le_max_left _ _))) (by omega) (by omega)⟩) (fun w => by cases w)
          | some o =>
            rw [eu] at hy66
            obtain ⟨σ2, e66, g66, go⟩ := hy66
            subst e66
            obtain ⟨d1, d2, d3, d4⟩ := bytesEnd Y σ2 o e.1 e.2.length hJY g0 gN (by omega) g66 go
            refine Rn_gd d1 ?_
            refine Rn_eq (fun bb => by rw [nm_eq]) ?_
            refine Rn_gd d1 ?_
            refine Rn_eq (fun bb => by rw [if_neg (show ¬ sR (pR σ2 194 sl (some (sZ Y))) 194 sl = none by rw [sR_pR, if_pos ⟨rfl, rfl⟩]; simp), bind_some']) ?_
            refine Rn_le (σ1 := pR σ2 194 sl (some (sZ Y))) ⟨Nat.le_refl _, Nat.le_refl _, Nat.le_refl _⟩ ?_
            refine Rn_must (Or.inr rfl) (fun w => by cases w) (fun _ => Rn_some (Le.refl _) ⟨_, by rw [hsl], d2, d3 (Or.inr c10), ?_⟩)
            have ec : cst S f o = 7 + max 8 (4 * o.length) := by unfold cst; rw [if_pos (Or.inr c10)]
            show JG σ _ a ra wa (cst S f o + sg (e.1 - q)) (4 + o.length / 4)
            rw [ec]
            exact (d4 _).mono (by omega) (by omega)
      · refine Rn_neg (by rw [f7, hskv]; split <;> omega) ?_
        have hx := hJX.rgI
        refine Rn_eq (fun bb => by rw [gd_pos (by exact fun _ => hJX.1), hJX.look, gd_pos (by exact fun _ => rfl), gd_pos (by exact fun _ => by rw [vv_s]; exact rg_byte hx), vv_s]) ?_
        have ecst : ∀ o, cst S f o = 5 := fun o => by unfold cst; rw [if_neg (by omega)]
        unfold sclS
        rw [if_neg c8, if_neg c9, if_neg c10]
        by_cases c32 : 32 ≤ qk S f ∧ lk I n q = 34
        · rw [if_pos c32]
          refine Rn_pos ⟨by rw [f7, hskv, if_pos c32.1]; rfl, c32.2⟩ ?_
          have hE2 : qk S f - 32 < S.2.1 := by omega
          refine Rn_gd hJX.1 (Rn_tB hstr (fun σ' _ hy => ⟨rfl, ?_⟩) (fun y Y _ hy => ?_))
          · obtain ⟨e0, g0⟩ := hy.thr
            rw [e0]
            exact thr σ' _ _ (XG.tr g0.toG0) (by omega) (by omega)
          · obtain ⟨e, e0, ey, hJY, hw, g0, gN⟩ := hy.suc
            subst ey
            have hb := strX_bd e0
            have hbl := strX_len e0
            rw [e0]
            have sgl : sg (e.1 - q) ≤ 4 * (e.1 - q) := by unfold sg; split <;> omega
            have G1 : JG σ Y a ra wa (5 + sg (e.1 - q)) 1 := XG.tr (g0.tok gN (by omega))
            have hHY := hHk Y _ 1 G1
            have x138 : sR X 138 (fa f) = some (ea (qk S f - 32)) := by rw [(hHX.2.1 f hf).2.2.2.2.2.2.2.2.2.2.2.1, if_pos c32.1]
            have y138 : sR Y 138 (fa f) = some (ea (qk S f - 32)) := by rw [(hHY.2.1 f hf).2.2.2.2.2.2.2.2.2.2.2.1, if_pos c32.1]
            have yf9 : sc Y (fa f) = 9 := (hHY.2.1 f hf).2.1
            obtain ⟨b1, b2, b3, nl, va, n1, n2, n3, n4, n5, n6, n7, n8, n9⟩ := hHY.2.2.2.2.2 (qk S f - 32) hE2
            obtain ⟨o, eo, ho⟩ := et_valueOf_eq hS hHY hJY.rw.1 hw hE2
            have h40 : (vls S (qk S f - 32)).length ≤ 40 := Nat.le_trans (List.length_filter_le _ _) (by rw [List.length_range]; exact hS.2.1)
            have ky := keep Y _ (g0.toG0 (wa := wa)).1 nW3
            refine Rn_pure x138 (Rn_gd b2 (Rn_pure eo ?_))
            show Rn _ _ _ (SLO z σ a b ra wa I n q S fa f ((vnm S (qk S f - 32) e.2).map fun v => (e.1, lN (vn S v), [])))
            cases o with
            | none =>
              rw [show vnm S (qk S f - 32) e.2 = none from ho]
              refine Rn_eq (fun bb => by rw [gd_pos (show rg (oI none) by show rg (-1); omega), if_pos (show oI none < 0 by show (-1 : Int) < 0; omega), bind_some']) ?_
              exact Rn_must (Or.inl rfl) (fun _ => ⟨rfl, thr _ _ _ (G1.tr ((JF.nX Y a ra).toG (wa := wa) (Nat.le_max_left _ _))) (by omega) (by omega)⟩) (fun w => by cases w)
            | some j =>
              obtain ⟨hj, hv⟩ := ho
              rw [hv]
              obtain ⟨-, hse⟩ := n9 j hj
              have hvn := (hS.2.2.2.2.2.2.2.1 _ (vls_in.mp (getD_mem hj)).1).2.2
              refine Rn_eq (fun bb => by rw [gd_pos (show rg (oI (some j)) by show rg (j : Int); omega), if_neg (show ¬ oI (some j) < 0 by show ¬ (j : Int) < 0; omega), bind_some']) ?_
              refine Rn_must (Or.inr rfl) (fun w => by cases w) (fun _ => ?_)
              refine Rn_gd yf9 (Rn_pure y138 (Rn_gd b2 (Rn_pure n4 (Rn_gd n6 (Rn_gd (by rw [n7]; show 0 ≤ (j : Int) ∧ (j : Int) < ((40 : Nat) : Int); omega) (Rn_gd ky.1 ?_))))))
              refine Rn_eq (fun bb => by rw [nm_eq, show (oI (some j)).toNat = j from rfl, hse, iL_n rfl (by omega)]) ?_
              refine Rn_some ⟨Nat.le_refl _, Nat.le_refl _, Nat.le_refl _⟩ ⟨pJ Y 193 sl (lN (vn S ((vls S (qk S f - 32)).getD j 0))), by rw [hsl], hJY.pJ', numSl Y _ _ (g0.toG0 (wa := wa)).1 nW3 (by omega), ?_⟩
              rw [ecst]
              show JG σ _ a ra wa (5 + sg (e.1 - q)) _
              exact (fresh Y _ _ _ G1).mono (Nat.le_refl _) (by omega)
        · rw [if_neg c32]
          refine Rn_neg (by
            rintro ⟨w1, w2⟩
            rw [f7, hskv] at w1
            refine c32 ⟨?_, w2⟩
            split at w1
            · assumption
            · omega) ?_
          have hkn : qk S f < 8 ∨ 32 ≤ qk S f := by omega
          refine Rn_gd hJX.1 ?_
          refine Rn_eq (fun bb => by rw [bind_some', gd_pos (rg_byte hx)]) ?_
          -- the number, when its row stands
          have numEnd : ∀ (Y : ST) (w : List UInt8) (e l : Nat), JRd Y a b ra wa I n e → JF X Y a ra 0 → sN Y ra ≤ max (sN X ra) (max 8 (2 * l)) → l ≤ e - q → e ≤ n → sW Y ra = w → w.length ≤ 1000 → Rn (·.2) Y (fun bb => Option.bind (sR X 212 a) fun p133 => gd (sc Y p133 = 15) (Option.bind (wh_read bb p133 (some ra) Y) fun y136 => gd (sc y136 a = 14) (Option.bind (sR y136 212 a) fun p138 => gd (sc y136 p138 = 15) (Option.bind (gd (rg (sI y136 224 p138)) (gd (¬ ((sI y136 224 p138) = 0) → sc y136 (fa f) = 9) (gd (¬ ((sI y136 224 p138) = 0) → ok (wh_fits p138 (sI y136 132 (fa f)) y136)) (gd (¬ ((sI y136 224 p138) = 0) → rg (vv (wh_fits p138 (sI y136 132 (fa f)) y136))) (if ((sI y136 224 p138) = 0) ∨ ((vv (wh_fits p138 (sI y136 132 (fa f)) y136)) = 0) then (some 0) else (some 1)))))) fun (v148 : Int) => Option.bind (s_must bb v148 y136) (tB (fun z => (none, z)) fun y153 σ154 => gd (sc σ154 a = 14) (Option.bind (sR σ154 212 a) fun p156 => gd (sc σ154 p156 = 15) (Option.bind (gd (rg (sI σ154 225 p156)) (if (sI σ154 225 p156) = 0 then (some ((sJ σ154 226 p156))) else (some ((-(sJ σ154 226 p156)))))) fun (v162 : Int64) => gd (sc σ154 sl = 13) (nm (pJ σ154 193 sl v162) fun σ167 => some ((some (some sl), σ167)))))))))) (SLO z σ a b ra wa I n q S fa f ((numW (qk S f) w).map fun x => (e, x, []))) := fun Y w e l hJY g0 gN hle hen hw hl => by
            have sgl : sg (e - q) ≤ 4 * (e - q) := by unfold sg; split <;> omega
            have G1 : JG σ Y a ra wa (5 + sg (e - q)) 1 := XG.tr (g0.tok gN hle)
            have hHY := hHk Y _ 1 G1
            have ky := keep Y _ (g0.toG0 (wa := wa)).1 nW3
            have yk : sI Y 132 (fa f) = (sk S f : Int) := (hHY.2.1 f hf).2.2.2.2.2.2.1
            have qwh := hJY.wh (fa := fa) (sl := sl) hS hw hl hkn yk (hHY.2.1 f hf).2.1 hfw (by have := hHY.1; omega) ky.2.2.2.2 ky.1
            refine Rn_eq (fun bb => by rw [hJX.wa4.2.1]) (qwh.mono (fun r _ hr => ?_))
            have toFR : ∀ Z, At1 Y Z wa → FR (fun x => x = a ∨ x = ra ∨ x = wa) X Z ∧ JG σ Z a ra wa (5 + sg (e - q)) 1 ∧ JRd Z a b ra wa I n e := fun Z hA => by
              have FA : FR (fun x => x = wa) Y Z := FR.at1 hA rfl
              have FA' : FR (fun x => x = a ∨ x = ra ∨ x = wa) Y Z := FR.at1 hA (Or.inr (Or.inr rfl))
              have hwl := hJY.ne
              have hlY := hJY.lt
              have hN : sN Z ra = sN Y ra := (hA.2.2.2.1 ra (fun w => hwl.2.2.1 w.symm)).2.2.1
              refine ⟨((g0.toG0 (wa := wa)).1).tr FA' (fun _ _ w => w), ?_, ?_⟩
              · have : JG Y Z a ra wa 0 0 := ⟨FA', by rw [hN, hA.2.2.2.2.2]; omega, by rw [hN, hA.2.2.2.2.1]; omega, by rw [hN]; exact Nat.le_refl _, by rw [hN]; exact Nat.le_max_left _ _⟩
                exact G1.tr this
              · refine hJY.fr FA hwl.2.2.2.2 (fun w => ?_) (fun w => hwl.2.2.1 w.symm)
                have h101 := hJY.2.2.1
                have h15 := hJY.wa4.1
                rw [w] at h101
                omega
            cases en : numW (qk S f) w with
            | none =>
              rw [en] at hr
              obtain ⟨Z, hA, er⟩ := hr
              subst er
              obtain ⟨t1, t2, t3⟩ := toFR Z hA
              exact thr _ _ _ (t2.tr ((JF.nX Z a ra).toG (wa := wa) (Nat.le_max_left _ _))) (by omega) (by omega)
            | some x =>
              rw [en] at hr
              obtain ⟨Z, hA, er⟩ := hr
              subst er
              obtain ⟨t1, t2, t3⟩ := toFR Z hA
              refine ⟨pJ Z 193 sl x, by rw [hsl], t3.pJ', numSl Z _ x t1 nW3 (by omega), ?_⟩
              rw [ecst]
              show JG σ _ a ra wa (5 + sg (e - q)) _
              exact (fresh Z _ _ x t2).mono (Nat.le_refl _) (by omega)
          by_cases c34 : lk I n q = 34
          · rw [if_pos c34]
            refine Rn_eq (fun bb => by rw [if_pos c34]) ?_
            refine Rn_bind (su := Sum.elim (·.2) (·.2)) (J := fun y => match strX I n q with | some e => ∃ Y, y = Sum.inr (some ra, Y) ∧ JRd Y a b ra wa I n e.1 ∧ sW Y ra = e.2 ∧ JF X Y a ra 0 ∧ sN Y ra ≤ max (sN X ra) (max 8 (2 * e.2.length)) | none => ∃ Y, y = Sum.inl (none, Y) ∧ JF X Y a ra 1) ?_ (fun y _ hy => ?_)
            · refine Rn_tB hstr (fun σ' _ hy => ⟨rfl, ?_⟩) (fun y Y _ hy => ?_)
              · obtain ⟨e0, g0⟩ := hy.thr
                rw [e0]
                exact ⟨σ', rfl, g0⟩
              · obtain ⟨e, e0, ey, hJY, hw, g0, gN⟩ := hy.suc
                subst ey
                rw [e0]
                exact Rn_some (Le.refl _) ⟨Y, rfl, hJY, hw, g0, gN⟩
            · cases es : strX I n q with
              | none =>
                rw [es] at hy
                obtain ⟨Y, e1, g0⟩ := hy
                subst e1
                exact Rn_eq (fun bb => by rw [elim_l]) (Rn_some (Le.refl _) (thr _ _ _ (XG.tr g0.toG0) (by omega) (by omega)))
              | some e =>
                rw [es] at hy
                obtain ⟨Y, e1, hJY, hw, g0, gN⟩ := hy
                subst e1
                have hb := strX_bd es
                have hbl := strX_len es
                exact Rn_eq (fun bb => by rw [elim_r]) (numEnd Y e.2 e.1 e.2.length hJY g0 gN (by omega) (by omega) hw (by omega))
          · rw [if_neg c34]
            refine Rn_eq (fun bb => by rw [if_neg c34]) ?_
            have hqn : q ≤ n := by omega
            have hnum := hJX.number hqn
            rw [hbq] at hnum
            refine Rn_bind (su := Sum.elim (·.2) (·.2)) (J := fun y => ∃ Y, y = Sum.inr (some ra, Y) ∧ JRd Y a b ra wa I n (rns I n q) ∧ sW Y ra = cut I q (rns I n q) ∧ JF X Y a ra 0 ∧ sN Y ra ≤ max (sN X ra) (max 8 (2 * (rns I n q - q)))) ?_ (fun y _ hy => ?_)
            · refine Rn_bind hnum (fun y _ hy => ?_)
              obtain ⟨Y, e1, hJY, hw, g0, gN⟩ := hy
              subst e1
              exact Rn_some (Le.refl _) ⟨Y, rfl, hJY, hw, g0, gN⟩
            · obtain ⟨Y, e1, hJY, hw, g0, gN⟩ := hy
              subst e1
              have hrn : rns I n q ≤ n := by
                obtain ⟨a1, a2, -⟩ := run_sp (P := nsg) (J := I) (N := n) nsg_m _ q (Nat.le_refl _)
                have a2' : rns I n q ≤ max q n := a2
                omega
              have hlen : (cut I q (rns I n q)).length ≤ 1000 := by
                rw [cut_len]
                have := hJY.2.2.2.2.2.2.2.2.1
                obtain ⟨a1, a2, -⟩ := run_sp (P := nsg) (J := I) (N := n) nsg_m _ q (Nat.le_refl _)
                have a2' : rns I n q ≤ max q n := a2
                omega
              exact Rn_eq (fun bb => by rw [elim_r]) (numEnd Y _ _ _ hJY g0 gN (Nat.le_refl _) hrn hw hlen)
end Sl2
