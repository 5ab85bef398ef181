set_option maxRecDepth 100000
/-! JSON: a value that is no message, as the system reads it -/
/-- what the row `said` cost, up to 32 places: the rest is told with what grew it -/
def pzz (c : Nat) : Nat := rp (min 32 c)
/-- from one state of a reader to another: only the reader, what it says and its number changed; what it cost -/
def JG (σ σ' : ST) (a ra wa c k : Nat) : Prop := FR (fun b => b = a ∨ b = ra ∨ b = wa) σ σ' ∧ sS σ' + pzz (sN σ ra) ≤ sS σ + pzz (sN σ' ra) + c ∧ sC σ' + sN σ ra / 8 ≤ sC σ + sN σ' ra / 8 + k ∧ sN σ ra ≤ sN σ' ra ∧ sN σ' ra ≤ max (sN σ ra) 2000
section JG0
variable {σ σ1 σ2 : ST} {a b ra wa c k c' k' : Nat} {I : Nat → Nat} {n p : Nat}
theorem JG.tr (h : JG σ σ1 a ra wa c k) (g : JG σ1 σ2 a ra wa c' k') : JG σ σ2 a ra wa (c + c') (k + k') := by
  obtain ⟨a1, a2, a3, a4, a5⟩ := h
  obtain ⟨b1, b2, b3, b4, b5⟩ := g
  exact ⟨a1.tr b1 (fun _ _ q => q), by omega, by omega, by omega, by omega⟩
theorem JG.mono (h : JG σ σ1 a ra wa c k) (hc : c ≤ c') (hk : k ≤ k') : JG σ σ1 a ra wa c' k' := by
  obtain ⟨a1, a2, a3, a4, a5⟩ := h
  exact ⟨a1, by omega, by omega, a4, a5⟩
theorem JF.toGx {e : Nat} (h : JF σ σ1 a ra e) {x : Nat} (hx : sN σ1 ra ≤ max (sN σ ra) (max 32 x)) : JG σ σ1 a ra wa (6 * e + 2 * x) e := by
  obtain ⟨a1, a2, a3, a4, a5⟩ := h
  refine ⟨⟨a1.1, fun b hb => ⟨(a1.2 b hb).1, fun q => (a1.2 b hb).2 (fun w => q (w.elim Or.inl (fun u => Or.inr (Or.inl u))))⟩⟩, ?_, a3, a4, a5⟩
  unfold pzz
  unfold rp at a2 ⊢
  omega
theorem JF.toG {e : Nat} (h : JF σ σ1 a ra e) (hx : sN σ1 ra ≤ max (sN σ ra) 32) : JG σ σ1 a ra wa (6 * e) e := h.toGx (x := 0) (by omega)
/-- nothing is known of what was said -/
theorem JF.toG0 {e : Nat} (h : JF σ σ1 a ra e) : JG σ σ1 a ra wa (6 * e + 4000) e := h.toGx (x := 2000) (by have := h.2.2.2.2; omega)
/-- what a token costs that is longer than 16 -/
def sg (l : Nat) : Nat := if l ≤ 16 then 0 else 4 * l
theorem JF.tok (h : JF σ σ1 a ra 0) {l k : Nat} (hN : sN σ1 ra ≤ max (sN σ ra) (max 8 (2 * l))) (hl : l ≤ k) : JG σ σ1 a ra wa (sg k) 0 := by
  unfold sg
  split
  · exact h.toG (by omega)
  · have := h.toGx (wa := wa) (x := 2 * k) (by omega)
    rw [show 6 * 0 + 2 * (2 * k) = 4 * k by omega] at this
    exact this
/-- something new, or something that was new before -/
theorem JG.fresh (h : JG σ σ1 a ra wa c k) {W : Nat → Prop} (g : FR W σ1 σ2) (hW : ∀ x, W x → sZ σ ≤ x) (hra : ra < sZ σ) (hS : sS σ2 ≤ sS σ1 + c') (hC : sC σ2 ≤ sC σ1 + k') : JG σ σ2 a ra wa (c + c') (k + k') := by
  obtain ⟨a1, a2, a3, a4, a5⟩ := h
  have e : sN σ2 ra = sN σ1 ra := ((g.2 ra (Nat.lt_of_lt_of_le hra a1.1.1)).2 (fun w => by have := hW ra w; omega)).2.2.1
  exact ⟨a1.tr g (fun x hx w => by have := hW x w; omega), by rw [e]; omega, by rw [e]; omega, by rw [e]; exact a4, by rw [e]; exact a5⟩
theorem JG.refl (σ : ST) (a ra wa : Nat) : JG σ σ a ra wa 0 0 := ⟨FR.refl _ _, Nat.le_refl _, Nat.le_refl _, Nat.le_refl _, Nat.le_max_left _ _⟩
theorem JRd.pRk (h : JRd σ a b ra wa I n p) {k x : Nat} {v : Option Nat} (hk : k ≠ 208 ∧ k ≠ 211 ∧ k ≠ 212) : JRd (pR σ k x v) a b ra wa I n p := by
  obtain ⟨h1, h2, h3, h4, h5, h6, h7, h8, h9, h10, h11, h12, h13⟩ := h
  refine ⟨h1, ?_, h3, h4, h5, h6, h7, h8, h9, ?_, h11, ?_, h13⟩
  · rw [sR_pR, if_neg (fun q => hk.1 q.1.symm)]; exact h2
  · rw [sR_pR, if_neg (fun q => hk.2.1 q.1.symm)]; exact h10
  · rw [sR_pR, if_neg (fun q => hk.2.2 q.1.symm)]; exact h12
theorem JRd.pJ' (h : JRd σ a b ra wa I n p) {k x : Nat} {v : Int64} : JRd (pJ σ k x v) a b ra wa I n p := h
theorem JRd.new (h : JRd σ a b ra wa I n p) (t m : Nat) : JRd (nO σ t m) a b ra wa I n p := by
  obtain ⟨l1, l2, l3, l4⟩ := h.lt
  have hr := h.rw
  have F := FR.nO (fun _ => False) σ t m
  exact h.kept ((F.2 a l1).2 (fun q => q)) ((F.2 b l2).2 (fun q => q)) (fun x hx => (F.2 x hx).1) ⟨by rw [(F.2 ra l3).1]; exact hr.1, by rw [((F.2 ra l3).2 (fun q => q)).1, ((F.2 ra l3).2 (fun q => q)).2.2.1]; exact hr.2.1, by rw [((F.2 ra l3).2 (fun q => q)).2.2.1]; exact hr.2.2⟩ F.1.1
theorem JRd.fr (h : JRd σ a b ra wa I n p) {W : Nat → Prop} (F : FR W σ σ1) (ha : ¬ W a) (hb : ¬ W b) (hr : ¬ W ra) : JRd σ1 a b ra wa I n p := by
  obtain ⟨l1, l2, l3, l4⟩ := h.lt
  have h4 := h.rw
  exact h.kept ((F.2 a l1).2 ha) ((F.2 b l2).2 hb) (fun x hx => (F.2 x hx).1) ⟨by rw [(F.2 ra l3).1]; exact h4.1, by rw [((F.2 ra l3).2 hr).1, ((F.2 ra l3).2 hr).2.2.1]; exact h4.2.1, by rw [((F.2 ra l3).2 hr).2.2.1]; exact h4.2.2⟩ F.1.1
theorem JRd.wa4 (h : JRd σ a b ra wa I n p) : sc σ wa = 15 ∧ sR σ 212 a = some wa ∧ sR σ 211 a = some ra := ⟨h.2.2.2.2.2.2.2.2.2.2.2.2.1, h.2.2.2.2.2.2.2.2.2.2.2.1, h.2.2.2.2.2.2.2.2.2.1⟩
end JG0
/-- a row's copy -/
theorem rn_copy {σ : ST} {ra : Nat} {w : List UInt8} (ha : RW σ ra) (hw : sW σ ra = w) (hl : w.length ≤ 1000) (hlt : ra < sZ σ) : Rn (·.2) σ (fun bb => row_copy bb ra σ) (fun r => ∃ σ', r = (some (sZ σ), σ') ∧ RA (nW σ) (sZ σ) w σ') := by
  unfold row_copy
  refine Rn_rm (σ1 := nW σ) (Nat.le_refl _) (Nat.le_refl _) (Nat.le_succ _) ?_
  refine Rn_eq (fun bb => by rw [nm_eq]) ?_
  have hz : ra ≠ sZ σ := by omega
  have hRW : RW (nW σ) (sZ σ) := ⟨by rw [sc_nW_, if_pos rfl], by rw [sW_nW_, if_pos rfl]; exact Nat.zero_le _, Or.inl (by rw [sN_nW_, if_pos rfl])⟩
  have hc : sc (nW σ) ra = 4 := by rw [sc_nW_, if_neg hz]; exact ha.1
  refine Rn_gd hc (Rn_gd hRW.1 ?_)
  unfold r_addP
  refine Rn_eq (fun bb => by rw [gd_pos ⟨hc, fun e => hz e.symm⟩, sW_nW_, if_neg hz, hw]) ?_
  exact Rn_bind (rn_addL w hRW (by rw [sW_nW_, if_pos rfl]; simp; omega)) (fun σ1 _ g => Rn_some (Le.refl _) ⟨σ1, rfl, g⟩)
/-- what a new row cost -/
theorem RA.cost {σ σ' : ST} {w : List UInt8} (h : RA (nW σ) (sZ σ) w σ') : sS σ' ≤ sS σ + 2 + max 8 (4 * w.length) ∧ sC σ' ≤ sC σ + 2 + w.length / 4 ∧ sW σ' (sZ σ) = w ∧ sZ σ < sZ σ' ∧ FR (fun x => x = sZ σ) (nW σ) σ' := by
  obtain ⟨h1, h2, h3, h4, r1, r2, r3, r4, r5⟩ := h
  rw [sW_nW_, if_pos rfl, List.nil_append] at h1
  rw [sN_nW_, if_pos rfl, sS_nW_] at r1
  rw [sN_nW_, if_pos rfl, sC_nW_] at r2
  rw [sN_nW_, if_pos rfl, h1] at r4
  have hz := h2.1.1
  rw [sZ_nW_] at hz
  have e0 : rp 0 = 0 := rfl
  have ec : rp (sN σ' (sZ σ)) = 2 * sN σ' (sZ σ) - 8 := rfl
  refine ⟨by omega, by omega, h1, by omega, h2⟩
/-- a slot -/
def Sl (σ : ST) (z0 sl : Nat) (S : SC) (fa : Nat → Nat) (f : Nat) (x : Int64) (o : List UInt8) : Prop := sl < sZ σ ∧ sc σ sl = 13 ∧ sR σ 192 sl = some (fa f) ∧ sJ σ 193 sl = x ∧ sR σ 195 sl = none ∧ sR σ 196 sl = none ∧ (if qk S f = 9 ∨ qk S f = 10 then ∃ rw, sR σ 194 sl = some rw ∧ z0 < rw ∧ rw < sZ σ ∧ sc σ rw = 4 ∧ sW σ rw = o else sR σ 194 sl = none)
/-- at least so many chars -/
def lcx (x : Int64) : Nat := if un x ≤ 9 then 1 else 2
def cst (S : SC) (f : Nat) (o : List UInt8) : Nat := if qk S f = 9 ∨ qk S f = 10 then 7 + max 8 (4 * o.length) else 5
/-- a slot that was made, and what came of it -/
def SLO (z : Nat) (σ : ST) (a b ra wa : Nat) (I : Nat → Nat) (n q : Nat) (S : SC) (fa : Nat → Nat) (f : Nat) (o : Option (Nat × Int64 × List UInt8)) (r : Option (Option Nat) × ST) : Prop := match o with
  | some e => ∃ σ', r = (some (some (sZ σ)), σ') ∧ JRd σ' a b ra wa I n e.1 ∧ Sl σ' (sZ σ) (sZ σ) S fa f e.2.1 e.2.2 ∧ JG σ σ' a ra wa (cst S f e.2.2 + sg (e.1 - q)) (4 + e.2.2.length / 4)
  | none => ∃ σ', r = (none, σ') ∧ JG σ σ' a ra wa 9000 300
section Tok
variable {I : Nat → Nat} {n p : Nat}
theorem strS_len2 : ∀ (m k : Nat) (w : List UInt8) (r : Nat × List UInt8), n + 1 - k ≤ m → strS I n k w = some r → r.2.length + k ≤ r.1 + w.length := by
  intro m
  induction m with
  | zero =>
    intro k w r h1 h
    rw [strS, dif_pos (by rw [lk_ge (by omega)]; decide)] at h
    cases h
  | succ m ih =>
    intro k w r h1 h
    by_cases c0 : lk I n k < 32
    · rw [strS, dif_pos c0] at h; cases h
    · have hk : k < n := lk_in (I := I) (by omega)
      by_cases c1 : lk I n k = 34
      · rw [strS, dif_neg c0, if_pos c1] at h
        cases h
        show w.length + k ≤ k + w.length
        omega
      · rw [strS_stp c0 c1] at h
        cases e : stp I n k with
        | none => rw [e] at h; cases h
        | some v =>
          rw [e] at h
          have hv := stp_rg hk e
          have := ih v.2 (w ++ v.1) r (by omega) h
          rw [List.length_append] at this
          omega
theorem strX_len {r : Nat × List UInt8} (h : strX I n p = some r) : r.2.length + p + 2 ≤ r.1 := by
  have h2 := (strX_bd h).2.2.2.1
  unfold str at h2
  split at h2
  · cases e : strS I n (p + 1) [] with
    | none => rw [e] at h2; cases h2
    | some q =>
      rw [e] at h2
      cases h2
      have := strS_len2 _ _ _ _ (Nat.le_refl _) e
      simp only [List.length_nil] at this
      show q.2.length + p + 2 ≤ q.1 + 1
      omega
  · cases h2
theorem wv1 {J : Nat → Nat} {v : Nat} (hg : gok J 1 0) (h : wv J 1 0 = some v) : v ≤ 9 ∧ lk J 1 0 ≠ 45 := by
  obtain ⟨a1, a2, a3, a4, a5, a6, a7, a8, -⟩ := g_sp J 1 0
  have hlt := hg.1
  have e0 : g0 J 1 0 = 0 := by omega
  have e1 : g1 J 1 0 = 1 := by omega
  have l1 : lk J 1 1 = -1 := lk_ge (by omega)
  have e2 : g2 J 1 0 = 1 := by unfold g2; rw [e1, l1, if_neg (by decide)]
  have e45 : lk J 1 0 ≠ 45 := fun q => by
    unfold g0 at e0
    rw [if_pos q] at e0; omega
  refine ⟨?_, e45⟩
  obtain ⟨d1, d2, d3, d4⟩ := dg_sp J 1 0
  have e1' : dg J 1 0 = 1 := by have : g1 J 1 0 = dg J 1 (g0 J 1 0) := rfl; rw [e0] at this; omega
  have hd' : 48 ≤ lk J 1 0 ∧ lk J 1 0 ≤ 57 := d4 0 (by omega) (by omega)
  unfold wv nv at h
  have ee : ept J 1 0 (spw J 1 (g4 J 1 0 - g3 J 1 0) (g3 J 1 0) 0) = 0 := by
    unfold ept
    rw [e2, l1, if_neg (by rintro (q | q) <;> cases q)]
  rw [ee, e0, e1, e2] at h
  have hs : sl1 J 1 1 0 (((1 : Nat) : Int) - ((0 : Nat) : Int) + 0) (1 - 0) 0 (some 0) = some (dv J 1 0) := by
    show sl1 J 1 1 0 _ 1 0 (some 0) = _
    rw [sl1, if_neg (by omega), if_pos (by show ((0 - 0 - (if 1 < 0 then 1 else 0) : Nat) : Int) < _; rw [if_neg (by omega)]; omega), sl1]
    show (if 10 * 0 + dv J 1 0 < T64 then some (10 * 0 + dv J 1 0) else none) = _
    have : dv J 1 0 ≤ 9 := by unfold dv; omega
    rw [if_pos (by show _ < 18446744073709551616; omega), Nat.mul_zero, Nat.zero_add]
  rw [hs] at h
  have : some (dv J 1 0) = some v := h
  cases this
  unfold dv; omega
theorem numW_lcx {k : Nat} {w : List UInt8} {x : Int64} (h : numW k w = some x) : 1 ≤ w.length ∧ lcx x ≤ w.length := by
  unfold numW at h
  split at h
  · rename_i g
    obtain ⟨a1, a2, a3, a4, a5, a6, a7, a8, -⟩ := g_sp (wI w) w.length 0
    have hlt := g.1.1
    have hg4 := g.2
    refine ⟨by omega, ?_⟩
    unfold lcx
    by_cases c : w.length = 1
    · rw [c] at h g
      cases e : wv (wI w) 1 0 with
      | none => rw [e] at h; cases h
      | some v =>
        rw [e] at h
        obtain ⟨h9, h45⟩ := wv1 g.1 e
        change (if fitk k v (msg w v) then some (nval v (msg w v)) else none) = some x at h
        split at h
        · cases h
          have em : msg w v = 0 := by unfold msg; rw [c, if_neg (fun q => h45 q.1)]
          have en : nval v (msg w v) = lN v := by unfold nval; rw [em, if_neg (by decide)]
          rw [en, un_lN (by omega), if_pos h9]
          omega
        · cases h
    · split <;> omega
  · cases h
end Tok
section Slt
variable {z : Nat} {σ : ST} {S : SC} {fa ma ea : Nat → Nat} {od : Nat → List Nat} {a b ra wa : Nat} {I : Nat → Nat} {n p : Nat}
theorem sk_eq {f : Nat} (hk : qk S f ≤ 10 ∨ 32 ≤ qk S f) : sk S f = if 32 ≤ qk S f then 32 else qk S f := by
  unfold sk ks
  rw [if_neg (by omega)]
/-- the number at the end of a slot's reading -/
theorem JRd.wh (hS : SW S) {X : ST} (h : JRd X a b ra wa I n p) {w : List UInt8} (hw : sW X ra = w) (hl : w.length ≤ 1000) {f : Nat} (hk : qk S f < 8 ∨ 32 ≤ qk S f) (hkk : sI X 132 (fa f) = (sk S f : Int)) (hsf : sc X (fa f) = 9) (hfw : fa f ≠ wa) (hfl : fa f < sZ X) {sl : Nat} (hsl : sl < sZ X) (hsc : sc X sl = 13) : Rn (·.2) X (fun bb => Option.bind (some wa) fun p133 => gd (sc X p133 = 15) (Option.bind (wh_read bb p133 (some ra) X) fun y136 => gd (sc y136 a = 14) (Option.bind (sR y136 212 a) fun p138 => gd (sc y136 p138 = 15) (Option.bind (gd (rg (sI y136 224 p138)) (gd (¬ ((sI y136 224 p138) = 0) → sc y136 (fa f) = 9) (gd (¬ ((sI y136 224 p138) = 0) → ok (wh_fits p138 (sI y136 132 (fa f)) y136)) (gd (¬ ((sI y136 224 p138) = 0) → rg (vv (wh_fits p138 (sI y136 132 (fa f)) y136))) (if ((sI y136 224 p138) = 0) ∨ ((vv (wh_fits p138 (sI y136 132 (fa f)) y136)) = 0) then (some 0) else (some 1)))))) fun (v148 : Int) => Option.bind (s_must bb v148 y136) (tB (fun z => (none, z)) fun y153 σ154 => gd (sc σ154 a = 14) (Option.bind (sR σ154 212 a) fun p156 => gd (sc σ154 p156 = 15) (Option.bind (gd (rg (sI σ154 225 p156)) (if (sI σ154 225 p156) = 0 then (some ((sJ σ154 226 p156))) else (some ((-(sJ σ154 226 p156)))))) fun (v162 : Int64) => gd (sc σ154 sl = 13) (nm (pJ σ154 193 sl v162) fun σ167 => some ((some (some sl), σ167)))))))))) (fun r : Option (Option Nat) × ST => match numW (qk S f) w with | some x => ∃ Y, At1 X Y wa ∧ r = (some (some sl), pJ Y 193 sl x) | none => ∃ Y, At1 X Y wa ∧ r = (none, nX Y)) := by
  obtain ⟨w15, w212, w211⟩ := h.wa4
  obtain ⟨Y, e1, hA, hm⟩ := wh_read_eq w15 h.rw.1 hw hl
  have hne := h.ne
  have ya : sc Y a = 14 := by rw [hA.1]; exact h.1
  have yw : sc Y wa = 15 := by rw [hA.1]; exact w15
  have y212 : sR Y 212 a = some wa := by rw [(hA.2.2.2.1 a hne.2.2.2.2).2.2.2.2.2.2.2.2.2]; exact w212
  have yf : sc Y (fa f) = 9 := by rw [hA.1]; exact hsf
  have yk : sI Y 132 (fa f) = (sk S f : Int) := by rw [(hA.2.2.2.1 _ hfw).2.2.2.2.2.2.2.1]; exact hkk
  have ysl : sc Y sl = 13 := by rw [hA.1]; exact hsc
  have hLe : Le X Y := ⟨by rw [hA.2.1]; exact Nat.le_refl _, by rw [hA.2.2.2.2.1]; exact Nat.le_refl _, by rw [hA.2.2.2.2.2]; exact Nat.le_refl _⟩
  refine Rn_eq (fun bb => by rw [bind_some', gd_pos w15, e1 bb, bind_some', gd_pos ya, y212, bind_some', gd_pos yw, yk]) ?_
  refine Rn_le hLe ?_
  unfold numW
  by_cases g : gok (wI w) w.length 0 ∧ g4 (wI w) w.length 0 = w.length
  · rw [if_pos g] at hm ⊢
    cases ew : wv (wI w) w.length 0 with
    | none =>
      rw [ew] at hm
      refine Rn_eq (fun bb => by rw [show sI Y 224 wa = 0 from hm, gd_pos (by omega), gd_pos (by exact fun q => absurd rfl q), gd_pos (by exact fun q => absurd rfl q), gd_pos (by exact fun q => absurd rfl q), if_pos (Or.inl rfl), bind_some']) ?_
      refine Rn_must (Or.inl rfl) (fun _ => ⟨rfl, Y, hA, rfl⟩) (fun q => by omega)
    | some v =>
      rw [ew] at hm
      obtain ⟨m1, m2, m3, m4⟩ := hm
      have em : sI Y 225 wa = msg w v := m4
      have m01 : msg w v = 0 ∨ msg w v = 1 := by unfold msg; split <;> omega
      have ef := wh_fits_eq (k := qk S f) yw (x := (sk S f : Int)) (by rw [sk_eq (by omega)]; unfold ks; rfl) hk em m01 m2 m3
      refine Rn_eq (fun bb => by rw [m1, ef, gd_pos (by omega), gd_pos (by exact fun _ => yf), gd_pos (by exact fun _ => rfl), gd_pos (by exact fun _ => by rw [vv_s]; split <;> omega), vv_s]) ?_
      show Rn _ _ _ (fun r => match (if fitk (qk S f) v (msg w v) then some (nval v (msg w v)) else none) with | some x => _ | none => _)
      by_cases ft : fitk (qk S f) v (msg w v)
      · refine Rn_eq (fun bb => by rw [if_pos ft, if_neg (by omega), bind_some']) ?_
        rw [if_pos ft]
        refine Rn_must (Or.inr rfl) (fun q => by omega) (fun _ => ?_)
        refine Rn_gd ya (Rn_pure y212 (Rn_gd yw ?_))
        refine Rn_eq (fun bb => by rw [em, gd_pos (by omega), m2]) ?_
        have en : (if msg w v = 0 then (some (lN v)) else (some (-(lN v))) : Option Int64) = some (nval v (msg w v)) := by
          unfold nval
          rcases m01 with q | q
          · rw [if_pos q, if_neg (by omega)]
          · rw [if_neg (by omega), if_pos q]
        refine Rn_pure en (Rn_gd ysl ?_)
        exact Rn_eq (fun bb => by rw [nm_eq]) (Rn_some ⟨Nat.le_refl _, Nat.le_refl _, Nat.le_refl _⟩ ⟨Y, hA, rfl⟩)
      · refine Rn_eq (fun bb => by rw [if_neg ft, if_pos (by omega), bind_some']) ?_
        rw [if_neg ft]
        exact Rn_must (Or.inl rfl) (fun _ => ⟨rfl, Y, hA, rfl⟩) (fun q => by omega)
  · rw [if_neg g] at hm ⊢
    refine Rn_eq (fun bb => by rw [show sI Y 224 wa = 0 from hm, gd_pos (by omega), gd_pos (by exact fun q => absurd rfl q), gd_pos (by exact fun q => absurd rfl q), gd_pos (by exact fun q => absurd rfl q), if_pos (Or.inl rfl), bind_some']) ?_
    exact Rn_must (Or.inl rfl) (fun _ => ⟨rfl, Y, hA, rfl⟩) (fun q => by omega)
end Slt
