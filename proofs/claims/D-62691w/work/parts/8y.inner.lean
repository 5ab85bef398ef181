set_option maxRecDepth 100000
/-! JSON: a message in a field, as the system reads it -/
section In
variable {z : Nat} {σ : ST} {S : SC} {fa ma ea : Nat → Nat} {od : Nat → List Nat} {a b ra wa : Nat} {I : Nat → Nat} {n p d : Nat} {rec : Nat × Nat → Option Nat → Option Nat → Int → ST → Option (Option (Option Nat) × ST)} {dp : Int} {sp : Nat → Nat → Option (Nat × TV d)}
theorem HSc.gr {c k : Nat} {σ' : ST} (hH : HSc z σ S fa ma ea od) (hS : SW S) (hza : z ≤ a ∧ z ≤ ra ∧ z ≤ wa) (g : JG σ σ' a ra wa c k) : HSc z σ' S fa ma ea od := hH.kept hS ⟨g.1.1, fun x hx => ⟨(g.1.2 x hx).1, fun w => (g.1.2 x hx).2 (fun u => w (by rcases u with u | u | u <;> rw [u] <;> omega))⟩⟩
set_option maxHeartbeats 4000000 in
theorem JRd.inn (hS : SW S) (hH : HSc z σ S fa ma ea od) (h : JRd σ a b ra wa I n p) (hp : p ≤ n) (hza : z ≤ a ∧ z ≤ ra ∧ z ≤ wa) (hRS : ¬ 8 ≤ dp → RS z S fa ma ea od a b ra wa I n d rec (dp + 1) sp) (hd : 8 ≤ dp → ∀ m p, sp m p = none) (hdp : 1 ≤ dp ∧ dp ≤ 8) {f : Nat} (hf : f < nF_ S) (hM : isM S f) : Rn (·.2) σ (fun bb => jr_inner bb (rec bb) (some a) (some (fa f)) dp σ) (VLO σ a b ra wa I n p S fa ma (valS S I n sp f (bl I n p))) := by
  have b1 := bl_ge' I n p
  have b2 := bl_le' I n p
  obtain ⟨l1, l2, l3, l4⟩ := h.lt
  have sk4 := (hS.2.2.2.2.1 f hf).2.2.2.1
  unfold jr_inner valS
  rw [if_pos hM]
  refine Rn_eq (fun bb => by rw [gd_pos (show rg dp by omega)]) ?_
  refine Rn_10 (fun c => ?_) (fun c => ?_)
  · refine Rn_must (Or.inl rfl) (fun _ => ⟨rfl, ?_⟩) (fun e => by cases e)
    rw [hd c]
    exact ⟨nX σ, rfl, ((JF.nX σ a ra).toG (wa := wa) (Nat.le_max_left _ _)).mono (by omega) (by omega)⟩
  · refine Rn_must (Or.inr rfl) (fun e => by cases e) (fun _ => ?_)
    obtain ⟨sl, hsl⟩ : ∃ s, s = sZ σ := ⟨_, rfl⟩
    obtain ⟨X, hX⟩ : ∃ X, X = pR (nO σ 13 5) 192 sl (some (fa f)) := ⟨_, rfl⟩
    have hzz := hH.1
    have hfz : fa f < z := (hH.2.1 f hf).1
    have hJX : JRd X a b ra wa I n p := by rw [hX]; exact (h.new 13 5).pRk (by decide)
    have xsl : sZ X = sl + 1 := by rw [hX, hsl]; rfl
    have x13 : sc X sl = 13 := by rw [hX]; show sc (nO σ 13 5) sl = 13; rw [sc_nO_, if_pos hsl]
    have x192 : sR X 192 sl = some (fa f) := by rw [hX, sR_pR, if_pos ⟨rfl, rfl⟩]
    have x193 : sJ X 193 sl = 0 := by rw [hX, sJ_pR, sJ_nO_, if_pos hsl]
    have xR : ∀ k, k ≠ 192 → sR X k sl = none := fun k hk => by rw [hX, sR_pR, if_neg (fun e => hk e.1), sR_nO_, if_pos hsl]
    have XG : JG σ X a ra wa 5 1 := by
      have g2 := (JG.refl σ a ra wa).fresh (FR.nO (fun _ => False) σ 13 5) (fun x q => q.elim) l3 (c' := 5) (k' := 1) (Nat.le_refl _) (Nat.le_refl _)
      have g3 := g2.fresh (W := fun x => x = sl) (FR.at1 (at_pR (nO σ 13 5) 192 sl (some (fa f))) rfl) (fun x q => by rw [q, hsl]; exact Nat.le_refl _) l3 (c' := 0) (k' := 0) (Nat.le_refl _) (Nat.le_refl _)
      rw [hX]; exact g3
    have hHX := hH.gr hS hza XG
    obtain ⟨f1, f2, f3, f4, f5, f6, f7, f8, f9, f10, f11, -⟩ := hHX.2.1 f hf
    rw [if_pos hM] at f11
    refine Rn_rm (σ1 := X) (by rw [hX]; exact Nat.le_refl _) (by rw [hX]; exact Nat.le_refl _) (by rw [hX]; exact Nat.le_succ _) ?_
    have esl : ∀ bb, sl_init bb (sZ σ) (some (fa f)) (nO σ 13 5) = some X := fun bb => by
      unfold sl_init
      rw [gd_pos (by rw [sc_nO_, if_pos rfl]), nm_eq, hX, hsl]
    refine Rn_eq (fun bb => by rw [nm_eq, esl bb, bind_some', bind_some', gd_pos f2, f11, ← hsl]) ?_
    refine Rn_tB (hRS c (qk S f - 16) p X (by omega) hp hHX hJX) (fun σ' _ hr => ⟨rfl, ?_⟩) (fun y Y _ hr => ?_)
    · cases e : sp (qk S f - 16) (bl I n p) with
      | none =>
        rw [e] at hr
        obtain ⟨σ1, e1, g⟩ := hr
        cases e1
        exact ⟨σ', rfl, (XG.tr g).mono (by omega) (by omega)⟩
      | some x =>
        rw [e] at hr
        obtain ⟨σ1, va, F, c, e1, -⟩ := hr
        cases e1
    · cases e : sp (qk S f - 16) (bl I n p) with
      | none =>
        rw [e] at hr
        obtain ⟨σ1, e1, g⟩ := hr
        cases e1
      | some x =>
        rw [e] at hr
        obtain ⟨σ1, va, F, co, e1, hJY, hV, hF, g, ⟨gc1, gc2⟩, hp2⟩ := hr
        cases e1
        have hsla : ¬ (sl = a ∨ sl = ra ∨ sl = wa) := by rw [hsl]; omega
        have sY := (g.1.2 sl (by omega)).2 hsla
        have y13 : sc Y sl = 13 := by rw [(g.1.2 sl (by omega)).1]; exact x13
        have yz : sZ X ≤ sZ Y := g.1.1.1
        refine Rn_gd y13 ?_
        refine Rn_eq (fun bb => by rw [nm_eq]) (Rn_some ⟨Nat.le_refl _, Nat.le_refl _, Nat.le_refl _⟩ ⟨pR Y 195 sl (some va), F, 5 + co, by rw [hsl], hJY.pRk (by decide), ?_, ?_, ?_, fun x w => ?_, ?_, ?_⟩)
        · show sZ σ < sZ Y; omega
        · rw [← hsl]
          refine ⟨y13, hf, by rw [sR_pR, if_neg (fun q => absurd q.1 (by decide)), sY.2.2.2.2.2.2.2.2.2]; exact x192, ?_⟩
          show (if isM S f then _ else _)
          rw [if_pos hM]
          refine ⟨?_, ?_, rfl, rfl, va, by rw [sR_pR, if_pos ⟨rfl, rfl⟩], ?_⟩
          · show sJ Y 193 sl = 0
            rw [sY.2.2.2.2.2.2.2.2.1]; exact x193
          · rw [sR_pR, if_neg (fun q => absurd q.1 (by decide)), sY.2.2.2.2.2.2.2.2.2]; exact xR 194 (by decide)
          · refine HV_kept d va _ _ F hV (fun x w _ => ?_) (Nat.le_refl _)
            have hxs : x ≠ sl := by have := (hF x w).1; omega
            exact ⟨⟨rfl, rfl, rfl, rfl, rfl, rfl, rfl, fun k => rfl, fun k => rfl, fun k => by rw [sR_pR, if_neg (fun q => hxs q.2)]⟩, rfl⟩
        · rw [← hsl, sR_pR, if_neg (fun q => absurd q.1 (by decide)), sY.2.2.2.2.2.2.2.2.2]; exact xR 196 (by decide)
        · have := hF x w
          exact ⟨by omega, by show x < sZ Y; omega⟩
        · have G := (XG.tr g).fresh (W := fun x => x = sl) (FR.at1 (at_pR Y 195 sl (some va)) rfl) (fun x q => by rw [q, hsl]; exact Nat.le_refl _) l3 (c' := 0) (k' := 0) (Nat.le_refl _) (Nat.le_refl _)
          exact G.mono (by omega) (by show 1 + (5 * (x.1 - p) - 5) + 0 ≤ 5 * (x.1 - p); omega)
        · show 5 + co + (if isM S f then dM S d x.2 - 1 else _) ≤ 8 * (x.1 - p)
          rw [if_pos hM]
          omega
end In
