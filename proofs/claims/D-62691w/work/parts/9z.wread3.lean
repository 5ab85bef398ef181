set_option maxRecDepth 100000
/-! THE WIRE, READ: whole messages, as the system reads them -/
section Tr
variable {z : Nat} {S : SC} {fa ma ea : Nat → Nat} {od : Nat → List Nat} {a b n m v d : Nat} {I : Nat → Nat} {rec : Nat × Nat → Option Nat → Option Nat → Int → Int → ST → Option (Option Unit × ST)} {dp : Int} {sp : Nat → Nat → Nat → TV d → Option (TV d)}
/-- a record was taken, or not -/
def TO2 (S : SC) (fa ma : Nat → Nat) (a b : Nat) (I : Nat → Nat) (n v m d : Nat) (F : Nat → Prop) (σ : ST) (p0 : Nat) (o : Option (TV (d + 1) × Nat)) (y : (Option Unit × ST) ⊕ ST) : Prop := ∃ u : Bool, RK S fa ma a b I n v m d F σ p0 o u (st2 y) ∧ y = if u = true then Sum.inr (st2 y) else Sum.inl (none, st2 y)
theorem RK.frm {F : Nat → Prop} {σ σ' : ST} {p0 : Nat} {o : Option (TV (d + 1) × Nat)} {u : Bool} (h : RK S fa ma a b I n v m d F σ p0 o u σ') : u = o.isSome := by
  obtain ⟨-, h⟩ := h
  cases o with
  | none => exact h.1
  | some x => exact h.1
set_option maxHeartbeats 4000000 in
theorem wr_rL (hS : SW S) (hI : ∀ k, I k < 256) (hRT : RT sp) (hR : ¬ 8 ≤ dp → WM z S fa ma ea od a b I n d rec (dp + 1) sp) (h8 : 8 ≤ dp → ∀ m p e T, sp m p e T = none) (hdp : 1 ≤ dp ∧ dp ≤ 8) (hd1 : ¬ 8 ≤ dp → 1 ≤ d) (hza : z ≤ a) (hm : m < S.1) {e : Nat} (he : e ≤ n) : ∀ (c N p : Nat) (T : TV (d + 1)) (F : Nat → Prop) (σ : ST), HSc z σ S fa ma ea od → WRd σ a b I n p → HV S fa ma (d + 1) σ v m T F → (∀ x, F x → z ≤ x ∧ x < sZ σ ∧ x ≠ a ∧ x ≠ b) → TP (d + 1) T p → p ≤ e → e + 1 ≤ c + p → c < N → Rn (fun r : Option Unit × ST => r.2) σ (fun bb => wr_read_L0 bb (rec bb) (some a) (some v) (e : Int) dp N σ) (fun r => FR (fun x => x = a ∨ F x) σ r.2 ∧ (match msgL S I sp m e c p T with | some T' => r.1 = some () ∧ ∃ F', WRd r.2 a b I n e ∧ HV S fa ma (d + 1) r.2 v m T' F' ∧ (∀ y, F' y → F y ∨ (sZ σ ≤ y ∧ y < sZ r.2)) ∧ (∀ y, F y → F' y) ∧ sS r.2 ≤ sS σ + 8 * (e - p) ∧ sC r.2 ≤ sC σ + 5 * (e - p) | none => r.1 = none ∧ sS r.2 ≤ sS σ + (8 * (n - p) + 40) ∧ sC r.2 ≤ sC σ + (5 * (n - p) + 40)))
  | c, 0, p, T, F, σ, _, _, _, _, _, _, _, h => by omega
  | 0, N + 1, p, T, F, σ, _, _, _, _, _, hq, h1, _ => by omega
  | c + 1, N + 1, p, T, F, σ, hH, hW, hV, hF, hT, hp, h1, hN => by
    have hn := hW.2.2.2.2.2.1
    have h7 := hW.2.2.2.2.2.2.1
    have ha := hW.2.2.2.2.2.2.2.2.1
    have hb := hW.2.2.2.2.2.2.2.2.2
    have hz := hH.1
    have hFv := hV.2.2.1
    rw [msgL_tk]
    by_cases ce : e ≤ p
    · rw [if_pos ce]
      have eq : p = e := by omega
      refine Rn_eq (fun bb => by rw [wr_read_L0, bind_some', gd_pos hW.1, h7, gd_pos (by omega), gd_pos (by omega), if_pos (by omega)]) ?_
      exact Rn_some (Le.refl _) ⟨FR.refl _ _, rfl, F, eq ▸ hW, hV, fun x w => Or.inl w, fun x w => w, Nat.le_add_right _ _, Nat.le_add_right _ _⟩
    · rw [if_neg ce]
      refine Rn_eq (fun bb => by rw [wr_read_L0, bind_some', gd_pos hW.1, h7, gd_pos (by omega), gd_pos (by omega), if_neg (by omega)]) ?_
      refine Rn_tB (hW.varint he rfl) (fun σ' _ hr => ⟨rfl, ?_⟩) (fun y σ1 _ hr => ?_)
      · cases ev : vrS I e p with
        | some t => rw [ev] at hr; cases hr
        | none =>
          rw [ev] at hr
          obtain ⟨j, j1, j2⟩ := hr
          cases j2
          refine ⟨?_, rfl, ?_, ?_⟩
          · exact ((FR.at1 (W := fun y => y = a) (at_pI σ 177 a (j : Int)) rfl).tr (FR.nX (fun _ => False) _) (fun x _ w => w.elim)).or
          · show sS σ + 6 ≤ _; omega
          · show sC σ + 1 ≤ _; omega
      · cases ev : vrS I e p with
        | none => rw [ev] at hr; obtain ⟨j, j1, j2⟩ := hr; cases j2
        | some t =>
          rw [ev] at hr
          cases hr
          have tb := vrS_bd ev
          obtain ⟨X, hX⟩ : ∃ X, X = pI σ 177 a (t.1 : Int) := ⟨_, rfl⟩
          have hWX : WRd X a b I n t.1 := by rw [hX]; exact hW.to (by omega)
          have FX : FR (fun x => x = a) σ X := by rw [hX]; exact FR.at1 (at_pI σ 177 a (t.1 : Int)) rfl
          have sX : sS X = sS σ := by rw [hX]; rfl
          have cX : sC X = sC σ := by rw [hX]; rfl
          have zX : sZ X = sZ σ := by rw [hX]; rfl
          show Rn (fun r : Option Unit × ST => r.2) (pI σ 177 a (t.1 : Int)) _ _
          rw [← hX]
          have h8' := Nat.mod_lt (un t.2) (show 0 < 8 by decide)
          refine Rn_eq (fun bb => by rw [nm_eq, nm_eq, and7]) ?_
          -- a bad tag
          have bad : ∀ (o : Option (TV (d + 1))), o = none → FR (fun x => x = a ∨ F x) σ (nX X) ∧ (match o with | some T' => (none : Option Unit) = some () ∧ ∃ F', WRd (nX X) a b I n e ∧ HV S fa ma (d + 1) (nX X) v m T' F' ∧ (∀ y, F' y → F y ∨ (sZ σ ≤ y ∧ y < sZ (nX X))) ∧ (∀ y, F y → F' y) ∧ sS (nX X) ≤ sS σ + 8 * (e - p) ∧ sC (nX X) ≤ sC σ + 5 * (e - p) | none => (none : Option Unit) = none ∧ sS (nX X) ≤ sS σ + (8 * (n - p) + 40) ∧ sC (nX X) ≤ sC σ + (5 * (n - p) + 40)) := fun o ho => by
            subst ho
            refine ⟨FX.or.tr (FR.nX (fun _ => False) X) (fun x _ w => w.elim), rfl, ?_, ?_⟩
            · show sS X + 6 ≤ _; omega
            · show sC X + 1 ≤ _; omega
          show Rn (fun r : Option Unit × ST => r.2) X _ (fun r : Option Unit × ST => FR (fun x => x = a ∨ F x) σ r.2 ∧ (match (if un t.2 / 8 = 0 ∨ 536870911 < un t.2 / 8 then none else _ : Option (TV (d + 1))) with | some T' => _ | none => _))
          by_cases cb : un t.2 / 8 = 0 ∨ 536870911 < un t.2 / 8
          · rw [if_pos cb]
            refine Rn_eq (fun bb => by rw [if_pos ((ush3_s t.2).mpr cb), bind_some']) ?_
            exact Rn_must (Or.inl rfl) (fun _ => ⟨rfl, bad none rfl⟩) (fun w => by omega)
          · rw [if_neg cb]
            refine Rn_eq (fun bb => by rw [if_neg (fun w => cb ((ush3_s t.2).mp w)), gd_pos (by omega)]) ?_
            obtain ⟨k, hk⟩ : ∃ k, k = un t.2 / 8 := ⟨_, rfl⟩
            obtain ⟨kd, hkd⟩ : ∃ kd, kd = un t.2 % 8 := ⟨_, rfl⟩
            rw [← hk, ← hkd]
            rw [← hk] at cb
            by_cases ck : kd = 0 ∨ kd = 1 ∨ kd = 2 ∨ kd = 5
            · refine Rn_eq (fun bb => by rw [if_pos (show (kd : Int) < 3 ∨ (kd : Int) = 5 by omega), bind_some']) ?_
              refine Rn_must (Or.inr rfl) (fun w => by omega) (fun _ => ?_)
              have hHX : HSc z X S fa ma ea od := hH.ge hS FX (fun x w => by rw [w]; exact hza)
              have smX : ∀ x, F x → Sm1 σ X x := fun x w => ⟨(FX.2 x (hF x w).2.1).2 (hF x w).2.2.1, (FX.2 x (hF x w).2.1).1⟩
              have hVX : HV S fa ma (d + 1) X v m T F := HV_kept (d + 1) v m T F hV (fun x w _ => smX x w) FX.1.1
              have hFX : ∀ x, F x → z ≤ x ∧ x < sZ X ∧ x ≠ a ∧ x ≠ b := fun x w => by rw [zX]; exact hF x w
              have hTX : TP (d + 1) T t.1 := hT.mono (by omega)
              have r160 : sR X 160 v = some (ma m) := hVX.2.2.2.1
              have m7 : sc X (ma m) = 7 := (hHX.2.2.2.1 m hm).2.1
              have e29 : mt_byNumber (ma m) (lUsh t.2 3) X = some ((byU S m k).map fa) := mt_byNumber_eq hS hHX hm (k := k) (by omega) (by rw [hk, ← un_ush3, lN_un])
              refine Rn_eq (fun bb => by rw [bind_some', gd_pos hVX.1, r160, bind_some', gd_pos m7, e29, bind_some']) ?_
              refine Rn_bind (su := st2) (J := TO2 S fa ma a b I n v m d F X p (tkS S I sp m e k kd t.1 T)) ?_ (fun y _ hy => ?_)
              · -- the record
                have skip : rgt S m k kd = none → Rn st2 X (fun bb => gd (sc X a = 12) (Option.bind (wr_skip bb a (kd : Int) (e : Int) X) (tB (fun z => Sum.inl ((none, z))) fun y60 σ61 => some (Sum.inr σ61)))) (TO2 S fa ma a b I n v m d F X p (tkS S I sp m e k kd t.1 T)) := fun hr => by
                  refine Rn_gd hWX.1 ?_
                  have et : tkS S I sp m e k kd t.1 T = (bodS I e kd t.1).map fun l => (T, l.2) := by
                    unfold tkS
                    cases bodS I e kd t.1 with
                    | none => rfl
                    | some l =>
                      show (stR1 S I sp m (k, kd, l.1, l.2) T).map _ = _
                      unfold stR1
                      rw [hr]; rfl
                  rw [et]
                  refine Rn_tB (hWX.skip he ck rfl rfl) (fun σ' _ hq => ⟨rfl, ?_⟩) (fun y σ' _ hq => ?_)
                  · cases eb : bodS I e kd t.1 with
                    | some l => rw [eb] at hq; cases hq
                    | none =>
                      rw [eb] at hq
                      obtain ⟨j, j1, j2⟩ := hq
                      cases j2
                      refine ⟨false, ⟨?_, rfl, ?_, ?_⟩, rfl⟩
                      · exact ((FR.at1 (W := fun y => y = a) (at_pI X 177 a (j : Int)) rfl).tr (FR.nX (fun _ => False) _) (fun x _ w => w.elim)).or
                      · show sS X + 6 ≤ _; omega
                      · show sC X + 1 ≤ _; omega
                  · cases eb : bodS I e kd t.1 with
                    | none => rw [eb] at hq; obtain ⟨j, j1, j2⟩ := hq; cases j2
                    | some l =>
                      rw [eb] at hq
                      cases hq
                      have lb := bodS_bd eb
                      have FP : FR (fun x => x = a) X (pI X 177 a (l.2 : Int)) := FR.at1 (at_pI X 177 a (l.2 : Int)) rfl
                      refine Rn_some (Le.refl _) ⟨true, ⟨FP.or, rfl, F, hWX.to (by omega), HV_kept (d + 1) v m T F hVX (fun x w lt => ⟨(FP.2 x lt).2 (hF x w).2.2.1, (FP.2 x lt).1⟩) FP.1.1, fun x w => Or.inl w, fun x w => w, ?_, ?_⟩, rfl⟩
                      · show sS X ≤ _; omega
                      · show sC X ≤ _; omega
                cases eb : byU S m k with
                | none =>
                  have eN : Option.map fa (none : Option Nat) = none := rfl
                  have hr : rgt S m k kd = none := by unfold rgt; rw [eb]; rfl
                  refine Rn_eq (fun bb => by rw [eN, gd_ni rfl, gd_ni rfl, gd_ni rfl, gd_ni rfl, gd_ni rfl, if_pos (Or.inl rfl), gd_ni rfl, gd_ni rfl, gd_ni rfl, gd_ni (Or.inl rfl), gd_ni (Or.inl rfl), gd_ni (Or.inl rfl), gd_ni (Or.inl rfl), gd_ni (Or.inl (Or.inl rfl)), if_pos (Or.inl (Or.inl (Or.inl rfl)))]) ?_
                  exact skip hr
                | some f =>
                  have bo := byU_ok S m k
                  rw [eb] at bo
                  have hf : f < nF_ S := bo.1
                  obtain ⟨b1, b2, -, -, -, -, -, -, b9, -⟩ := hHX.2.1 f hf
                  have r01 := (hS.2.2.2.2.1 f hf).2.2.2.2.2.2.1
                  have hwr := wrK_rg S f
                  have eF : Option.map fa (some f) = some (fa f) := rfl
                  have eA : ad (some (fa f)) = fa f := rfl
                  have hrg : rgt S m k kd = if (kd : Int) = wrK S f ∨ (qr S f = 1 ∧ plain S f ∧ kd = 2) then some f else none := by unfold rgt; rw [eb]; rfl
                  refine Rn_eq (fun bb => by rw [eF, eA, fd_wire_eq hS hHX hf, vv_s, fd_plain_eq hS hHX hf, vv_s, b9, gd_pos (by exact fun w => w), gd_pos (by exact fun _ => b2), gd_pos (by exact fun _ => rfl), gd_pos (by omega), gd_pos (by omega)]) ?_
                  by_cases cw : (kd : Int) = wrK S f
                  · refine Rn_eq (fun bb => by rw [if_neg (show ¬ ((some (fa f) = none) ∨ ¬ ((kd : Int) = wrK S f)) from fun w => w.elim (fun u => by cases u) (fun u => u cw))]) ?_
                    rw [if_pos (Or.inl cw)] at hrg
                    refine Rn_tB (wr_take_eq hS hI hR h8 hdp hd1 hHX hWX hza he hrg cw hVX hFX hTX (by have := hT.1; omega) (p0 := p) (by omega)) (fun σ' _ hq => ⟨rfl, ?_⟩) (fun y σ' _ hq => ?_)
                    · exact ⟨false, hq, rfl⟩
                    · exact Rn_some (Le.refl _) ⟨true, hq, rfl⟩
                  · refine Rn_eq (fun bb => by rw [if_pos (show ((some (fa f) = none) ∨ ¬ ((kd : Int) = wrK S f)) from Or.inr cw), gd_pos (by exact fun w => w), gd_pos (by exact fun _ => b2), gd_pos (by omega), gd_pos (by exact fun _ => by simp), gd_pos (by exact fun _ => b2), gd_pos (by exact fun _ => rfl), gd_pos (by exact fun _ => by split <;> omega), gd_pos (by omega)]) ?_
                    by_cases cp : qr S f = 1 ∧ plain S f ∧ kd = 2
                    · -- a packed row
                      obtain ⟨cr, hpl, k2⟩ := cp
                      rw [if_pos (Or.inr ⟨cr, hpl, k2⟩)] at hrg
                      refine Rn_eq (fun bb => by rw [if_neg (show ¬ ((((some (fa f) = none) ∨ (qr S f = 0)) ∨ ((if plain S f then (1 : Int) else 0) = 0)) ∨ (¬ ((kd : Int) = 2))) by
                        rintro (((w | w) | w) | w)
                        · cases w
                        · omega
                        · rw [if_pos hpl] at w; omega
                        · omega), gd_pos hWX.1]) ?_
                      have ebod : bodS I e kd t.1 = lnS I e t.1 := by unfold bodS; rw [if_neg (by omega), if_pos k2]
                      refine Rn_tB (hWX.length he rfl) (fun σ' _ hq => ⟨rfl, ?_⟩) (fun y σ' _ hq => ?_)
                      · cases el : lnS I e t.1 with
                        | some l => rw [el] at hq; cases hq
                        | none =>
                          rw [el] at hq
                          obtain ⟨j, j1, j2⟩ := hq
                          cases j2
                          unfold tkS
                          rw [ebod, el]
                          refine ⟨false, ⟨?_, rfl, ?_, ?_⟩, rfl⟩
                          · exact ((FR.at1 (W := fun y => y = a) (at_pI X 177 a (j : Int)) rfl).tr (FR.nX (fun _ => False) _) (fun x _ w => w.elim)).or
                          · show sS X + 6 ≤ _; omega
                          · show sC X + 1 ≤ _; omega
                      · cases el : lnS I e t.1 with
                        | none => rw [el] at hq; obtain ⟨j, j1, j2⟩ := hq; cases j2
                        | some l =>
                          rw [el] at hq
                          cases hq
                          have lb := lnS_bd el
                          obtain ⟨Z, hZ⟩ : ∃ Z, Z = pI X 177 a (l.1 : Int) := ⟨_, rfl⟩
                          have FZ : FR (fun x => x = a) X Z := by rw [hZ]; exact FR.at1 (at_pI X 177 a (l.1 : Int)) rfl
                          have hWZ : WRd Z a b I n l.1 := by rw [hZ]; exact hWX.to (by omega)
                          have hHZ : HSc z Z S fa ma ea od := hHX.ge hS FZ (fun x w => by rw [w]; exact hza)
                          have hVZ : HV S fa ma (d + 1) Z v m T F := HV_kept (d + 1) v m T F hVX (fun x w lt => ⟨(FZ.2 x lt).2 (hF x w).2.2.1, (FZ.2 x lt).1⟩) FZ.1.1
                          have zZ : sZ Z = sZ X := by rw [hZ]; rfl
                          have sZ' : sS Z = sS X := by rw [hZ]; rfl
                          have cZ : sC Z = sC X := by rw [hZ]; rfl
                          show Rn st2 (pI X 177 a (l.1 : Int)) _ _
                          rw [← hZ]
                          have et : tkS S I sp m e k kd t.1 T = (pkN S I f l.2 (l.2 - l.1 + 1) l.1).map fun xs => (xs.foldl (nuT S f) T, l.2) := by
                            unfold tkS
                            rw [ebod, el]
                            show (stR1 S I sp m (k, kd, l.1, l.2) T).map (fun T' => (T', l.2)) = _
                            unfold stR1
                            rw [hrg]
                            show Option.map _ (if plain S f then (if kd = 2 then (pkS S I f l.1 l.2).map (fun xs => xs.foldl (nuT S f) T) else _) else _) = _
                            rw [if_pos hpl, if_pos k2]
                            unfold pkS
                            rw [pkL_N]
                            cases pkN S I f l.2 (l.2 - l.1 + 1) l.1 <;> rfl
                          rw [et]
                          refine Rn_bind (su := st3) (wr_pkL hS hza hf hpl (e := l.2) (by omega) (e : Int) dp (l.2 - l.1 + 1) FU l.1 T F Z hHZ hWZ hVZ (fun x w => by rw [zZ]; exact hFX x w) (hTX.mono (by omega)) lb.2.1 (by omega) (FU_gt (by omega))) (fun y _ hy => ?_)
                          obtain ⟨hy1, hy2⟩ := hy
                          obtain ⟨W, hWd⟩ : ∃ W, W = st3 y := ⟨_, rfl⟩
                          rw [← hWd] at hy1 hy2
                          have FW : FR (fun x => x = a ∨ F x) X W := FZ.or.tr hy1 (fun x _ w => w)
                          cases ep : pkN S I f l.2 (l.2 - l.1 + 1) l.1 with
                          | none =>
                            rw [ep] at hy2
                            obtain ⟨w1, w2, w3⟩ := hy2
                            subst w1
                            refine Rn_some (Le.refl _) ⟨false, ⟨FW, rfl, ?_, ?_⟩, rfl⟩
                            · show sS W ≤ _; omega
                            · show sC W ≤ _; omega
                          | some xs =>
                            rw [ep] at hy2
                            obtain ⟨w1, F', w2, w3, w4, w5, w6, w7⟩ := hy2
                            subst w1
                            refine Rn_some (Le.refl _) ⟨true, ⟨FW, rfl, F', w2, w3, fun x w => by rw [← zZ]; exact w4 x w, w5, ?_, ?_⟩, rfl⟩
                            · show sS W ≤ sS X + 8 * (l.2 - p); omega
                            · show sC W ≤ sC X + 5 * (l.2 - p); omega
                    · rw [if_neg (fun w => w.elim cw cp)] at hrg
                      refine Rn_eq (fun bb => by rw [if_pos (show ((((some (fa f) = none) ∨ (qr S f = 0)) ∨ ((if plain S f then (1 : Int) else 0) = 0)) ∨ (¬ ((kd : Int) = 2))) by
                        by_cases c1 : qr S f = 0
                        · exact Or.inl (Or.inl (Or.inr c1))
                        · by_cases c2 : plain S f
                          · right
                            intro w
                            exact cp ⟨by omega, c2, by omega⟩
                          · left; right; rw [if_neg c2])]) ?_
                      exact skip hrg
              · -- behind the record
                obtain ⟨u, hrk, hyu⟩ := hy
                have hu := hrk.frm
                obtain ⟨Y, hY⟩ : ∃ Y, Y = st2 y := ⟨_, rfl⟩
                rw [← hY] at hrk hyu
                have FY : FR (fun x => x = a ∨ F x) σ Y := FX.or.tr hrk.1 (fun x _ w => w)
                cases et : tkS S I sp m e k kd t.1 T with
                | none =>
                  rw [et] at hrk hu
                  have hu' : u = false := hu
                  rw [hu', if_neg (by decide)] at hyu
                  subst hyu
                  refine Rn_some (Le.refl _) ⟨FY, rfl, ?_, ?_⟩
                  · have := hrk.2.2.1; show sS Y ≤ _; omega
                  · have := hrk.2.2.2; show sC Y ≤ _; omega
                | some x =>
                  rw [et] at hrk hu
                  have hu' : u = true := hu
                  rw [hu', if_pos rfl] at hyu
                  subst hyu
                  obtain ⟨-, -, F', w2, w3, w4, w5, w6, w7⟩ := hrk
                  have xb := tkS_bd et
                  have hTY := tkS_TP hRT (p := p) (by omega) hT et
                  have hHY : HSc z Y S fa ma ea od := hH.ge hS FY (fun x w => by
                    rcases w with w | w
                    · rw [w]; exact hza
                    · exact (hF x w).1)
                  show Rn (fun r : Option Unit × ST => r.2) Y (fun bb => wr_read_L0 bb (rec bb) (some a) (some v) (e : Int) dp N Y) _
                  refine (wr_rL hS hI hRT hR h8 hdp hd1 hza hm he c N x.2 x.1 F' Y hHY w2 w3 (fun y w => by
                    have zY := FY.1.1
                    rcases w4 y w with q | q
                    · have := hF y q; omega
                    · omega) hTY xb.2 (by omega) (by omega)).mono (fun r _ hr => ?_)
                  obtain ⟨hr1, hr2⟩ := hr
                  refine ⟨FY.tr hr1 (fun y hy w => by
                    rcases w with w | w
                    · exact Or.inl w
                    · rcases w4 y w with q | q
                      · exact Or.inr q
                      · omega), ?_⟩
                  show (match msgL S I sp m e c x.2 x.1 with | some T' => _ | none => _)
                  cases em : msgL S I sp m e c x.2 x.1 with
                  | none =>
                    rw [em] at hr2
                    exact ⟨hr2.1, by have := hr2.2.1; omega, by have := hr2.2.2; omega⟩
                  | some T' =>
                    rw [em] at hr2
                    obtain ⟨v1, F2, v2, v3, v4, v5, v6, v7⟩ := hr2
                    have zY := FY.1.1
                    have zR := hr1.1.1
                    refine ⟨v1, F2, v2, v3, fun y w => ?_, fun y w => v5 y (w5 y w), by omega, by omega⟩
                    rcases v4 y w with q | q
                    · rcases w4 y q with r' | r'
                      · exact Or.inl r'
                      · right; omega
                    · right; omega
            · refine Rn_eq (fun bb => by rw [if_neg (show ¬ ((kd : Int) < 3 ∨ (kd : Int) = 5) by omega), bind_some']) ?_
              have eb : bodS I e kd t.1 = none := by unfold bodS; rw [if_neg (by omega), if_neg (by omega), if_neg (by omega)]
              refine Rn_must (Or.inl rfl) (fun _ => ⟨rfl, bad _ ?_⟩) (fun w => by omega)
              unfold tkS
              rw [eb]; rfl
theorem wr_read_eq (hS : SW S) (hI : ∀ k, I k < 256) (hza : z ≤ a) : ∀ (d N : Nat), 1 ≤ d → d ≤ 8 → d ≤ N → WM z S fa ma ea od a b I n d (fun bb => wr_read bb N) (9 - (d : Int)) (msgS S I d)
  | 0, N, h, _, _ => by omega
  | d + 1, 0, _, _, h => by omega
  | d + 1, N + 1, h1, h8, hN => fun m p e va T F σ hm hp he hH hW hV hF hT => by
    have hn := hW.2.2.2.2.2.1
    have hR : ¬ 8 ≤ (9 - ((d + 1 : Nat) : Int)) → WM z S fa ma ea od a b I n d (fun bb => wr_read bb N) (9 - ((d + 1 : Nat) : Int) + 1) (msgS S I d) := fun w => by
      have := wr_read_eq hS hI hza d N (by omega) (by omega) (by omega)
      rw [show (9 - ((d + 1 : Nat) : Int) + 1) = 9 - (d : Int) by omega]
      exact this
    have h0 : 8 ≤ (9 - ((d + 1 : Nat) : Int)) → ∀ m p e T, msgS S I d m p e T = none := fun w => by
      have : d = 0 := by omega
      subst this
      intro m p e T
      rfl
    show Rn (fun r : Option Unit × ST => r.2) σ (fun bb => wr_readb bb (wr_read bb N) (some a) (some va) (e : Int) (9 - ((d + 1 : Nat) : Int)) σ) _
    unfold wr_readb
    refine (wr_rL (rec := fun bb => wr_read bb N) hS hI (msgS_TP d) hR h0 (by omega) (fun w => by omega) hza hm he (e - p + 1) FU p T F σ hH hW hV hF hT hp (by omega) (FU_gt (by omega))).mono (fun r _ hr => ⟨hr.1, ?_⟩)
    have em : msgS S I (d + 1) m p e T = msgL S I (msgS S I d) m e (e - p + 1) p T := rfl
    rw [em]
    have h2 := hr.2
    cases e2 : msgL S I (msgS S I d) m e (e - p + 1) p T with
    | none => rw [e2] at h2; exact h2
    | some T' => rw [e2] at h2; exact h2
end Tr
