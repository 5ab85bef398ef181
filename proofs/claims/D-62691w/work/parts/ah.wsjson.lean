set_option maxRecDepth 100000
/-! toJson: the system -/
/-- the schema's objects lie from y on -/
def HSy (y : Nat) (σ : ST) (S : SC) (fa ma ea : Nat → Nat) : Prop :=
  (∀ f, f < nF_ S → y ≤ fa f ∧ (∀ r, sR σ 129 (fa f) = some r → y ≤ r) ∧ ∀ r, sR σ 130 (fa f) = some r → y ≤ r) ∧
  (∀ m, m < S.1 → y ≤ ma m ∧ ∀ r, sR σ 103 (ma m) = some r → y ≤ r) ∧
  ∀ e, e < S.2.1 → y ≤ ea e ∧ (∀ r, sR σ 114 (ea e) = some r → y ≤ r ∧ ∀ j, j < (vls S e).length → y ≤ (sA σ r).getD j 0) ∧ ∀ r, sR σ 115 (ea e) = some r → y ≤ r
section Wj
variable {y z : Nat} {σ σ' : ST} {S : SC} {fa ma ea : Nat → Nat} {od : Nat → List Nat} {a b n m : Nat} {I : Nat → Nat}
theorem HSy.nr (hH : HSc z σ S fa ma ea od) (h : HSy y σ S fa ma ea) (ha : a < y ∨ z ≤ a) : NR a σ S fa ea := by
  refine ⟨fun f hf => ?_, fun e nl j he hn hj q => ?_⟩
  · obtain ⟨-, -, -, ⟨r1, e1, l1, -⟩, ⟨r2, e2, l2, -⟩, -⟩ := hH.2.1 f hf
    obtain ⟨-, h1, h2⟩ := h.1 f hf
    have w1 := h1 r1 e1
    have w2 := h2 r2 e2
    refine ⟨fun q => ?_, fun q => ?_⟩
    · rw [e1] at q; have := Option.some.inj q; omega
    · rw [e2] at q; have := Option.some.inj q; omega
  · obtain ⟨-, -, -, nl', va, c1, c2, c3, c4, c5, c6, c7, c8, c9⟩ := hH.2.2.2.2.2 e he
    have e1 : nl = nl' := Option.some.inj (hn.symm.trans c1)
    subst e1
    obtain ⟨⟨r, e2, l2, -⟩, -⟩ := c9 j hj
    have := ((h.2.2 e he).2.1 nl hn).2 j hj
    have := Option.some.inj e2
    omega
/-- a schema stays when nothing of it was written -/
theorem HS2.kept (h : HSc z σ S fa ma ea od) (hy : HSy y σ S fa ma ea) (hF : FR (fun b => b < y ∨ z ≤ b) σ σ') : HSc z σ' S fa ma ea od ∧ HSy y σ' S fa ma ea := by
  obtain ⟨h1, h2, h3, h4, h5, h6⟩ := h
  obtain ⟨y1, y2, y3⟩ := hy
  have sm : ∀ x, y ≤ x → x < z → SameB σ σ' x ∧ sc σ' x = sc σ x := fun x hx hz => ⟨(hF.2 x (by omega)).2 (by omega), (hF.2 x (by omega)).1⟩
  have rw0 : ∀ (x u : Option Nat) (w : List UInt8), u = x → (∀ r, x = some r → y ≤ r) → Rw0 z σ x w → Rw0 z σ' u w := fun x u w e hn q => by
    obtain ⟨b, a1, a2, a3, a4⟩ := q
    have hb := hn b a1
    exact ⟨b, by rw [e]; exact a1, a2, by rw [(sm b hb a2).2]; exact a3, by rw [(sm b hb a2).1.1]; exact a4⟩
  have sI' : ∀ k x, y ≤ x → x < z → sI σ' k x = sI σ k x := fun k x hn hx => (sm x hn hx).1.2.2.2.2.2.2.2.1 k
  have sR' : ∀ k x, y ≤ x → x < z → sR σ' k x = sR σ k x := fun k x hn hx => (sm x hn hx).1.2.2.2.2.2.2.2.2.2 k
  refine ⟨⟨Nat.le_trans h1 hF.1.1, fun f hf => ?_, h3, fun m hm => ?_, h5, fun e he => ?_⟩, fun f hf => ?_, fun m hm => ?_, fun e he => ?_⟩
  · obtain ⟨b1, b2, b3, b4, b5, b6, b7, b8, b9, b10, b11, b12, b13⟩ := h2 f hf
    obtain ⟨w, u1, u2⟩ := y1 f hf
    refine ⟨b1, by rw [(sm _ w b1).2]; exact b2, by rw [sR' _ _ w b1]; exact b3, rw0 _ _ _ (sR' _ _ w b1) u1 b4, rw0 _ _ _ (sR' _ _ w b1) u2 b5, by rw [sI' _ _ w b1]; exact b6, by rw [sI' _ _ w b1]; exact b7, by rw [sI' _ _ w b1]; exact b8, by rw [sI' _ _ w b1]; exact b9, by rw [sI' _ _ w b1]; exact b10, by rw [sR' _ _ w b1]; exact b11, by rw [sR' _ _ w b1]; exact b12, ?_⟩
    rw [sI' _ _ w b1]; exact b13
  · obtain ⟨b1, b2, b3, ⟨oa, c1, c2, c3, c4, c5⟩, b5, b6, b7⟩ := h4 m hm
    obtain ⟨w, u1⟩ := y2 m hm
    have w2 := u1 oa c1
    refine ⟨b1, by rw [(sm _ w b1).2]; exact b2, by rw [sI' _ _ w b1]; exact b3, ⟨oa, by rw [sR' _ _ w b1]; exact c1, c2, by rw [(sm _ w2 c2).2]; exact c3, by rw [(sm _ w2 c2).1.2.2.1]; exact c4, fun j hj => by rw [(sm _ w2 c2).1.2.2.2.2.2.1]; exact c5 j hj⟩, b5, b6, b7⟩
  · obtain ⟨b1, b2, b3, nl, va, c1, c2, c3, c4, c5, c6, c7, c8, c9⟩ := h6 e he
    obtain ⟨w, u1, u2⟩ := y3 e he
    have w2 := (u1 nl c1).1
    have w3 := u2 va c4
    refine ⟨b1, by rw [(sm _ w b1).2]; exact b2, by rw [sI' _ _ w b1]; exact b3, nl, va, by rw [sR' _ _ w b1]; exact c1, c2, by rw [(sm _ w2 c2).2]; exact c3, by rw [sR' _ _ w b1]; exact c4, c5, by rw [(sm _ w3 c5).2]; exact c6, by rw [(sm _ w3 c5).1.2.2.1]; exact c7, by rw [(sm _ w2 c2).1.2.1]; exact c8, fun j hj => ?_⟩
    obtain ⟨d1, d2⟩ := c9 j hj
    refine ⟨rw0 _ _ _ (by rw [(sm _ w2 c2).1.2.1]) (fun r q => by rw [← Option.some.inj q]; exact (u1 nl c1).2 j hj) d1, ?_⟩
    rw [(sm _ w3 c5).1.2.2.2.2.1]; exact d2
  · obtain ⟨b1, b2, -⟩ := h2 f hf
    obtain ⟨w, u1, u2⟩ := y1 f hf
    rw [sR' _ _ w b1, sR' _ _ w b1]
    exact ⟨w, u1, u2⟩
  · obtain ⟨b1, -⟩ := h4 m hm
    obtain ⟨w, u1⟩ := y2 m hm
    rw [sR' _ _ w b1]
    exact ⟨w, u1⟩
  · obtain ⟨b1, b2, b3, nl, va, c1, c2, c3, -⟩ := h6 e he
    obtain ⟨w, u1, u2⟩ := y3 e he
    rw [sR' _ _ w b1, sR' _ _ w b1]
    refine ⟨w, fun r hr => ?_, u2⟩
    have q := u1 r hr
    have e1 : r = nl := Option.some.inj (hr.symm.trans c1)
    rw [(sm r q.1 (by rw [e1]; exact c2)).1.2.1]
    exact q
theorem NR.kept (h : NR a σ S fa ea) (hH : HSc z σ S fa ma ea od) (hF : FR (fun b => z ≤ b) σ σ') : NR a σ' S fa ea := by
  obtain ⟨h1, h2, h3, h4, h5, h6⟩ := hH
  have sm : ∀ x, x < z → SameB σ σ' x := fun x hx => (hF.2 x (by omega)).2 (by omega)
  refine ⟨fun f hf => ?_, fun e nl j he hn hj => ?_⟩
  · rw [(sm _ (h2 f hf).1).2.2.2.2.2.2.2.2.2 129, (sm _ (h2 f hf).1).2.2.2.2.2.2.2.2.2 130]
    exact h.1 f hf
  · obtain ⟨b1, b2, b3, nl', va, c1, c2, -⟩ := h6 e he
    rw [(sm _ b1).2.2.2.2.2.2.2.2.2 114] at hn
    have e1 : nl = nl' := Option.some.inj (hn.symm.trans c1)
    rw [(sm nl (by rw [e1]; exact c2)).2.1]
    exact h.2 e nl j he hn hj
/-- a new value and a new reader of the wire -/
def wrN (σ : ST) (mm b : Nat) : ST := pR (nO (pR (nO σ 11 4) 160 (sZ σ) (some mm)) 12 2) 176 (sZ σ + 1) (some b)
theorem wrN_fr (σ : ST) (mm b : Nat) : FR (fun _ => False) σ (wrN σ mm b) := by
  have a1 := FR.nO (fun _ => False) σ 11 4
  have a2 := a1.tr (FR.at1 (W := fun x => x = sZ σ) (at_pR _ 160 (sZ σ) (some mm)) rfl) (fun x h q => by omega)
  have a3 := a2.tr (FR.nO (fun _ => False) _ 12 2) (fun x _ q => q)
  exact a3.tr (FR.at1 (W := fun x => x = sZ σ + 1) (at_pR _ 176 (sZ σ + 1) (some b)) rfl) (fun x h q => by omega)
theorem wrN_ok {mm : Nat} (h1 : sc σ b = 101) (h2 : sN σ b = 1000) (h3 : ∀ k, k < n → (sB σ b k).toNat = I k) (hn : n ≤ 1000) (hb : b < sZ σ) : WRd (wrN σ mm b) (sZ σ + 1) b I n 0 := by
  have F := wrN_fr σ mm b
  have sb := (F.2 b hb).2 (fun q => q)
  refine ⟨?_, ?_, by rw [(F.2 b hb).1]; exact h1, by rw [sb.2.2.1]; exact h2, fun k hk => by rw [sb.2.2.2.1]; exact h3 k hk, hn, ?_, by omega, ?_, ?_⟩
  · show (if sZ σ + 1 = sZ σ + 1 then 12 else _) = 12
    rw [if_pos rfl]
  · unfold wrN; rw [sR_pR, if_pos ⟨rfl, rfl⟩]
  · unfold wrN
    rw [sI_pR, sI_nO_, if_pos (show sZ σ + 1 = sZ (pR (nO σ 11 4) 160 (sZ σ) (some mm)) from rfl)]; rfl
  · show sZ σ + 1 < sZ σ + 1 + 1; omega
  · show b < sZ σ + 1 + 1; omega
theorem ws_json_eq (hS : SW S) (hN : SN S) (hI : ∀ k, I k < 256) (hm : m < S.1) (hH : HSc z σ S fa ma ea od) {a0 w0 : Nat} (hnr : NR w0 σ S fa ea) (hSI : SIn σ a0 b I n) (h6 : sR σ 6 a0 = some w0) (hR : RW σ w0) (hw0 : w0 < sZ σ) : Rn (fun r : Option Nat × ST => r.2) σ (fun bb => ws_json bb a0 (some (ma m)) σ) (fun r => match toJ S od I n m with | some w => r.1 = some w0 ∧ FR (fun x => x = w0) σ r.2 ∧ sW r.2 w0 = w ∧ RW r.2 w0 ∧ sS r.2 + rp (sN σ w0) ≤ sS σ + rp (sN r.2 w0) + (8 * n + 6) ∧ sC r.2 + sN σ w0 / 8 ≤ sC σ + sN r.2 w0 / 8 + (5 * n + 2) ∧ (∀ K, sN σ w0 = cpF K → sN r.2 w0 = cpF (max K w.length)) | none => r.1 = none ∧ FR (fun _ => False) σ r.2 ∧ sS r.2 ≤ sS σ + (8 * n + 46) ∧ sC r.2 ≤ sC σ + (5 * n + 42)) := by
  obtain ⟨n1, n2, n3, n4, n5, n6, n7, n8, n9⟩ := hSI
  have hz := hH.1
  obtain ⟨Y0, hY0⟩ : ∃ Y0, Y0 = pR (nO σ 11 4) 160 (sZ σ) (some (ma m)) := ⟨_, rfl⟩
  have zY0 : sZ Y0 = sZ σ + 1 := by rw [hY0]; rfl
  obtain ⟨Y1, hY1⟩ : ∃ Y1, Y1 = wrN σ (ma m) b := ⟨_, rfl⟩
  have F1 : FR (fun _ => False) σ Y1 := by rw [hY1]; exact wrN_fr σ (ma m) b
  have hW1 : WRd Y1 (sZ σ + 1) b I n 0 := by rw [hY1]; exact wrN_ok n4 n5 n6 n7 n8
  have zY1 : sZ Y1 = sZ σ + 2 := by rw [hY1]; rfl
  have sY1 : sS Y1 = sS σ + 6 := by rw [hY1]; rfl
  have cY1 : sC Y1 = sC σ + 2 := by rw [hY1]; rfl
  have hH1 : HSc z Y1 S fa ma ea od := hH.kept hS ⟨F1.1, fun x hx => ⟨(F1.2 x hx).1, fun _ => (F1.2 x hx).2 (fun q => q)⟩⟩
  have hV1 : HV S fa ma 8 Y1 (sZ σ) m (emp 8) (fun x => x = sZ σ) := by
    refine HV_new ?_ (by omega) rfl ?_ ?_ ?_
    · rw [hY1]
      show (if sZ σ = sZ σ + 1 then 12 else if sZ σ = sZ σ then 11 else sc σ (sZ σ)) = 11
      rw [if_neg (by omega), if_pos rfl]
    · rw [hY1]; unfold wrN
      rw [sR_pR, if_neg (by omega), sR_nO_, if_neg (by show sZ σ ≠ sZ σ + 1; omega), sR_pR, if_pos ⟨rfl, rfl⟩]
    · rw [hY1]; unfold wrN
      rw [sR_pR, if_neg (by omega), sR_nO_, if_neg (by show sZ σ ≠ sZ σ + 1; omega), sR_pR, if_neg (by omega), sR_nO_, if_pos rfl]
    · rw [hY1]; unfold wrN
      rw [sR_pR, if_neg (by omega), sR_nO_, if_neg (by show sZ σ ≠ sZ σ + 1; omega), sR_pR, if_neg (by omega), sR_nO_, if_pos rfl]
  have eV : ∀ bb, vlu_init bb (sZ σ) (some (ma m)) (nO σ 11 4) = some Y0 := fun bb => by
    unfold vlu_init
    rw [gd_pos (by rw [sc_nO_, if_pos rfl]), nm_eq, hY0]
  have m0 := F1.2 a0 n2
  have m0s := m0.2 (fun q => q)
  have q1 : sc (nO Y0 12 2) a0 = 1 := by
    rw [sc_nO_, if_neg (by omega), hY0]
    show (if a0 = sZ σ then 11 else sc σ a0) = 1
    rw [if_neg (by omega)]; exact n1
  have q2 : sR (nO Y0 12 2) 1 a0 = some b := by
    rw [sR_nO_, if_neg (by omega), hY0, sR_pR, if_neg (by omega), sR_nO_, if_neg (by omega)]; exact n3
  have eW : ∀ bb, wr_init bb (sZ Y0) (some b) (nO Y0 12 2) = some Y1 := fun bb => by
    unfold wr_init
    rw [gd_pos (by rw [sc_nO_, if_pos rfl]), nm_eq, hY1]
    unfold wrN
    rw [← hY0, zY0]
  have q3 : sc Y1 a0 = 1 := by rw [m0.1]; exact n1
  have q4 : sI Y1 3 a0 = (n : Int) := by rw [m0s.2.2.2.2.2.2.2.1]; exact n9
  unfold ws_json
  refine Rn_rm (σ1 := Y0) (by rw [hY0]; exact Nat.le_refl _) (by rw [hY0]; exact Nat.le_refl _) (by omega) ?_
  refine Rn_eq (fun bb => by rw [nm_eq, eV bb, bind_some']) ?_
  refine Rn_rm (σ1 := Y1) (by rw [hY1, hY0]; exact Nat.le_refl _) (by rw [hY1, hY0]; exact Nat.le_refl _) (by omega) ?_
  refine Rn_eq (fun bb => by rw [nm_eq, gd_pos q1, q2, eW bb, bind_some', gd_pos q3, q4, zY0]) ?_
  have hrd := wr_read_eq (a := sZ σ + 1) (b := b) (n := n) (fa := fa) (ma := ma) (ea := ea) (od := od) (z := z) hS hI (by omega) 8 12 (by omega) (by omega) (by omega)
  rw [show (9 - ((8 : Nat) : Int)) = 1 by decide] at hrd
  have hrd1 := hrd m 0 n (sZ σ) (emp 8) (fun x => x = sZ σ) Y1 hm (Nat.zero_le _) (Nat.le_refl _) hH1 hW1 hV1 (fun x q => by omega) (TP_emp 8 0)
  unfold toJ
  refine Rn_tC hrd1 (fun σ' _ hr => ?_) (fun y σ' _ hr => ?_)
  · obtain ⟨FR1, hr⟩ := hr
    change FR (fun x => x = sZ σ + 1 ∨ x = sZ σ) Y1 σ' at FR1
    cases em : msgS S I 8 m 0 n (emp 8) with
    | some T => rw [em] at hr; cases hr.1
    | none =>
      rw [em] at hr
      obtain ⟨-, r2, r3⟩ := hr
      change sS σ' ≤ _ at r2
      change sC σ' ≤ _ at r3
      exact Rn_some (Le.refl _) ⟨rfl, F1.tr FR1 (fun x hx q => by omega), by show sS σ' ≤ _; omega, by show sC σ' ≤ _; omega⟩
  · obtain ⟨FR1, hr⟩ := hr
    change FR (fun x => x = sZ σ + 1 ∨ x = sZ σ) Y1 σ' at FR1
    cases em : msgS S I 8 m 0 n (emp 8) with
    | none => rw [em] at hr; cases hr.1
    | some T =>
      rw [em] at hr
      obtain ⟨-, F', r1, r2, r3, r4, r5, r6⟩ := hr
      change HV S fa ma 8 σ' (sZ σ) m T F' at r2
      change ∀ y, F' y → y = sZ σ ∨ (sZ Y1 ≤ y ∧ y < sZ σ') at r3
      change sS σ' ≤ _ at r5
      change sC σ' ≤ _ at r6
      have F2 : FR (fun _ => False) σ σ' := F1.tr FR1 (fun x hx q => by omega)
      have zz' := F2.1.1
      have zz2 := FR1.1.1
      have hH2 : HSc z σ' S fa ma ea od := hH.kept hS ⟨F2.1, fun x hx => ⟨(F2.2 x hx).1, fun _ => (F2.2 x hx).2 (fun q => q)⟩⟩
      have hnr2 : NR w0 σ' S fa ea := hnr.kept hH ⟨F2.1, fun x hx => ⟨(F2.2 x hx).1, fun _ => (F2.2 x hx).2 (fun q => q)⟩⟩
      have s0 := (F2.2 a0 n2).2 (fun q => q)
      have sw := (F2.2 w0 hw0).2 (fun q => q)
      have q5 : sc σ' a0 = 1 := by rw [(F2.2 a0 n2).1]; exact n1
      have q6 : sR σ' 6 a0 = some w0 := by rw [s0.2.2.2.2.2.2.2.2.2]; exact h6
      have q7 : sc σ' w0 = 4 := by rw [(F2.2 w0 hw0).1]; exact hR.1
      have q8 : sN σ' w0 = sN σ w0 := sw.2.2.1
      obtain ⟨X, hX⟩ : ∃ X, X = sWu σ' w0 [] := ⟨_, rfl⟩
      have FX : FR (fun b => b = w0) σ' X := by rw [hX]; exact FR.sWu σ' [] rfl
      have zX : sZ X = sZ σ' := by rw [hX]; rfl
      have sX : sS X = sS σ' := by rw [hX]; rfl
      have cX : sC X = sC σ' := by rw [hX]; rfl
      have nX' : sN X w0 = sN σ w0 := by rw [hX, sN_sWu_]; exact q8
      have wX : sW X w0 = [] := by rw [hX, sW_sWu_, if_pos rfl]
      have RX : RW X w0 := ⟨by rw [(FX.2 w0 (by omega)).1]; exact q7, by rw [wX]; exact Nat.zero_le _, by rw [nX']; exact hR.2.2⟩
      have hHX : HSn w0 z X S fa ma ea od := HSn.frA ⟨hH2, hnr2⟩ q7 FX
      have nF' : ¬ F' w0 := fun w => by
        rcases r3 w0 w with q | q
        · omega
        · omega
      have hVX : HV S fa ma 8 X (sZ σ) m T F' := HV_kept 8 _ m T F' r2 (fun x w l => ⟨(FX.2 x l).2 (fun e => nF' (by rw [← e]; exact w)), (FX.2 x l).1⟩) FX.1.1
      have hTP := msgS_TP 8 m 0 n _ _ (Nat.zero_le _) em (TP_emp 8 0)
      have hTS := msgS_TS 8 m 0 n _ _ n7 em (TS_emp 8)
      have hjl : (js S od 8 m T).length ≤ 28 * n + 2 := toJ_len (I := I) (n := n) hS hN hH.od hm (by unfold toJ; rw [em]; rfl)
      have hjw := jw_write_eq (a := w0) (z := z) (fa := fa) (ma := ma) (ea := ea) (od := od) hS 8 12 (by omega) X (sZ σ) m T F' hHX hVX RX (by omega) nF' (fun x w => by
        rcases r3 x w with q | q
        · omega
        · omega) hm (hTP.z n7) hTS (by rw [wX]; simp only [List.length_nil]; omega)
      have eC : r_clear w0 σ' = some X := by unfold r_clear; rw [gd_pos q7, hX]
      refine Rn_eq (fun bb => by rw [gd_pos q5, nm_eq, q6, bind_some', gd_pos q7, eC, bind_some']) ?_
      refine Rn_le (σ1 := X) FX.1 ?_
      refine Rn_bind (su := id) hjw (fun σ2 _ g => ?_)
      have g' : RA X w0 (js S od 8 m T) σ2 := g
      obtain ⟨g1, g2, g3, g4, c1, c2, c3, c4, c5, c6⟩ := g'
      have F3 : FR (fun x => x = w0) σ σ2 := ((show FR (fun x => x = w0) σ σ' from ⟨F2.1, fun x hx => ⟨(F2.2 x hx).1, fun _ => (F2.2 x hx).2 (fun q => q)⟩⟩).tr FX (fun x _ q => q)).tr g2 (fun x _ q => q)
      refine Rn_some (Le.refl _) ⟨rfl, F3, by show sW σ2 w0 = _; rw [g1, wX, List.nil_append], g4, ?_, ?_, fun K hK => ?_⟩
      · show sS σ2 + rp (sN σ w0) ≤ sS σ + rp (sN σ2 w0) + _
        rw [nX'] at c1
        omega
      · show sC σ2 + sN σ w0 / 8 ≤ sC σ + sN σ2 w0 / 8 + _
        rw [nX'] at c2
        omega
      · have := c6 K (by rw [wX]; exact Nat.zero_le _) (by rw [nX']; exact hK)
        show sN σ2 w0 = cpF (max K (js S od 8 m T).length)
        rw [this, g1, wX, List.nil_append]
end Wj
