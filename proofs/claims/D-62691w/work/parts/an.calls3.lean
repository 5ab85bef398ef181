set_option maxRecDepth 100000
/-! BOTH SIDES TOGETHER: toJson -/
section Tw3
variable {S : SC} {fa ma ea : Nat → Nat} {od : Nat → List Nat} {y z a0 tp b sch ro rs n k : Nat} {w : List UInt8} {σ σ' : ST} {τ τ' : TT}
theorem toJson_eq (h : INV S fa ma ea od y z a0 tp b sch ro rs n k w σ τ) {x : Int} (hx : rg x) : Rn (fun r : Int × ST => r.2) σ (fun bb => ws_toJson bb a0 x σ) (fun r => ∃ τ' ro' rs' w', m_toJson x τ = some (r.1, τ') ∧ rg r.1 ∧ (INV S fa ma ea od y z a0 tp b sch ro' rs' n k w' r.2 τ' ∧ inp r.2 b = inp σ b) ∧ ((ro' = ro ∧ rs' = rs ∧ w' = []) ∨ (ro' = rs ∧ rs' = ro ∧ (if 0 ≤ x ∧ x < (S.1 : Int) then toJ4 S od (inp σ b) n x.toNat else none) = some w')) ∧ sN r.2 ro = sN σ ro ∧ (∀ K, sN σ rs = cpF K → ∃ L, L ≤ 28 * n + 2 ∧ sN r.2 rs = cpF (max K L)) ∧ sS r.2 + rp (sN σ rs) ≤ sS σ + rp (sN r.2 rs) + (8 * n + 46) ∧ sC r.2 + sN σ rs / 8 ≤ sC σ + sN r.2 rs / 8 + (5 * n + 42)) := by
  have hY := h.sys
  obtain ⟨⟨hS, hN, hO⟩, ⟨hH, hHy, hHd⟩, hOWN, h4, ⟨h5, h6⟩, ⟨k1, k2, k3, k4⟩, ⟨e1, h8⟩, h9, h10⟩ := id h
  have o1 := hOWN.1
  have o7 := hOWN.2.2.2.2.2.2.1
  have hRs := hOWN.2.2.2.2.2.2.2.2.2.2.2.1
  have hRo := hOWN.2.2.2.2.2.2.2.2.2.2.1
  have nro := hOWN.2.2.2.2.2.2.2.2.2.2.2.2
  have hM := hS.2.2.1
  have hn := h6.2.1
  obtain ⟨r, τ', q1, q2, q3, q5⟩ := m_toJson_eq (od := od) hS hN hO h10 h6 hx
  have fin : ∀ (σ2 : ST) (ro' rs' : Nat) (w' : List UInt8), SYS S fa ma ea od y z a0 tp b sch ro' rs' n k σ2 → sB σ2 b = sB σ b → sB σ2 tp = sB σ tp → sW σ2 ro' = w' → OW τ' w' → INV S fa ma ea od y z a0 tp b sch ro' rs' n k w' σ2 τ' ∧ inp σ2 b = inp σ b := fun σ2 ro' rs' w' s1 s2 s3 s4 s5 => ⟨INV.make ⟨hS, hN, hO⟩ s1 s2 s3 (h6.tr q2 (by decide) (by decide)) k1 (by rw [(q2 4 (by decide)).1]; exact k3) (fun j hj => by rw [(q2 1 (by decide)).2.2]; exact k4 j hj) s4 s5 (by rw [(q2 58 (by decide)).1]; exact h9) (h10.tr q2 (by decide)), by funext j; unfold inp; rw [s2]⟩
  have eM := ws_isMessage_eq hS hY hx
  have cap0 : ∀ (X : ST), sN X rs = sN σ rs → ∀ K, sN σ rs = cpF K → ∃ L, L ≤ 28 * n + 2 ∧ sN X rs = cpF (max K L) := fun X hX K hK => ⟨0, Nat.zero_le _, by rw [hX, Nat.max_eq_left (Nat.zero_le _)]; exact hK⟩
  unfold ws_toJson
  by_cases c : 0 ≤ x ∧ x < (S.1 : Int)
  · rw [if_pos c] at q5 eM
    obtain ⟨m, rfl⟩ : ∃ m : Nat, x = (m : Int) := ⟨x.toNat, by omega⟩
    rw [Int.toNat_natCast] at q5
    have hm : m < S.1 := by omega
    obtain ⟨ml, m1, m2, m3, m4, m5, m6⟩ := hY.msg hm
    have hnr : NR rs σ S fa ea := HSy.nr hH hHy (h4 rs (by simp))
    have hj := ws_json_eq hS hN (inp_lt σ b) hm hH hnr (hY.in hn) o7 hRs.1 hRs.2
    refine Rn_eq (fun bb => by rw [gd_pos o1, eM, bind_some', gd_pos (by omega), if_neg (by omega), m1, bind_some', gd_pos m2, m3, bind_some', gd_pos m4, m5, bind_some', bind_some', gd_pos m6]) ?_
    rw [if_pos c, Int.toNat_natCast]
    refine Rn_bind (su := fun v : Option Nat × ST => v.2) (J := fun r => match toJ S od (inp σ b) n m with | some w => r.1 = some rs ∧ FR (fun x => x = rs) σ r.2 ∧ sW r.2 rs = w ∧ RW r.2 rs ∧ sS r.2 + rp (sN σ rs) ≤ sS σ + rp (sN r.2 rs) + (8 * n + 6) ∧ sC r.2 + sN σ rs / 8 ≤ sC σ + sN r.2 rs / 8 + (5 * n + 2) ∧ (∀ K, sN σ rs = cpF K → sN r.2 rs = cpF (max K w.length)) | none => r.1 = none ∧ FR (fun _ => False) σ r.2 ∧ sS r.2 ≤ sS σ + (8 * n + 46) ∧ sC r.2 ≤ sC σ + (5 * n + 42)) (Rn_bind hj (fun v _ hv => Rn_some (Le.refl _) hv)) (fun v _ hv => ?_)
    obtain ⟨v1, σ1⟩ := v
    unfold toJ4 at q5 ⊢
    cases ew : toJ S od (inp σ b) n m with
    | none =>
      rw [ew] at hv q5
      obtain ⟨f0, f1, f2, f3⟩ := hv
      change v1 = none at f0
      change FR (fun _ => False) σ σ1 at f1
      change sS σ1 ≤ _ at f2
      change sC σ1 ≤ _ at f3
      subst f0
      obtain ⟨q51, q52⟩ := q5
      have srs := f1.2 rs hRs.2
      have srs' := srs.2 (fun q => q)
      have hR1 : RW σ1 rs := ⟨by rw [srs.1]; exact hRs.1.1, by rw [srs'.1, srs'.2.2.1]; exact hRs.1.2.1, by rw [srs'.2.2.1]; exact hRs.1.2.2⟩
      obtain ⟨hY1, g1, g2, g3, g4⟩ := hY.fr f1 (fun x _ q => q.elim) hR1
      have o1' : sc σ1 a0 = 1 := hY1.2.1.1
      show Rn (fun r : Int × ST => r.2) σ1 (fun bb => gd (sc σ1 a0 = 1) (Option.bind (ws_tell bb a0 none 4000 σ1) fun y21 => some (y21.1, y21.2))) _
      refine Rn_gd o1' ?_
      obtain ⟨r2, σ2, ro', rs', t1, t2, t3, t4, t5, t6, t7, t8, t9, t10, t11⟩ := tell_eq hY1 (lim := 4000) (by omega) none (Or.inl rfl) (fun x q => by cases q) (0, 0)
      subst t10 t11
      have eN : sN σ2 rs' = sN σ rs' := by rw [t6]; exact srs'.2.2.1
      refine Rn_eq (fun bb => by rw [show ws_tell bb a0 none 4000 σ1 = some (r2, σ2) from t1, bind_some']) ?_
      refine Rn_some (show Le σ1 σ2 from ⟨by omega, by omega, by omega⟩) ⟨τ', _, _, [], ?_, ?_, fin σ2 _ _ [] t2 (by rw [t3]; exact g1) (by rw [t3]; exact g2) t9 q52, Or.inl ⟨rfl, rfl, rfl⟩, ?_, cap0 σ2 eN, ?_, ?_⟩
      · show _ = some (r2, τ')
        rw [q1, q51, t8]
      · show rg r2
        rw [t8]; omega
      · show sN σ2 _ = _
        rw [t6]; exact g4
      · show sS σ2 + rp (sN σ rs') ≤ sS σ + rp (sN σ2 rs') + _
        rw [eN]; omega
      · show sC σ2 + sN σ rs' / 8 ≤ sC σ + sN σ2 rs' / 8 + _
        rw [eN]; omega
    | some w' =>
      rw [ew] at hv q5
      have hwl := toJ_len hS hN hO hm ew
      obtain ⟨f0, f1, f9, hR1, f2, f3, f4⟩ := hv
      change v1 = some rs at f0
      change FR (fun x => x = rs) σ σ1 at f1
      change sW σ1 rs = w' at f9
      change RW σ1 rs at hR1
      change sS σ1 + rp (sN σ rs) ≤ sS σ + rp (sN σ1 rs) + _ at f2
      change sC σ1 + sN σ rs / 8 ≤ sC σ + sN σ1 rs / 8 + _ at f3
      change ∀ K, sN σ rs = cpF K → sN σ1 rs = cpF (max K w'.length) at f4
      subst f0
      obtain ⟨hY1, g1, g2, g3, g4⟩ := hY.fr f1 (fun x _ q => q) hR1
      have o1' : sc σ1 a0 = 1 := hY1.2.1.1
      show Rn (fun r : Int × ST => r.2) σ1 (fun bb => gd (sc σ1 a0 = 1) (Option.bind (ws_tell bb a0 (some rs) 4000 σ1) fun y21 => some (y21.1, y21.2))) _
      refine Rn_gd o1' ?_
      obtain ⟨r2, σ2, ro', rs', t1, t2, t3, t4, t5, t6, t7, t8⟩ := tell_eq hY1 (lim := 4000) (by omega) (some rs) (Or.inr (Or.inl rfl)) (fun x q => by cases q; rw [f9]; omega) (0, 0)
      change (if ((sW σ1 rs).length : Int) ≤ 4000 then _ else _) at t8
      rw [f9] at t8
      have q5' : (match (if w'.length ≤ 4000 then some w' else none) with | some w => r = (w.length : Int) ∧ OW τ' w | none => r = -1 ∧ OW τ' []) := q5
      have e4 : (Option.bind (some w') fun w => if w.length ≤ 4000 then some w else none) = if w'.length ≤ 4000 then some w' else none := rfl
      have capN : ∀ K, sN σ rs = cpF K → ∃ L, L ≤ 28 * n + 2 ∧ sN σ2 rs = cpF (max K L) := fun K hK => ⟨w'.length, hwl, by rw [t6]; exact f4 K hK⟩
      by_cases c4 : w'.length ≤ 4000
      · rw [if_pos c4] at q5' e4
        obtain ⟨q51, q52⟩ := q5'
        rw [if_pos (show ((w'.length : Nat) : Int) ≤ 4000 by omega)] at t8
        obtain ⟨t8, t9, t10, t11⟩ := t8
        rw [if_pos rfl] at t11
        subst t10 t11
        refine Rn_eq (fun bb => by rw [show ws_tell bb a0 (some _) 4000 σ1 = some (r2, σ2) from t1, bind_some']) ?_
        refine Rn_some (show Le σ1 σ2 from ⟨by omega, by omega, by omega⟩) ⟨τ', _, _, w', ?_, ?_, fin σ2 _ _ w' t2 (by rw [t3]; exact g1) (by rw [t3]; exact g2) t9 q52, Or.inr ⟨rfl, rfl, e4⟩, ?_, capN, ?_, ?_⟩
        · show _ = some (r2, τ')
          rw [q1, q51, t8]
        · show rg r2
          rw [t8]; omega
        · show sN σ2 _ = _
          rw [t6]; exact g4
        · show sS σ2 + rp (sN σ _) ≤ sS σ + rp (sN σ2 _) + _
          rw [t6]; omega
        · show sC σ2 + sN σ _ / 8 ≤ sC σ + sN σ2 _ / 8 + _
          rw [t6]; omega
      · rw [if_neg c4] at q5' e4
        obtain ⟨q51, q52⟩ := q5'
        rw [if_neg (show ¬ ((w'.length : Nat) : Int) ≤ 4000 by omega)] at t8
        obtain ⟨t8, t9, t10, t11⟩ := t8
        subst t10 t11
        refine Rn_eq (fun bb => by rw [show ws_tell bb a0 (some _) 4000 σ1 = some (r2, σ2) from t1, bind_some']) ?_
        refine Rn_some (show Le σ1 σ2 from ⟨by omega, by omega, by omega⟩) ⟨τ', _, _, [], ?_, ?_, fin σ2 _ _ [] t2 (by rw [t3]; exact g1) (by rw [t3]; exact g2) t9 q52, Or.inl ⟨rfl, rfl, rfl⟩, ?_, capN, ?_, ?_⟩
        · show _ = some (r2, τ')
          rw [q1, q51, t8]
        · show rg r2
          rw [t8]; omega
        · show sN σ2 _ = _
          rw [t6]; exact g4
        · show sS σ2 + rp (sN σ _) ≤ sS σ + rp (sN σ2 _) + _
          rw [t6]; omega
        · show sC σ2 + sN σ _ / 8 ≤ sC σ + sN σ2 _ / 8 + _
          rw [t6]; omega
  · rw [if_neg c] at q5 eM
    obtain ⟨q51, q52⟩ := q5
    obtain ⟨r2, σ2, ro', rs', t1, t2, t3, t4, t5, t6, t7, t8, t9, t10, t11⟩ := tell_eq hY (lim := 4000) (by omega) none (Or.inl rfl) (fun x q => by cases q) (0, 0)
    subst t10 t11
    have eN : sN σ2 rs' = sN σ rs' := by rw [t6]
    refine Rn_eq (fun bb => by rw [gd_pos o1, eM, bind_some', gd_pos (by omega), if_pos rfl, bind_some', gd_pos o1, show ws_tell bb a0 none 4000 σ = some (r2, σ2) from t1, bind_some']) ?_
    refine Rn_some (show Le σ σ2 from ⟨by omega, by omega, by omega⟩) ⟨τ', _, _, [], ?_, ?_, fin σ2 _ _ [] t2 (by rw [t3]) (by rw [t3]) t9 q52, Or.inl ⟨rfl, rfl, rfl⟩, ?_, cap0 σ2 eN, ?_, ?_⟩
    · show _ = some (r2, τ')
      rw [q1, q51, t8]
    · show rg r2
      rw [t8]; omega
    · show sN σ2 _ = _
      rw [t6]
    · show sS σ2 + rp (sN σ rs') ≤ sS σ + rp (sN σ2 rs') + _
      rw [eN]; omega
    · show sC σ2 + sN σ rs' / 8 ≤ sC σ + sN σ2 rs' / 8 + _
      rw [eN]; omega
end Tw3
