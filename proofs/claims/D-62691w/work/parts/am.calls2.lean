set_option maxRecDepth 100000
/-! BOTH SIDES TOGETHER: toWire, toJson -/
section Tw2
variable {S : SC} {fa ma ea : Nat → Nat} {od : Nat → List Nat} {y z a0 tp b sch ro rs n k : Nat} {w : List UInt8} {σ σ' : ST} {τ τ' : TT}
theorem INV.make (hS : SW S ∧ SN S ∧ OD S od) {σ0 : ST} (hY : SYS S fa ma ea od y z a0 tp b sch ro rs n k σ') (hb : sB σ' b = sB σ0 b) (ht : sB σ' tp = sB σ0 tp) (hI : TIn τ' (inp σ0 b) n) (hk : k ≤ 1000) (h4 : tI τ' 4 = (k : Int)) (h1 : ∀ j, j < k → tA τ' 1 j = ((sB σ0 tp j).toNat : Int)) (hw : sW σ' ro = w) (hO : OW τ' w) (h58 : tI τ' 58 = 0) (hT : TSc τ' S) : INV S fa ma ea od y z a0 tp b sch ro rs n k w σ' τ' := by
  have e : inp σ' b = inp σ0 b := by funext j; unfold inp; rw [hb]
  exact ⟨hS, hY.1, hY.2.1, hY.2.2.1, ⟨hY.2.2.2.1, by rw [e]; exact hI⟩, ⟨hk, hY.2.2.2.2, h4, fun j hj => by rw [ht]; exact h1 j hj⟩, ⟨hw, hO⟩, h58, hT⟩
theorem SYS.in (h : SYS S fa ma ea od y z a0 tp b sch ro rs n k σ) (hn : n ≤ 1000) : SIn σ a0 b (inp σ b) n := by
  obtain ⟨-, ⟨o1, o2, o3, o4, o5, o6, o7, ⟨p1, p2, p3⟩, ⟨b1, b2, b3⟩, -⟩, -, h5, -⟩ := h
  exact ⟨o1, o2, o4, b1, b2, fun j _ => rfl, hn, b3, h5⟩
theorem SYS.msg (h : SYS S fa ma ea od y z a0 tp b sch ro rs n k σ) {m : Nat} (hm : m < S.1) : ∃ ml, sR σ 4 a0 = some sch ∧ sc σ sch = 2 ∧ sR σ 17 sch = some ml ∧ sc σ ml = 16 ∧ l_get ml (m : Int) σ = some (some (ma m)) ∧ sc σ (ma m) = 7 := by
  obtain ⟨⟨hH, -, -, -, d3, ml, el, fl, d4, d5, d6, ⟨-, -, a3, a4⟩, -⟩, ⟨o1, o2, o3, o4, o5, -⟩, -⟩ := h
  refine ⟨ml, o5, d3, d4, a3, ?_, (hH.2.2.2.1 m hm).2.1⟩
  have l1 : (sA σ ml).length = S.1 := by rw [a4, List.length_map, List.length_range]
  unfold l_get
  rw [gd_pos ⟨a3, by rw [l1]; omega⟩, Int.toNat_natCast, a4, List.getD_eq_getElem?_getD, List.getElem?_map, List.getElem?_range hm]
  rfl
theorem toWire_eq (h : INV S fa ma ea od y z a0 tp b sch ro rs n k w σ τ) {x : Int} (hx : rg x) : Rn (fun r : Int × ST => r.2) σ (fun bb => ws_toWire bb a0 x σ) (fun r => ∃ τ' ro' w', m_toWire x τ = some (r.1, τ') ∧ rg r.1 ∧ (INV S fa ma ea od y z a0 tp b sch ro' rs n k w' r.2 τ' ∧ inp r.2 b = inp σ b) ∧ sS r.2 ≤ sS σ + (if 0 ≤ x ∧ x < (S.1 : Int) then twS S od (inp σ b) n x.toNat else 0) ∧ sC r.2 ≤ sC σ + (if 0 ≤ x ∧ x < (S.1 : Int) then twC S od (inp σ b) n x.toNat else 0) ∧ sN r.2 rs = sN σ rs ∧ ((ro' = ro ∧ w' = [] ∧ sN r.2 ro = sN σ ro) ∨ (sN r.2 ro' = cpF w'.length ∧ (if 0 ≤ x ∧ x < (S.1 : Int) then toW S od (inp σ b) n x.toNat else none) = some w'))) := by
  have hY := h.sys
  obtain ⟨⟨hS, hN, hO⟩, ⟨hH, hHy, hHd⟩, hOWN, h4, ⟨h5, h6⟩, ⟨k1, k2, k3, k4⟩, ⟨e1, h8⟩, h9, h10⟩ := id h
  have o1 := hOWN.1
  have hRs := hOWN.2.2.2.2.2.2.2.2.2.2.2.1
  have hM := hS.2.2.1
  have hn := h6.2.1
  obtain ⟨r, τ', q1, q2, q3, q4, q5⟩ := m_toWire_eq (od := od) hS hO h10 h6 h9 hx
  have fin : ∀ (σ2 : ST) (ro' : Nat) (w' : List UInt8), SYS S fa ma ea od y z a0 tp b sch ro' rs n k σ2 → sB σ2 b = sB σ b → sB σ2 tp = sB σ tp → sW σ2 ro' = w' → OW τ' w' → INV S fa ma ea od y z a0 tp b sch ro' rs n k w' σ2 τ' ∧ inp σ2 b = inp σ b := fun σ2 ro' w' s1 s2 s3 s4 s5 => ⟨INV.make ⟨hS, hN, hO⟩ s1 s2 s3 (h6.tr q2 (by decide) (by decide)) k1 (by rw [(q2 4 (by decide)).1]; exact k3) (fun j hj => by rw [(q2 1 (by decide)).2.2]; exact k4 j hj) s4 s5 q4 (h10.tr q2 (by decide)), by funext j; unfold inp; rw [s2]⟩
  have eM := ws_isMessage_eq hS hY hx
  unfold ws_toWire
  by_cases c : 0 ≤ x ∧ x < (S.1 : Int)
  · rw [if_pos c] at q5 eM
    obtain ⟨m, rfl⟩ : ∃ m : Nat, x = (m : Int) := ⟨x.toNat, by omega⟩
    rw [Int.toNat_natCast] at q5
    have hm : m < S.1 := by omega
    obtain ⟨ml, m1, m2, m3, m4, m5, m6⟩ := hY.msg hm
    refine Rn_eq (fun bb => by rw [gd_pos o1, eM, bind_some', gd_pos (by omega), if_neg (by omega), m1, bind_some', gd_pos m2, m3, bind_some', gd_pos m4, m5, bind_some', bind_some', gd_pos m6]) ?_
    rw [if_pos c, if_pos c, if_pos c, Int.toNat_natCast]
    refine Rn_bind (su := fun v : Option Nat × ST => v.2) (J := fun r => FR (fun _ => False) σ r.2 ∧ sS r.2 ≤ sS σ + twS S od (inp σ b) n m ∧ sC r.2 ≤ sC σ + twC S od (inp σ b) n m ∧ match toW S od (inp σ b) n m with | some w => ∃ x, r.1 = some x ∧ sZ σ ≤ x ∧ x < sZ r.2 ∧ RW r.2 x ∧ sW r.2 x = w ∧ sN r.2 x = cpF w.length | none => r.1 = none) ?_ (fun v _ hv => ?_)
    · refine Rn_bind (ws_wire_eq hS hN.2.2 (inp_lt σ b) hm hH (hY.in hn)) (fun v _ hv => Rn_some (Le.refl _) hv)
    · obtain ⟨v1, σ1⟩ := v
      obtain ⟨f1, f2, f3, f4⟩ := hv
      change FR (fun _ => False) σ σ1 at f1
      change sS σ1 ≤ _ at f2
      change sC σ1 ≤ _ at f3
      have srs := f1.2 rs hRs.2
      have srs' := srs.2 (fun q => q)
      have hR1 : RW σ1 rs := ⟨by rw [srs.1]; exact hRs.1.1, by rw [srs'.1, srs'.2.2.1]; exact hRs.1.2.1, by rw [srs'.2.2.1]; exact hRs.1.2.2⟩
      obtain ⟨hY1, g1, g2, g3, g4⟩ := hY.fr f1 (fun x _ q => q.elim) hR1
      have o1' : sc σ1 a0 = 1 := hY1.2.1.1
      show Rn (fun r : Int × ST => r.2) σ1 (fun bb => gd (sc σ1 a0 = 1) (Option.bind (ws_tell bb a0 v1 2147483647 σ1) fun y21 => some (y21.1, y21.2))) _
      refine Rn_gd o1' ?_
      cases ew : toW S od (inp σ b) n m with
      | none =>
        rw [ew] at f4 q5
        have f4' : v1 = none := f4
        subst f4'
        obtain ⟨q51, q52⟩ := q5
        obtain ⟨r2, σ2, ro', rs', t1, t2, t3, t4, t5, t6, t7, t8, t9, t10, t11⟩ := tell_eq hY1 (lim := 2147483647) (by omega) none (Or.inl rfl) (fun x q => by cases q) (0, 0)
        subst t10 t11
        refine Rn_eq (fun bb => by rw [show ws_tell bb a0 none 2147483647 σ1 = some (r2, σ2) from t1, bind_some']) ?_
        refine Rn_some (show Le σ1 σ2 from ⟨by omega, by omega, by omega⟩) ⟨τ', _, [], ?_, ?_, fin σ2 _ [] t2 (by rw [t3]; exact g1) (by rw [t3]; exact g2) t9 q52, ?_, ?_, ?_, Or.inl ⟨rfl, rfl, ?_⟩⟩
        · show _ = some (r2, τ')
          rw [q1, q51, t8]
        · show rg r2
          rw [t8]; omega
        · show sS σ2 ≤ _
          omega
        · show sC σ2 ≤ _
          omega
        · show sN σ2 _ = _
          rw [t6]; exact srs'.2.2.1
        · show sN σ2 _ = _
          rw [t6]; exact g4
      | some w' =>
        rw [ew] at f4 q5
        obtain ⟨x', f5, f6, f7, f8, f9, f10⟩ := f4
        change v1 = some x' at f5
        subst f5
        change x' < sZ σ1 at f7
        change RW σ1 x' at f8
        change sW σ1 x' = w' at f9
        change sN σ1 x' = cpF w'.length at f10
        have hl4 := q5.2.1
        have zs := hH.1
        have lro := hOWN.2.2.2.2.2.2.2.2.2.2.1.2
        have lrs := hRs.2
        obtain ⟨r2, σ2, ro', rs', t1, t2, t3, t4, t5, t6, t7, t8⟩ := tell_eq hY1 (lim := 2147483647) (by omega) (some x') (Or.inr (Or.inr ⟨x', rfl, by omega, by omega, f8, f7, by omega⟩)) (fun x q => by cases q; rw [f9]; omega) (0, 0)
        change (if ((sW σ1 x').length : Int) ≤ 2147483647 then _ else _) at t8
        rw [f9, if_pos (show ((w'.length : Nat) : Int) ≤ 2147483647 by omega)] at t8
        obtain ⟨t8, t9, t10, t11⟩ := t8
        rw [if_neg (by omega)] at t11
        subst t10 t11
        refine Rn_eq (fun bb => by rw [show ws_tell bb a0 (some _) 2147483647 σ1 = some (r2, σ2) from t1, bind_some']) ?_
        refine Rn_some (show Le σ1 σ2 from ⟨by omega, by omega, by omega⟩) ⟨τ', _, w', ?_, ?_, fin σ2 _ w' t2 (by rw [t3]; exact g1) (by rw [t3]; exact g2) t9 q5.2, ?_, ?_, ?_, Or.inr ⟨?_, rfl⟩⟩
        · show _ = some (r2, τ')
          rw [q1, q5.1, t8]
        · show rg r2
          rw [t8]; omega
        · show sS σ2 ≤ _
          omega
        · show sC σ2 ≤ _
          omega
        · show sN σ2 _ = _
          rw [t6]; exact srs'.2.2.1
        · show sN σ2 _ = _
          rw [t6]; exact f10
  · rw [if_neg c] at q5 eM
    obtain ⟨q51, q52⟩ := q5
    obtain ⟨r2, σ2, ro', rs', t1, t2, t3, t4, t5, t6, t7, t8, t9, t10, t11⟩ := tell_eq hY (lim := 2147483647) (by omega) none (Or.inl rfl) (fun x q => by cases q) (0, 0)
    subst t10 t11
    refine Rn_eq (fun bb => by rw [gd_pos o1, eM, bind_some', gd_pos (by omega), if_pos rfl, bind_some', gd_pos o1, show ws_tell bb a0 none 2147483647 σ = some (r2, σ2) from t1, bind_some']) ?_
    refine Rn_some (show Le σ σ2 from ⟨by omega, by omega, by omega⟩) ⟨τ', _, [], ?_, ?_, fin σ2 _ [] t2 (by rw [t3]) (by rw [t3]) t9 q52, ?_, ?_, ?_, Or.inl ⟨rfl, rfl, ?_⟩⟩
    · show _ = some (r2, τ')
      rw [q1, q51, t8]
    · show rg r2
      rw [t8]; omega
    · show sS σ2 ≤ _
      omega
    · show sC σ2 ≤ _
      omega
    · show sN σ2 _ = _
      rw [t6]
    · show sN σ2 _ = _
      rw [t6]
end Tw2
