set_option maxRecDepth 100000
/-! BOTH SIDES TOGETHER: field, letter -/
section Qu
variable {S : SC} {fa ma ea : Nat → Nat} {od : Nat → List Nat} {y z a0 tp b sch ro rs n k : Nat} {w : List UInt8} {σ σ' : ST} {τ τ' : TT}
theorem ws_isField_eq (hS : SW S) (h : SYS S fa ma ea od y z a0 tp b sch ro rs n k σ) {x : Int} (hx : rg x) : ws_isField a0 x σ = some (if 0 ≤ x ∧ x < (nF_ S : Int) then 1 else 0) := by
  obtain ⟨⟨-, -, -, -, d3, ml, el, fl, d4, d5, d6, -, -, -, -, a3, a4⟩, ⟨o1, o2, o3, o4, o5, -⟩, -⟩ := h
  have hM := hS.1
  have l1 : (sA σ fl).length = nF_ S := by rw [a4, List.length_map, List.length_range]
  have e1 : ad (some sch) = sch := rfl
  have e2 : ad (some fl) = fl := rfl
  have e3 : l_size fl σ = some (nF_ S : Int) := by unfold l_size; rw [gd_pos a3, l1]
  unfold ws_isField
  rw [o5, e1, d6, e2, e3, vv_s, gd_pos hx, gd_pos (show ¬ x < 0 → sc σ a0 = 1 from fun _ => o1), gd_pos (show ¬ x < 0 → ¬ some sch = none from fun _ q => by cases q), gd_pos (show ¬ x < 0 → sc σ sch = 2 from fun _ => d3), gd_pos (show ¬ x < 0 → ¬ some fl = none from fun _ q => by cases q), gd_pos (show ¬ x < 0 → sc σ fl = 16 from fun _ => a3), gd_pos (show ¬ x < 0 → ok (some (nF_ S : Int)) from fun _ => rfl), gd_pos (show ¬ x < 0 → rg (nF_ S : Int) by omega)]
  by_cases c : 0 ≤ x ∧ x < (nF_ S : Int)
  · rw [if_pos c, if_neg (by omega)]
  · rw [if_neg c, if_pos (by omega)]
theorem SYS.fld (h : SYS S fa ma ea od y z a0 tp b sch ro rs n k σ) {f : Nat} (hf : f < nF_ S) : ∃ fl, sR σ 4 a0 = some sch ∧ sc σ sch = 2 ∧ sR σ 19 sch = some fl ∧ sc σ fl = 16 ∧ l_get fl (f : Int) σ = some (some (fa f)) := by
  obtain ⟨⟨hH, -, -, -, d3, ml, el, fl, d4, d5, d6, -, -, -, -, a3, a4⟩, ⟨o1, o2, o3, o4, o5, -⟩, -⟩ := h
  refine ⟨fl, o5, d3, d6, a3, ?_⟩
  have l1 : (sA σ fl).length = nF_ S := by rw [a4, List.length_map, List.length_range]
  unfold l_get
  rw [gd_pos ⟨a3, by rw [l1]; omega⟩, Int.toNat_natCast, a4, List.getD_eq_getElem?_getD, List.getElem?_map, List.getElem?_range hf]
  rfl
theorem field_eq (h : INV S fa ma ea od y z a0 tp b sch ro rs n k w σ τ) {x x2 : Int} (hx : rg x) (hx2 : rg x2) : ∃ r τ', ws_field a0 x x2 σ = some r ∧ m_field x x2 τ = some (r, τ') ∧ rg r ∧ INV S fa ma ea od y z a0 tp b sch ro rs n k w σ τ' := by
  have hY := h.sys
  obtain ⟨⟨hS, hN, hO⟩, ⟨hH, hHy, hHd⟩, hOWN, h4, ⟨h5, h6⟩, ⟨k1, k2, k3, k4⟩, ⟨e1, h8⟩, h9, h10⟩ := id h
  have o1 := hOWN.1
  have h50 := hS.1
  have hM := hS.2.2.1
  have hE := hS.2.2.2.1
  have hI := h.tf (z_f τ) (by decide)
  have hT0 : TSc (uI τ 0 0) S := h10.tr (z_f τ) (by decide)
  have t38 := hT0.2.2.2.1
  have eF := ws_isField_eq hS hY hx
  unfold ws_field m_field
  rw [gd_pos o1, eF, bind_some', nm_eq, gd_pos hx, t38, gd_pos (show ¬ x < 0 → rg (nF_ S : Int) by omega)]
  by_cases c : 0 ≤ x ∧ x < (nF_ S : Int)
  · rw [if_pos c, gd_pos (by omega), if_neg (by omega), if_neg (by omega)]
    obtain ⟨f, rfl⟩ : ∃ f : Nat, x = (f : Int) := ⟨x.toNat, by omega⟩
    have hf : f < nF_ S := by omega
    obtain ⟨fl, m1, m2, m3, m4, m5⟩ := hY.fld hf
    obtain ⟨b1, b2, b3, b4, ⟨jr, j1, j2, j3, j4⟩, b6, b7, b8, b9, b10, b11, b12, -⟩ := hH.2.1 f hf
    obtain ⟨s1, s2, s3, s4, s5, s6, s7, s8, s9, s10⟩ := hS.2.2.2.2.1 f hf
    obtain ⟨t23, t24, t28, t27, t29, t30, -⟩ := hT0.2.2.2.2.1 f hf
    have hjl : (jsn (qw S f)).length ≤ 24 := Nat.le_trans (jsL_len _ _) s9
    rw [m1, bind_some', gd_pos m2, m3, bind_some', gd_pos m4, m5, bind_some', bind_some', gd_pos b2, gd_pos hx2, gd_pos hx2, Int.toNat_natCast, t23, t24, t28, t27, t29, t30, b6, b7, b8, b9, b10]
    by_cases c0 : x2 = 0
    · obtain ⟨u1, u2, u3, -⟩ := hH.2.2.2.1 (qm S f) s1
      rw [if_pos c0, if_pos c0, b3, bind_some', gd_pos u2, u3, gd_pos (by omega)]
      exact ⟨_, _, rfl, rfl, by omega, hI⟩
    · rw [if_neg c0, if_neg c0]
      by_cases c1 : x2 = 1
      · rw [if_pos c1, if_pos c1, gd_pos (by omega)]
        exact ⟨_, _, rfl, rfl, by omega, hI⟩
      · rw [if_neg c1, if_neg c1]
        by_cases c2 : x2 = 2
        · rw [if_pos c2, if_pos c2, gd_pos (by omega)]
          by_cases cM : isM S f
          · have hm : qk S f - 16 < S.1 := by omega
            obtain ⟨u1, u2, u3, -⟩ := hH.2.2.2.1 (qk S f - 16) hm
            rw [b11, if_pos cM, if_neg (show ¬ some (ma (qk S f - 16)) = none from fun q => by cases q), bind_some', gd_pos u2, u3, show (16 : Int) + ((qk S f - 16 : Nat) : Int) = ((qk S f : Nat) : Int) by omega]
            exact ⟨_, _, rfl, rfl, by omega, hI⟩
          · rw [b11, if_neg cM, if_pos rfl, b12]
            by_cases cE : 32 ≤ qk S f
            · have he : qk S f - 32 < S.2.1 := by omega
              obtain ⟨u1, u2, u3, -⟩ := hH.2.2.2.2.2 (qk S f - 32) he
              rw [if_pos cE, if_neg (show ¬ some (ea (qk S f - 32)) = none from fun q => by cases q), bind_some', gd_pos u2, u3, show (32 : Int) + ((qk S f - 32 : Nat) : Int) = ((qk S f : Nat) : Int) by omega]
              exact ⟨_, _, rfl, rfl, by omega, hI⟩
            · have esk : sk S f = qk S f := by unfold sk ks; rw [if_neg cM, if_neg cE]
              rw [if_neg cE, if_pos rfl, esk]
              exact ⟨_, _, rfl, rfl, by omega, hI⟩
        · rw [if_neg c2, if_neg c2]
          by_cases c3 : x2 = 3
          · rw [if_pos c3, if_pos c3, gd_pos (show rg (qr S f) by omega), gd_pos (show ib (f : Int) 50 by omega), gd_pos (show rg (qr S f) by omega)]
            by_cases cr : qr S f = 0
            · rw [if_pos cr, if_pos cr]
              exact ⟨_, _, rfl, rfl, by omega, hI⟩
            · rw [if_neg cr, if_neg cr]
              exact ⟨_, _, rfl, rfl, by omega, hI⟩
          · rw [if_neg c3, if_neg c3]
            by_cases c4 : x2 = 4
            · rw [if_pos c4, if_pos c4, gd_pos (show rg (qp S f) by omega), gd_pos (show ib (f : Int) 50 by omega), gd_pos (show rg (qp S f) by omega)]
              by_cases cr : qp S f = 0
              · rw [if_pos cr, if_pos cr]
                exact ⟨_, _, rfl, rfl, by omega, hI⟩
              · rw [if_neg cr, if_neg cr]
                exact ⟨_, _, rfl, rfl, by omega, hI⟩
            · rw [if_neg c4, if_neg c4]
              by_cases c5 : x2 = 5
              · rw [if_pos c5, if_pos c5, gd_pos (by omega)]
                exact ⟨_, _, rfl, rfl, by omega, hI⟩
              · rw [if_neg c5, if_neg c5]
                by_cases c6 : x2 = 6
                · obtain ⟨τ1, f1, q1, q2⟩ := m_jsonName_eq (u2 := 41) (Or.inl rfl) hS hT0 (x := (f : Int)) rfl hf
                  rw [if_pos c6, if_pos c6, j1, bind_some', gd_pos j3, j4, q1, bind_some']
                  exact ⟨_, _, rfl, rfl, by omega, hI.tf f1 (by decide)⟩
                · rw [if_neg c6, if_neg c6]
                  exact ⟨-1, _, rfl, rfl, by omega, hI⟩
  · rw [if_neg c, gd_pos (by omega), if_pos rfl, if_pos (by omega)]
    exact ⟨-1, _, rfl, rfl, by omega, hI⟩
theorem letter_eq (h : INV S fa ma ea od y z a0 tp b sch ro rs n k w σ τ) {x x2 : Int} (hx : rg x) (hx2 : rg x2) : ∃ r τ', ws_letter a0 x x2 σ = some r ∧ m_letter x x2 τ = some (r, τ') ∧ rg r ∧ INV S fa ma ea od y z a0 tp b sch ro rs n k w σ τ' := by
  have hY := h.sys
  obtain ⟨⟨hS, hN, hO⟩, ⟨hH, hHy, hHd⟩, hOWN, h4, ⟨h5, h6⟩, ⟨k1, k2, k3, k4⟩, ⟨e1, h8⟩, h9, h10⟩ := id h
  have o1 := hOWN.1
  have h50 := hS.1
  have hI := h.tf (z_f τ) (by decide)
  have hT0 : TSc (uI τ 0 0) S := h10.tr (z_f τ) (by decide)
  have t38 := hT0.2.2.2.1
  have eF := ws_isField_eq hS hY hx
  unfold ws_letter m_letter
  rw [gd_pos o1, eF, bind_some', nm_eq, gd_pos hx, t38, gd_pos (show ¬ x < 0 → rg (nF_ S : Int) by omega)]
  by_cases c : 0 ≤ x ∧ x < (nF_ S : Int)
  · rw [if_pos c, gd_pos (by omega), if_neg (by omega), if_neg (by omega)]
    obtain ⟨f, rfl⟩ : ∃ f : Nat, x = (f : Int) := ⟨x.toNat, by omega⟩
    have hf : f < nF_ S := by omega
    obtain ⟨fl, m1, m2, m3, m4, m5⟩ := hY.fld hf
    obtain ⟨b1, b2, b3, b4, ⟨jr, j1, j2, j3, j4⟩, -⟩ := hH.2.1 f hf
    have s9 := (hS.2.2.2.2.1 f hf).2.2.2.2.2.2.2.2.1
    have hjl : (jsn (qw S f)).length ≤ 24 := Nat.le_trans (jsL_len _ _) s9
    obtain ⟨τ1, f1, q1, q2⟩ := m_jsonName_eq (u2 := 41) (Or.inl rfl) hS hT0 (x := (f : Int)) rfl hf
    have hI1 := hI.tf f1 (by decide)
    rw [m1, bind_some', gd_pos m2, m3, bind_some', gd_pos m4, m5, bind_some', bind_some', gd_pos b2, j1, bind_some', gd_pos j3, q1, bind_some']
    unfold row_at
    rw [gd_pos hx2, gd_pos (show ¬ x2 < 0 → sc σ jr = 4 from fun _ => j3), j4]
    show ∃ r τ', _ ∧ gd (rg x2) (gd (¬ (x2 < 0) → rg ((jsn (qw S f)).length : Int)) (if (x2 < 0) ∨ (¬ (x2 < ((jsn (qw S f)).length : Int))) then (some (((-1), τ1))) else (gd (ib x2 64) (some ((tA τ1 41 x2.toNat, τ1)))))) = _ ∧ _
    rw [gd_pos (show rg x2 from hx2), gd_pos (show ¬ x2 < 0 → rg ((jsn (qw S f)).length : Int) by omega)]
    by_cases c2 : x2 < 0 ∨ ((jsn (qw S f)).length : Int) ≤ x2
    · rw [if_pos c2, bind_some', if_pos (by omega)]
      exact ⟨-1, _, rfl, rfl, by omega, hI1⟩
    · obtain ⟨j, rfl⟩ : ∃ j : Nat, x2 = (j : Int) := ⟨x2.toNat, by omega⟩
      have hb : ((jsn (qw S f)).getD j 0).toNat < 256 := UInt8.toNat_lt _
      have t41 : tA τ1 41 j = (wI (jsn (qw S f)) j : Int) := q2 j (by omega)
      rw [if_neg c2, gd_pos (show ib (j : Int) (jsn (qw S f)).length by omega), gd_pos (show sc σ jr = 4 from j3), bind_some', if_neg (by omega), gd_pos (show ib (j : Int) 64 by omega), Int.toNat_natCast, t41, sb_and]
      unfold rB
      rw [j4, Int.toNat_natCast]
      exact ⟨_, _, rfl, rfl, by omega, hI1⟩
  · rw [if_neg c, gd_pos (by omega), if_pos rfl, if_pos (by omega)]
    exact ⟨-1, _, rfl, rfl, by omega, hI⟩
end Qu
