set_option maxRecDepth 100000
/-! JSON OF THE WIRE: how the reference finds a field's value among parts -/
section Pg
variable {S : SC} {I : Nat → Nat} {n d f m base : Nat}
set_option maxHeartbeats 4000000 in
theorem m_fd_L (hS : SW S) (hf : f < nF_ S) (hr0 : qr S f = 0) (hm : m < S.1) (u4 : Int) {u6 e : Nat} (hu6 : u6 < base) (hb : base + 501 ≤ 9000) (he : e ≤ n) : ∀ (c N q : Nat) (T T' : TV (d + 1)) (τ : TT) (dn : Nat), msgL S I (msgS S I d) m e c q T = some T' → c < N → TSc τ S → TIn τ I n → tI τ 46 = (q : Int) → tA τ 44 u6 = (e : Int) → q ≤ e → dn + (e - q) ≤ 1000 → FI S I n d f base dn τ T → ∃ τ', m_find_L32 (f : Int) (m : Int) u4 (base : Int) (u6 : Int) N τ = some τ' ∧ FI S I n d f base (dn + (e - q)) τ' T' ∧ TF KF τ τ' ∧ Lo base τ τ'
  | c, 0, q, T, T', τ, dn, _, h, _, _, _, _, _, _, _ => by omega
  | 0, N + 1, q, T, T', τ, dn, h, _, _, _, _, _, _, _, _ => by cases h
  | c + 1, N + 1, q, T, T', τ, dn, h, hN, hT, hI, h46, h44, hq, hdn, hFI => by
    have hn := hI.2.1
    have h50 := hS.1
    have hM := hS.2.2.1
    have hE := hS.2.2.2.1
    rw [msgL] at h
    rw [m_find_L32, h46, gd_pos (by omega), Int.toNat_natCast, h44, gd_pos (by omega), gd_pos (by omega)]
    by_cases ce : e ≤ q
    · rw [if_pos ce] at h
      cases h
      rw [if_pos (by omega)]
      refine ⟨τ, rfl, ?_, TF.refl _ _, Lo.refl _ _⟩
      rw [show e - q = 0 by omega, Nat.add_zero]; exact hFI
    · rw [if_neg ce] at h
      rw [if_neg (by omega)]
      obtain ⟨τ1, f1, q1⟩ := m_takeField_eq he hI h46 (by omega) rfl
      cases ev : fldS I e q with
      | none => rw [ev] at h; cases h
      | some r =>
        rw [ev] at h q1
        change ((stR1 S I (msgS S I d) m r T).bind _) = _ at h
        obtain ⟨e1, n48, n49, n50, n51, n46⟩ := q1
        obtain ⟨fb1, fb2, fb3, fb4, fb5, fb6⟩ := fldS_bd ev
        have hT1 := hT.tr f1 (by decide)
        have hI1 := hI.tr f1 (by decide) (by decide)
        have f1' : TF KF τ τ1 := f1.mono (by decide)
        have lo1 : Lo base τ τ1 := Lo.tf f1 (by decide) (by decide)
        cases es : stR1 S I (msgS S I d) m r T with
        | none => rw [es] at h; cases h
        | some T1 =>
          rw [es] at h
          change msgL S I (msgS S I d) m e c r.2.2.2 T1 = some T' at h
          rw [e1, bind_some']
          show ∃ τ', Option.bind (m_rightField (m : Int) τ1) _ = _ ∧ _
          rw [m_rightField_eq hS hT1 (m := m) (k := r.1) (kd := r.2.1) (by omega) (by omega) (by omega) n48 n49 rfl, bind_some']
          have FI1 : FI S I n d f base (dn + (r.2.2.2 - q)) τ1 T := hFI.tf f1 (by decide) (by decide) (by decide) (by decide) (by decide) (by decide) (by decide) (by omega)
          -- the rest
          have go : ∀ τx : TT, TF KF τ τx → Lo base τ τx → tI τx 46 = (r.2.2.2 : Int) → FI S I n d f base (dn + (r.2.2.2 - q)) τx T1 → ∃ τ', m_find_L32 (f : Int) (m : Int) u4 (base : Int) (u6 : Int) N τx = some τ' ∧ FI S I n d f base (dn + (e - q)) τ' T' ∧ TF KF τ τ' ∧ Lo base τ τ' := fun τx fx lox h46x hFx => by
            obtain ⟨τ', p1, p2, p3, p4⟩ := m_fd_L hS hf hr0 hm u4 hu6 hb he c N r.2.2.2 T1 T' τx (dn + (r.2.2.2 - q)) h (by omega) (hT.tr fx (by decide)) (hI.tr fx (by decide) (by decide)) h46x (by rw [(lox u6 hu6).2]; exact h44) fb3 (by omega) hFx
            rw [show dn + (r.2.2.2 - q) + (e - r.2.2.2) = dn + (e - q) by omega] at p2
            exact ⟨τ', p1, p2, fx.tr p3 (fun _ w => w), lox.tr p4⟩
          obtain ⟨-, -, -, hsk, o1, o2, -, -, -, -⟩ := hS.2.2.2.2.1 f hf
          have t27 : tA τ1 27 f = qo S f := (hT1.2.2.2.2.1 f hf).2.2.2.1
          cases er : rgt S m r.1 r.2.1 with
          | none =>
            have eT : T1 = T := by
              unfold stR1 at es
              rw [er] at es
              exact (Option.some.inj es).symm
            have eN : oI none = -1 := rfl
            rw [eN, gd_pos (by omega), gd_ni rfl, gd_ni (Or.inl rfl), gd_ni (Or.inl rfl), gd_ni (Or.inl (Or.inl rfl)), gd_ni (Or.inl (Or.inl rfl)), gd_ni (Or.inl (Or.inl rfl)), gd_ni (Or.inl (Or.inl rfl)), if_pos (Or.inl (Or.inl (Or.inl rfl))), bind_some', gd_pos (by omega), gd_pos (by omega), if_neg (by omega)]
            exact go τ1 f1' lo1 n46 (by rw [eT]; exact FI1)
          | some g =>
            obtain ⟨hgn, hgm, hkd⟩ := rgt_in er
            have eF : oI (some g) = (g : Int) := rfl
            have t27g : tA τ1 27 g = qo S g := (hT1.2.2.2.2.1 g hgn).2.2.2.1
            have og := (hS.2.2.2.2.1 g hgn).2.2.2.2
            by_cases cg : g = f
            · -- the field itself
              subst cg
              have hkw : (r.2.1 : Int) = wrK S g := by
                rcases hkd with w | w
                · exact w
                · omega
              have hn1 : qr S g ≠ 1 := by omega
              rw [eF, gd_pos (by omega), gd_pos (by omega), gd_ni (Or.inr rfl), gd_ni (Or.inr rfl), gd_ni (Or.inl (Or.inr rfl)), gd_ni (Or.inl (Or.inr rfl)), gd_ni (Or.inl (Or.inr rfl)), gd_ni (Or.inl (Or.inr rfl)), if_pos (Or.inl (Or.inl (Or.inr rfl))), bind_some', gd_pos (by omega), gd_pos (by omega), if_pos rfl, nm_eq, nm_eq, nm_eq]
              obtain ⟨τ2, h2⟩ : ∃ τ2, τ2 = uI (uI (uI τ1 52 1) 53 (tI (uI τ1 52 1) 50)) 54 (tI (uI (uI τ1 52 1) 53 (tI (uI τ1 52 1) 50)) 51) := ⟨_, rfl⟩
              have f2 : TF [52, 53, 54] τ1 τ2 := by rw [h2]; exact (((TF.refl _ τ1).uI (by decide) _).uI (by decide) _).uI (by decide) _
              have k52 : tI τ2 52 = 1 := by rw [h2]; rfl
              have k53 : tI τ2 53 = (r.2.2.1 : Int) := by rw [h2]; exact n50
              have k54 : tI τ2 54 = (r.2.2.2 : Int) := by rw [h2]; exact n51
              have k46 : tI τ2 46 = (r.2.2.2 : Int) := by rw [h2]; exact n46
              have k50 : tI τ2 50 = (r.2.2.1 : Int) := by rw [h2]; exact n50
              have k51 : tI τ2 51 = (r.2.2.2 : Int) := by rw [h2]; exact n51
              have hT2 := hT1.tr f2 (by decide)
              have hI2 := hI1.tr f2 (by decide) (by decide)
              have f12 : TF KF τ τ2 := f1'.tr f2 (by decide)
              have lo2 : Lo base τ τ2 := lo1.tr (Lo.tf f2 (by decide) (by decide))
              rw [← h2, m_isPlain_eq hS hT2 hf, bind_some']
              obtain ⟨qq, i1, i2, i3⟩ := hFI
              have c45 : tI τ2 45 = ((base + qq : Nat) : Int) := by rw [(f2 45 (by decide)).1, (f1 45 (by decide)).1]; exact i1
              by_cases hpl : plain S g
              · -- a number
                have hk2 : ¬ r.2.1 = 2 := fun w => (wrK_plain hS hf).mp (by omega) hpl
                obtain ⟨x, nx, -⟩ := own_num hS hf hpl ev hkw
                have eT : T1 = nuT S g T x := by
                  unfold stR1 at es
                  rw [er] at es
                  change (if plain S g then (if r.2.1 = 2 then _ else (nmS S I g r.2.2.2 r.2.2.1).map (fun y => nuT S g T y.2)) else _) = some T1 at es
                  rw [if_pos hpl, if_neg hk2, nx] at es
                  exact (Option.some.inj es).symm
                rw [if_pos hpl, gd_pos (by omega), if_neg (by omega), nm_eq, nm_eq, k46]
                have f3 : TF [46] τ2 (uI τ2 46 (tI τ2 50)) := (TF.refl _ τ2).uI (by decide) _
                obtain ⟨τ4, f4, q4⟩ := m_takeNumber_eq (e := r.2.2.2) (p := r.2.2.1) hS (hT2.tr f3 (by decide)) (hI2.tr f3 (by decide) (by decide)) hf (by omega) (by omega) (by rw [tI_uI, if_pos rfl]; exact k50) (x := (g : Int)) rfl (y := (r.2.2.2 : Int)) rfl
                rw [nx] at q4
                obtain ⟨p4, p5, p6⟩ := q4
                rw [p4, bind_some']
                obtain ⟨τ5, h5⟩ : ∃ τ5, τ5 = uI τ4 46 (r.2.2.2 : Int) := ⟨_, rfl⟩
                have f25 : TF [46, 47] τ2 τ5 := by rw [h5]; exact ((f3.mono (by decide)).tr f4 (fun _ w => w)).uI (by decide) _
                have j5 : tJ τ5 47 = x := by rw [h5]; exact p6
                have hT5 := hT2.tr f25 (by decide)
                show ∃ τ', Option.bind (nm (uI τ4 46 (r.2.2.2 : Int)) _) _ = _ ∧ _
                rw [nm_eq, ← h5, j5, m_meant_eq hS hT5 hf x (nm_6 hI.2.2.2 nx), bind_some', nm_eq, bind_some']
                have f6 : TF KF τ (uJ τ5 55 (mnt S g x)) := (f12.tr f25 (by decide)).uJ (by decide) _
                refine go _ f6 (lo2.tr (Lo.tf (l := [46, 47, 55]) ((f25.mono (by decide)).uJ (by decide) _) (by decide) (by decide))) (by rw [tI_uJ, h5, tI_uI, if_pos rfl]) ?_
                have hq0 : qq = 0 := by
                  rcases i3 with ⟨-, -, w⟩ | ⟨-, s, -, -, w⟩
                  · exact w
                  · rw [if_pos hpl] at w; exact w.2.2
                refine ⟨0, ?_, by omega, Or.inr ⟨?_, (g, mnt S g x, [], emp d), rfl, ?_, ?_⟩⟩
                · rw [tI_uJ, (f25 45 (by decide)).1, c45, hq0]
                · rw [tI_uJ, (f25 52 (by decide)).1]; exact k52
                · rw [eT]; exact (put_hd (S := S) (f := g) (T := T) (s := (g, mnt S g x, [], emp d)) hn1).2
                · rw [if_pos hpl]
                  exact ⟨by rw [tJ_uJ, if_pos rfl], rfl, rfl⟩
              · have hw2 : wrK S g = 2 := (wrK_plain hS hf).mpr hpl
                have hk2 : r.2.1 = 2 := by omega
                have h2b := fldS_2 ev hk2
                rw [if_neg hpl, gd_pos (by omega), if_pos rfl, c45, gd_pos (by omega), nm_eq, Int.toNat_natCast, k50]
                show ∃ τ', Option.bind (gd (ib (tI (uA τ2 43 (base + qq) (r.2.2.1 : Int)) 45) 9000) _) _ = _ ∧ _
                rw [show tI (uA τ2 43 (base + qq) (r.2.2.1 : Int)) 45 = ((base + qq : Nat) : Int) from c45, gd_pos (by omega), nm_eq, Int.toNat_natCast, show tI (uA τ2 43 (base + qq) (r.2.2.1 : Int)) 51 = (r.2.2.2 : Int) from k51, nm_eq]
                obtain ⟨τ5, h5⟩ : ∃ τ5, τ5 = uI (uA (uA τ2 43 (base + qq) (r.2.2.1 : Int)) 44 (base + qq) (r.2.2.2 : Int)) 45 (tI (uA (uA τ2 43 (base + qq) (r.2.2.1 : Int)) 44 (base + qq) (r.2.2.2 : Int)) 45 + 1) := ⟨_, rfl⟩
                have f5 : TF [43, 44, 45] τ2 τ5 := by rw [h5]; exact (((TF.refl _ τ2).uA (by decide) _ _).uA (by decide) _ _).uI (by decide) _
                have k45 : tI τ5 45 = ((base + (qq + 1) : Nat) : Int) := by rw [h5]; show tI τ2 45 + 1 = _; rw [c45]; omega
                have A43 : ∀ i, tA τ5 43 i = if i = base + qq then (r.2.2.1 : Int) else tA τ2 43 i := fun i => by
                  rw [h5, tA_uI, tA_uA, if_neg (fun w => absurd w.1 (by decide)), tA_uA]
                  by_cases w : i = base + qq
                  · rw [if_pos ⟨rfl, w⟩, if_pos w]
                  · rw [if_neg (fun u => w u.2), if_neg w]
                have A44 : ∀ i, tA τ5 44 i = if i = base + qq then (r.2.2.2 : Int) else tA τ2 44 i := fun i => by
                  rw [h5, tA_uI, tA_uA]
                  by_cases w : i = base + qq
                  · rw [if_pos ⟨rfl, w⟩, if_pos w]
                  · rw [if_neg (fun u => w u.2), if_neg w, tA_uA, if_neg (fun u => absurd u.1 (by decide))]
                have lo5 : Lo (base + qq) τ2 τ5 := fun i hi => ⟨by rw [A43, if_neg (by omega)], by rw [A44, if_neg (by omega)]⟩
                rw [← h5, bind_some']
                refine go τ5 (f12.tr f5 (by decide)) (lo2.tr (fun i hi => lo5 i (by omega))) (by rw [(f5 46 (by decide)).1]; exact k46) ?_
                refine ⟨qq + 1, k45, by omega, Or.inr ⟨by rw [(f5 52 (by decide)).1]; exact k52, ?_⟩⟩
                by_cases cM : isM S g
                · -- a message
                  obtain ⟨T2, et2, eT⟩ : ∃ T2, msgS S I d (qk S g - 16) r.2.2.1 r.2.2.2 (subT g T) = some T2 ∧ T1 = put S T (g, 0, [], T2) := by
                    unfold stR1 at es
                    rw [er] at es
                    change (if plain S g then _ else if isM S g then (msgS S I d (qk S g - 16) r.2.2.1 r.2.2.2 (if qr S g = 1 then emp d else subT g T)).map (fun T1 => put S T (g, 0, [], T1)) else _) = some T1 at es
                    rw [if_neg hpl, if_pos cM, if_neg hn1] at es
                    cases em : msgS S I d (qk S g - 16) r.2.2.1 r.2.2.2 (subT g T) with
                    | none => rw [em] at es; cases es
                    | some T2 => rw [em] at es; exact ⟨T2, rfl, (Option.some.inj es).symm⟩
                  refine ⟨(g, 0, [], T2), rfl, by rw [eT]; exact (put_hd (S := S) (f := g) (T := T) (s := (g, 0, [], T2)) hn1).2, ?_⟩
                  rw [if_neg hpl, if_pos cM]
                  refine ⟨rfl, rfl, ?_⟩
                  have new : ∀ (ps : List (Nat × Nat)) (T0 : TV d), ps.length = qq → PA τ2 base ps → PB n ps → 2 * qq + PL ps ≤ dn → prS S I d (qk S g - 16) ps (emp d) = some T0 → subT g T = T0 → ∃ ps' : List (Nat × Nat), ps'.length = qq + 1 ∧ ps' ≠ [] ∧ PA τ5 base ps' ∧ PB n ps' ∧ 2 * (qq + 1) + PL ps' ≤ dn + (r.2.2.2 - q) ∧ prS S I d (qk S g - 16) ps' (emp d) = some T2 := fun ps T0 v1 v2 v3 v4 v5 v6 => by
                    refine ⟨ps ++ [(r.2.2.1, r.2.2.2)], by rw [List.length_append, v1]; rfl, by simp, fun i hi => ?_, fun x hx => ?_, ?_, ?_⟩
                    · rw [List.length_append, v1] at hi
                      simp only [List.length_cons, List.length_nil] at hi
                      rw [A43, A44]
                      by_cases w : i = qq
                      · rw [if_pos (by omega), if_pos (by omega), w, ← v1, List.getD_eq_getElem?_getD, List.getElem?_append_right (Nat.le_refl _), Nat.sub_self]
                        exact ⟨rfl, rfl⟩
                      · rw [if_neg (by omega), if_neg (by omega), List.getD_eq_getElem?_getD, List.getElem?_append_left (by omega), ← List.getD_eq_getElem?_getD]
                        exact v2 i (by omega)
                    · rcases List.mem_append.mp hx with w | w
                      · exact v3 x w
                      · rw [List.mem_singleton.mp w]; exact ⟨fb2, by show r.2.2.2 ≤ n; omega⟩
                    · rw [PL_snoc]; show 2 * (qq + 1) + (PL ps + (r.2.2.2 - r.2.2.1)) ≤ _; omega
                    · rw [prS_snoc, v5]
                      show msgS S I d (qk S g - 16) r.2.2.1 r.2.2.2 T0 = some T2
                      rw [← v6]; exact et2
                  rcases i3 with ⟨-, w2, w3⟩ | ⟨-, s, w2, w3, w4⟩
                  · refine new [] (emp d) (by rw [w3]; rfl) (fun i hi => absurd hi (Nat.not_lt_zero _)) (fun x hx => by cases hx) (by rw [w3]; exact Nat.zero_le _) rfl ?_
                    unfold subT; rw [w2]
                  · rw [if_neg hpl, if_pos cM] at w4
                    obtain ⟨v1, v2, ps, v3, v4, v5, v6, v7, v8⟩ := w4
                    refine new ps s.2.2.2 v3 (v5.lo ((Lo.tf (base := base + ps.length) f1 (by decide) (by decide)).tr (Lo.tf f2 (by decide) (by decide))) (Nat.le_refl _)) v6 v7 v8 ?_
                    unfold subT
                    rw [w3, if_neg (fun w => w.1.1 (by rw [w2]; exact cM))]
                · -- a text or bytes
                  have eT : T1 = put S T (g, 0, cut I r.2.2.1 r.2.2.2, emp d) := by
                    unfold stR1 at es
                    rw [er] at es
                    change (if plain S g then _ else if isM S g then _ else if qk S g = 9 ∧ ¬ txt (gN I) r.2.2.2 r.2.2.1 = true then none else some (put S T (g, 0, cut I r.2.2.1 r.2.2.2, emp d))) = some T1 at es
                    rw [if_neg hpl, if_neg cM] at es
                    split at es
                    · cases es
                    · exact (Option.some.inj es).symm
                  refine ⟨(g, 0, cut I r.2.2.1 r.2.2.2, emp d), rfl, by rw [eT]; exact (put_hd (S := S) (f := g) (T := T) (s := (g, 0, cut I r.2.2.1 r.2.2.2, emp d)) hn1).2, ?_⟩
                  rw [if_neg hpl, if_neg cM]
                  exact ⟨rfl, r.2.2.1, r.2.2.2, fb2, by omega, by rw [(f5 53 (by decide)).1]; exact k53, by rw [(f5 54 (by decide)).1]; exact k54, rfl⟩
            · -- another field
              have hst := st_other (f := f) hS er (fun w => cg w.symm) es
              by_cases co : qo S f ≠ -1 ∧ qo S g = qo S f
              · rw [eF, gd_pos (by omega), gd_pos (by omega), gd_pos (by omega), Int.toNat_natCast, t27, gd_pos (by omega), gd_pos (by omega), gd_pos (by omega), Int.toNat_natCast, t27g, gd_pos (by omega), gd_pos (by omega), if_neg (by omega), nm_eq, nm_eq, bind_some', gd_pos (by omega), gd_pos (by omega), if_neg (by omega)]
                have f3 : TF [45, 52] τ1 (uI (uI τ1 52 0) 45 (base : Int)) := ((TF.refl _ τ1).uI (by decide) _).uI (by decide) _
                refine go _ (f1'.tr f3 (by decide)) (lo1.tr (Lo.tf f3 (by decide) (by decide))) (by rw [(f3 46 (by decide)).1]; exact n46) ?_
                refine ⟨0, by rw [tI_uI, if_pos rfl]; rfl, by omega, Or.inl ⟨by rw [tI_uI, if_neg (by decide), tI_uI, if_pos rfl], ?_, rfl⟩⟩
                rw [hst, if_pos (Or.inr ⟨by omega, co.2.symm⟩)]
              · rw [eF, gd_pos (by omega), gd_pos (by omega), gd_pos (by omega), Int.toNat_natCast, t27, gd_pos (by omega), gd_pos (by omega), gd_pos (by omega), Int.toNat_natCast, t27g, gd_pos (by omega), gd_pos (by omega), if_pos (by omega), bind_some', gd_pos (by omega), gd_pos (by omega), if_neg (by omega)]
                refine go τ1 f1' lo1 n46 ?_
                obtain ⟨qq, i1, i2, i3⟩ := FI1
                refine ⟨qq, i1, i2, ?_⟩
                rw [hst, if_neg (by
                  rintro (w | w)
                  · exact cg w.symm
                  · exact co ⟨by omega, w.2.symm⟩)]
                exact i3
end Pg
