set_option maxRecDepth 100000
/-! THE WIRE, READ: whether bytes are a message, as the reference says -/
section Im
variable {S : SC} {I : Nat → Nat} {n d : Nat} {rec : Int → Int → Int → Int → TT → Option (Int × TT)} {sp : Nat → Nat → Nat → TV d → Option (TV d)}
def RM {d : Nat} (S : SC) (I : Nat → Nat) (n : Nat) (rec : Int → Int → Int → Int → TT → Option (Int × TT)) (dp : Int) (sp : Nat → Nat → Nat → TV d → Option (TV d)) : Prop := ∀ (m p e : Nat) (T : TV d) (τ : TT), m < S.1 → p ≤ e → e ≤ n → TSc τ S → TIn τ I n → ∃ τ', TF KT τ τ' ∧ rec (m : Int) (p : Int) (e : Int) dp τ = some (if (sp m p e T).isSome then 1 else 0, τ')
theorem m_im_L (hS : SW S) {dp : Int} (hR : RM S I n rec (dp + 1) sp) {m e : Nat} (hm : m < S.1) (he : e ≤ n) : ∀ (c N p : Nat) (T : TV (d + 1)) (τ : TT), TSc τ S → TIn τ I n → p ≤ e → e + 1 ≤ c + p → c < N → tI τ 46 = (p : Int) → ∃ τ', TF KT τ τ' ∧ m_isMessage_L14 rec (m : Int) (e : Int) dp N τ = some (if (msgL S I sp m e c p T).isSome then 1 else 0, τ')
  | c, 0, p, T, τ, _, _, _, _, h, _ => by omega
  | 0, N + 1, p, T, τ, hT, hI, hp, h1, _, h46 => by omega
  | c + 1, N + 1, p, T, τ, hT, hI, hp, h1, hN, h46 => by
    have hn := hI.2.1
    have h50 := hS.1
    have hM := hS.2.2.1
    have hE := hS.2.2.2.1
    rw [m_isMessage_L14, h46, gd_pos (by omega), gd_pos (by omega), msgL]
    by_cases cp : e ≤ p
    · rw [if_pos cp, if_pos (by omega)]
      exact ⟨τ, TF.refl _ _, rfl⟩
    · rw [if_neg cp, if_neg (by omega)]
      obtain ⟨τ1, f1, q1⟩ := m_takeField_eq he hI h46 (by omega) rfl
      cases ev : fldS I e p with
      | none =>
        rw [ev] at q1
        refine ⟨τ1, f1, ?_⟩
        rw [q1, bind_some', gd_pos (by omega), if_pos rfl]; rfl
      | some r =>
        rw [ev] at q1
        obtain ⟨e1, n48, n49, n50, n51, n46⟩ := q1
        obtain ⟨fb1, fb2, fb3, fb4, fb5, fb6⟩ := fldS_bd ev
        have hT1 := hT.tr f1 (by decide)
        have hI1 := hI.tr f1 (by decide) (by decide)
        rw [e1, bind_some', gd_pos (by omega), if_neg (by omega), m_rightField_eq hS hT1 (m := m) (k := r.1) (kd := r.2.1) (by omega) (by omega) (by omega) n48 n49 rfl, bind_some', nm_eq, nm_eq, nm_eq, n46, n50, n51]
        show ∃ τ', TF KT τ τ' ∧ _ = some (if ((stR1 S I sp m r T).bind fun T' => msgL S I sp m e c r.2.2.2 T').isSome then 1 else 0, τ')
        -- behind a record
        have go : ∀ (τx : TT) (T' : TV (d + 1)), TF KT τ τx → ∃ τ', TF KT τ τ' ∧ (nm (uI τx 46 (r.2.2.2 : Int)) fun τ49 => m_isMessage_L14 rec (m : Int) (e : Int) dp N τ49) = some (if (msgL S I sp m e c r.2.2.2 T').isSome then 1 else 0, τ') := fun τx T' fx => by
          rw [nm_eq]
          have fy : TF KT τ (uI τx 46 (r.2.2.2 : Int)) := fx.uI (by decide) _
          obtain ⟨τ', f', e'⟩ := m_im_L hS hR hm he c N r.2.2.2 T' (uI τx 46 (r.2.2.2 : Int)) (hT.tr fy (by decide)) (hI.tr fy (by decide) (by decide)) fb3 (by omega) (by omega) (by rw [tI_uI, if_pos rfl])
          exact ⟨τ', fy.tr f' (fun _ q => q), e'⟩
        unfold stR1
        cases er : rgt S m r.1 r.2.1 with
        | none =>
          have eN : oI none = -1 := rfl
          rw [eN, gd_pos (by omega), gd_pos (by exact fun q => absurd rfl q), gd_pos (by exact fun q => absurd rfl q), gd_pos (by exact fun q => absurd (Or.inl rfl) q), gd_pos (by exact fun q => absurd (Or.inl rfl) q), if_pos (Or.inl (Or.inl rfl)), gd_pos (by exact fun q => absurd rfl q), gd_pos (by exact fun q => absurd rfl q), gd_pos (by exact fun q => absurd (Or.inl rfl) q), if_pos (Or.inl (Or.inl rfl)), bind_some', elim_r, gd_pos (by exact fun q => absurd rfl q), gd_pos (by exact fun q => absurd rfl q), gd_pos (by exact fun q => absurd (Or.inl rfl) q), gd_pos (by exact fun q => absurd (Or.inl rfl) q), if_pos (Or.inl (Or.inl rfl)), bind_some', elim_r]
          exact go τ1 T f1
        | some f =>
          obtain ⟨hf, hfm, hkd⟩ := rgt_in er
          have eF : oI (some f) = (f : Int) := rfl
          have t28 : tA τ1 28 f = (qk S f : Int) := (hT1.2.2.2.2.1 f hf).2.2.1
          have hsk := (hS.2.2.2.2.1 f hf).2.2.2.1
          have hwp := wrK_plain hS hf
          have hpm := plain_m hS hf
          have tx : m_isText 2 (r.2.2.1 : Int) (r.2.2.2 : Int) τ1 = some (if txt (gN I) r.2.2.2 r.2.2.1 = true then 1 else 0) := m_isText_eq hI1 rfl rfl fb2 (by omega)
          rw [eF, gd_pos (by omega), gd_pos (by omega), Int.toNat_natCast, t28, gd_pos (by omega), tx, vv_s, gd_pos (by exact fun _ => rfl), gd_pos (by exact fun _ => by split <;> omega), m_isPlain_eq hS hT1 hf, vv_s]
          show ∃ τ', TF KT τ τ' ∧ _ = some (if (Option.bind (if plain S f then _ else _) fun T' => msgL S I sp m e c r.2.2.2 T').isSome then 1 else 0, τ')
          by_cases hpl : plain S f
          · have hnm := (hpm.mp hpl)
            rw [if_pos hpl, if_pos hpl, if_pos (Or.inl (Or.inr (by unfold plain at hpl; omega)))]
            rw [gd_pos (by exact fun _ => rfl), gd_pos (by omega), n49, gd_pos (by omega)]
            by_cases c2 : r.2.1 = 2
            · rw [if_pos c2, if_neg (by omega)]
              obtain ⟨τ2, f2, e2⟩ := m_arePacked_eq hS hT1 hI1 hf (by omega) fb2 (x := (f : Int)) rfl (y := (r.2.2.1 : Int)) rfl (z := (r.2.2.2 : Int)) rfl
              have f2' : TF KT τ τ2 := f1.tr f2 (by decide)
              have t28b : tA τ2 28 f = (qk S f : Int) := by rw [(f2 28 (by decide)).2.2]; exact t28
              rw [e2, bind_some']
              cases ep : pkS S I f r.2.2.1 r.2.2.2 with
              | none =>
                refine ⟨τ2, f2', ?_⟩
                show Option.bind (gd (rg 0) (if (0 : Int) = 0 then _ else _)) _ = _
                rw [gd_pos (by omega), if_pos rfl, bind_some']; rfl
              | some xs =>
                show ∃ τ', TF KT τ τ' ∧ Option.bind (gd (rg 1) (if (1 : Int) = 0 then (some (Sum.inl ((0, τ2)))) else (some (Sum.inr τ2)))) _ = some (if (msgL S I sp m e c r.2.2.2 (xs.foldl (nuT S f) T)).isSome then 1 else 0, τ')
                rw [gd_pos (by omega), if_neg (by omega), bind_some', elim_r, gd_pos (by omega), t28b, gd_pos (by omega), gd_pos (by omega), gd_pos (by omega), if_pos (by unfold plain at hpl; omega), bind_some', elim_r]
                exact go τ2 _ f2'
            · rw [if_neg c2, if_pos (by omega), bind_some', elim_r, t28, gd_pos (by omega), gd_pos (by omega), gd_pos (by omega), gd_pos (by omega), if_pos (by unfold plain at hpl; omega), bind_some', elim_r]
              obtain ⟨y, ey, -⟩ := own_num hS hf hpl ev (by
                rcases hkd with q | q
                · exact q
                · exact absurd q.2.2 c2)
              rw [ey]
              exact go τ1 _ f1
          · rw [if_neg hpl, if_neg hpl]
            by_cases cM : isM S f
            · rw [if_pos cM, if_pos (by omega), gd_pos (by exact fun _ => rfl), gd_pos (by omega), gd_pos (by omega), if_pos (Or.inl (Or.inr rfl)), bind_some', elim_r, t28, gd_pos (by omega), gd_pos (by omega), gd_pos (by omega), gd_pos (by omega), if_neg (by omega), gd_pos (by omega)]
              obtain ⟨τ2, f2, e2⟩ := hR (qk S f - 16) r.2.2.1 r.2.2.2 (if qr S f = 1 then emp d else subT f T) τ1 (by omega) fb2 (by omega) hT1 hI1
              have f2' : TF KT τ τ2 := f1.tr f2 (fun _ q => q)
              rw [show ((qk S f : Nat) : Int) - 16 = ((qk S f - 16 : Nat) : Int) by omega, e2, bind_some']
              cases es : sp (qk S f - 16) r.2.2.1 r.2.2.2 (if qr S f = 1 then emp d else subT f T) with
              | none =>
                refine ⟨τ2, f2', ?_⟩
                show Option.bind (gd (rg 0) (if (0 : Int) = 0 then _ else _)) _ = _
                rw [gd_pos (by omega), if_pos rfl, bind_some']; rfl
              | some T1 =>
                show ∃ τ', TF KT τ τ' ∧ Option.bind (gd (rg 1) (if (1 : Int) = 0 then (some (Sum.inl ((0, τ2)))) else (some (Sum.inr τ2)))) _ = some (if (msgL S I sp m e c r.2.2.2 (put S T (f, 0, [], T1))).isSome then 1 else 0, τ')
                rw [gd_pos (by omega), if_neg (by omega), bind_some', elim_r]
                exact go τ2 _ f2'
            · rw [if_neg cM]
              by_cases c9 : qk S f = 9 ∧ ¬ txt (gN I) r.2.2.2 r.2.2.1 = true
              · rw [if_pos c9, if_neg (by rw [if_neg c9.2]; omega)]
                exact ⟨τ1, f1, rfl⟩
              · rw [if_neg c9, if_pos (by
                  by_cases k9 : qk S f = 9
                  · right
                    have : txt (gN I) r.2.2.2 r.2.2.1 = true := by
                      by_cases q : txt (gN I) r.2.2.2 r.2.2.1 = true
                      · exact q
                      · exact absurd ⟨k9, q⟩ c9
                    rw [if_pos this]; omega
                  · left; right; omega), gd_pos (by exact fun _ => rfl), gd_pos (by omega), gd_pos (by omega), if_pos (Or.inl (Or.inr rfl)), bind_some', elim_r, t28, gd_pos (by omega), gd_pos (by omega), gd_pos (by omega), gd_pos (by omega), if_pos (by omega), bind_some', elim_r]
                exact go τ1 _ f1
theorem m_isMessage_eq (hS : SW S) : ∀ (d N : Nat) (dp : Int), d < N → d ≤ 8 → dp + (d : Int) = 9 → RM S I n (m_isMessage N) dp (msgS S I d)
  | 0, N, dp, hN, _, hd => fun m p e T τ hm hp he hT hI => by
    obtain ⟨N, rfl⟩ : ∃ m, N = m + 1 := ⟨N - 1, by omega⟩
    refine ⟨τ, TF.refl _ _, ?_⟩
    show m_isMessageb (m_isMessage N) _ _ _ _ _ = _
    unfold m_isMessageb
    rw [gd_pos (by omega), if_neg (by omega)]
    rfl
  | d + 1, N, dp, hN, hd8, hd => fun m p e T τ hm hp he hT hI => by
    obtain ⟨N, rfl⟩ : ∃ m, N = m + 1 := ⟨N - 1, by omega⟩
    have hn := hI.2.1
    have f0 : TF KT τ (uI τ 46 (p : Int)) := (TF.refl _ τ).uI (by decide) _
    obtain ⟨τ', f', e'⟩ := m_im_L hS (m_isMessage_eq hS d N (dp + 1) (by omega) (by omega) (by omega)) hm he (e - p + 1) FU p T (uI τ 46 (p : Int)) (hT.tr f0 (by decide)) (hI.tr f0 (by decide) (by decide)) hp (by omega) (FU_gt (by omega)) (by rw [tI_uI, if_pos rfl])
    refine ⟨τ', f0.tr f' (fun _ q => q), ?_⟩
    show m_isMessageb (m_isMessage N) _ _ _ _ _ = _
    unfold m_isMessageb
    rw [gd_pos (by omega), if_pos (by omega), nm_eq, e']
    rfl
end Im
