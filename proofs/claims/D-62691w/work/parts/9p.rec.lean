set_option maxRecDepth 100000
/-! THE WIRE, READ: numbers and records; what both sides compute -/
theorem lI_lN {j : Nat} (h : j < 2147483648) : lI (lN j) = (j : Int) := by
  unfold lI
  rw [Int64.toInt_toInt32, lN_int (by omega), Int.bmod_def]
  split <;> omega
theorem un_ush3 (x : Int64) : un (lUsh x 3) = un x / 8 := by
  unfold lUsh
  have e : ((Int32.ofInt 3).toInt64.toUInt64 &&& Int64.toUInt64 63) = 3 := by decide +kernel
  rw [e]
  show (x.toUInt64 >>> 3).toNat = _
  rw [UInt64.toNat_shiftRight, show (3 : UInt64).toNat % 64 = 3 by decide, Nat.shiftRight_eq_div_pow]
  rfl
theorem and7 (x : Int64) : lI (x &&& 7) = ((un x % 8 : Nat) : Int) := by
  have e : x &&& 7 = lN (un x % 8) := by
    apply un_inj
    rw [un_and, show un (7 : Int64) = 7 from rfl, un_lN (by omega)]
    exact Nat.and_two_pow_sub_one_eq_mod _ 3
  rw [e, lI_lN (by omega)]
theorem ush3_c (x : Int64) : ((lUsh x 3 = 0) ∨ (¬ (lUsh x 3 ≤ 536870911))) ↔ (un x / 8 = 0 ∨ 536870911 < un x / 8) := by
  have h := un_lt x
  have e := un_ush3 x
  have h1 : lUsh x 3 = lN (un x / 8) := by rw [← e, lN_un]
  rw [h1, show (0 : Int64) = lN 0 from rfl, lN_inj (by show _ < 18446744073709551616; omega) (by decide), show (536870911 : Int64) = lN 536870911 from rfl, lN_le2 (by show _ < 18446744073709551616; omega) (by decide)]
  omega
theorem ush3_s (x : Int64) : ((lUsh x 3 ≤ 0) ∨ (536870911 < lUsh x 3)) ↔ (un x / 8 = 0 ∨ 536870911 < un x / 8) := by
  have h := un_lt x
  have e := un_ush3 x
  have h1 : lUsh x 3 = lN (un x / 8) := by rw [← e, lN_un]
  rw [h1, show (0 : Int64) = lN 0 from rfl, lN_le2 (c := 0) (by show _ < 18446744073709551616; omega) (by decide), show (536870911 : Int64) = lN 536870911 from rfl, lN_lt2 (by decide) (by omega)]
  omega
theorem ush3_i {x : Int64} (h : un x / 8 ≤ 536870911) : lI (lUsh x 3) = ((un x / 8 : Nat) : Int) := by
  have h1 : lUsh x 3 = lN (un x / 8) := by rw [← un_ush3 x, lN_un]
  rw [h1, lI_lN (by omega)]
/-- a varint: the place behind it, its number -/
def vrL (I : Nat → Nat) (e : Nat) : Nat → Nat → Nat → Int64 → Option (Nat × Int64)
  | 0, _, _, _ => none
  | c + 1, k, p, v => if e ≤ p then none else if k = 9 ∧ 2 ≤ I p then none else if 128 ≤ I p then vrL I e c (k + 1) (p + 1) (v ||| lShl (iL (iAnd (I p : Int) 127)) (7 * (k : Int))) else some (p + 1, v ||| lShl (iL (iAnd (I p : Int) 127)) (7 * (k : Int)))
def vrS (I : Nat → Nat) (e p : Nat) : Option (Nat × Int64) := vrL I e 10 0 p 0
def fxL (I : Nat → Nat) (p : Nat) : Nat → Int64 → Int64
  | 0, v => v
  | k + 1, v => fxL I p k (lShl v 8 ||| iL (I (p + k) : Int))
def fxS (I : Nat → Nat) (w e p : Nat) : Option (Nat × Int64) := if e < p + w then none else some (p + w, fxL I p w 0)
/-- a length: where its bytes begin and end -/
def lnS (I : Nat → Nat) (e p : Nat) : Option (Nat × Nat) := (vrS I e p).bind fun r => if e < r.1 + un r.2 then none else some (r.1, r.1 + un r.2)
/-- a record: its number, its kind, where its value begins and ends -/
def fldS (I : Nat → Nat) (e p : Nat) : Option (Nat × Nat × Nat × Nat) := (vrS I e p).bind fun t =>
  if un t.2 / 8 = 0 ∨ 536870911 < un t.2 / 8 then none
  else if un t.2 % 8 = 0 then (vrS I e t.1).map fun r => (un t.2 / 8, 0, t.1, r.1)
  else if un t.2 % 8 = 2 then (lnS I e t.1).map fun r => (un t.2 / 8, 2, r.1, r.2)
  else if un t.2 % 8 = 1 ∨ un t.2 % 8 = 5 then (if e < t.1 + (if un t.2 % 8 = 1 then 8 else 4) then none else some (un t.2 / 8, un t.2 % 8, t.1, t.1 + (if un t.2 % 8 = 1 then 8 else 4)))
  else none
section Rb
variable {I : Nat → Nat} {e p : Nat}
theorem vrL_bd : ∀ (c k p : Nat) (v : Int64) (r : Nat × Int64), vrL I e c k p v = some r → p < r.1 ∧ r.1 ≤ e
  | 0, k, p, v, r, h => by cases h
  | c + 1, k, p, v, r, h => by
    rw [vrL] at h
    split at h
    · cases h
    · split at h
      · cases h
      · split at h
        · have := vrL_bd c _ _ _ _ h; omega
        · cases h; exact ⟨by simp only; omega, by simp only; omega⟩
theorem vrS_bd {r : Nat × Int64} (h : vrS I e p = some r) : p < r.1 ∧ r.1 ≤ e := vrL_bd _ _ _ _ _ h
theorem fxS_bd {w : Nat} {r : Nat × Int64} (h : fxS I w e p = some r) : r.1 = p + w ∧ r.1 ≤ e := by
  unfold fxS at h
  split at h
  · cases h
  · cases h; exact ⟨rfl, by simp only; omega⟩
theorem lnS_bd {r : Nat × Nat} (h : lnS I e p = some r) : p < r.1 ∧ r.1 ≤ r.2 ∧ r.2 ≤ e := by
  unfold lnS at h
  cases ev : vrS I e p with
  | none => rw [ev] at h; cases h
  | some t =>
    rw [ev] at h
    have hb := vrS_bd ev
    change (if e < t.1 + un t.2 then none else some (t.1, t.1 + un t.2)) = some r at h
    split at h
    · cases h
    · cases h; exact ⟨hb.1, by simp only; omega, by simp only; omega⟩
theorem fldS_bd {r : Nat × Nat × Nat × Nat} (h : fldS I e p = some r) : p < r.2.2.1 ∧ r.2.2.1 ≤ r.2.2.2 ∧ r.2.2.2 ≤ e ∧ 1 ≤ r.1 ∧ r.1 ≤ 536870911 ∧ (r.2.1 = 0 ∨ r.2.1 = 1 ∨ r.2.1 = 2 ∨ r.2.1 = 5) := by
  unfold fldS at h
  cases ev : vrS I e p with
  | none => rw [ev] at h; cases h
  | some t =>
    rw [ev] at h
    have hb := vrS_bd ev
    change (if un t.2 / 8 = 0 ∨ 536870911 < un t.2 / 8 then none else _) = some r at h
    split at h
    · cases h
    · split at h
      · cases e2 : vrS I e t.1 with
        | none => rw [e2] at h; cases h
        | some q => rw [e2] at h; cases h; have := vrS_bd e2; exact ⟨hb.1, by simp only; omega, by simp only; omega, by simp only; omega, by simp only; omega, Or.inl rfl⟩
      · split at h
        · cases e2 : lnS I e t.1 with
          | none => rw [e2] at h; cases h
          | some q => rw [e2] at h; cases h; have := lnS_bd e2; exact ⟨by simp only; omega, by simp only; omega, by simp only; omega, by simp only; omega, by simp only; omega, Or.inr (Or.inr (Or.inl rfl))⟩
        · obtain ⟨w, hw⟩ : ∃ w, w = (if un t.2 % 8 = 1 then 8 else 4) := ⟨_, rfl⟩
          rw [← hw] at h
          split at h
          · split at h
            · cases h
            · cases h; exact ⟨hb.1, by simp only; omega, by simp only; omega, by simp only; omega, by simp only; omega, by simp only; omega⟩
          · cases h
end Rb
abbrev KT : List Nat := [46, 47, 48, 49, 50, 51]
section Rr
variable {I : Nat → Nat} {n e p : Nat} {τ : TT}
theorem m_tv_L (he : e ≤ n) : ∀ (c k N p : Nat) (τ : TT), k + (c + 1) = 10 → c + 1 < N → TIn τ I n → tI τ 46 = (p : Int) → p ≤ n → ∃ τ', TF [46, 47] τ τ' ∧ (match vrL I e (c + 1) k p (tJ τ 47) with | some r => m_takeVarint_L7 (e : Int) N (k : Int) τ = some (1, τ') ∧ tI τ' 46 = (r.1 : Int) ∧ tJ τ' 47 = r.2 | none => m_takeVarint_L7 (e : Int) N (k : Int) τ = some (0, τ'))
  | c, k, 0, p, τ, _, h, _, _, _ => by omega
  | c, k, N + 1, p, τ, hk, hN, hI, hp, hpn => by
    have hn := hI.2.1
    rw [vrL, m_takeVarint_L7, hp, gd_pos (show rg (k : Int) by omega), if_neg (show ¬ (10 : Int) ≤ (k : Int) by omega), gd_pos (show rg (p : Int) by omega), gd_pos (show rg (e : Int) by omega)]
    by_cases c1 : e ≤ p
    · rw [if_pos c1, if_neg (show ¬ (p : Int) < (e : Int) by omega)]
      exact ⟨τ, TF.refl _ _, rfl⟩
    · have hb := hI.2.2.2 p
      have hx : tA τ 2 p = (I p : Int) := hI.2.2.1 p (by omega)
      rw [if_neg c1, if_pos (show (p : Int) < (e : Int) by omega), gd_pos (show ib (p : Int) 1000 by omega), nm_eq, nm_eq, Int.toNat_natCast, hx, gd_pos (show (k : Int) = 9 → rg (I p : Int) by omega)]
      by_cases c9 : k = 9 ∧ 2 ≤ I p
      · rw [if_pos c9, if_pos (show (k : Int) = 9 ∧ ¬ (I p : Int) ≤ 1 by omega)]
        exact ⟨uI τ 46 ((p : Int) + 1), (TF.refl _ _).uI (by decide) _, rfl⟩
      · rw [if_neg c9, if_neg (show ¬ ((k : Int) = 9 ∧ ¬ (I p : Int) ≤ 1) by omega), nm_eq, tJ_uI, gd_pos (show rg (I p : Int) by omega)]
        obtain ⟨τ1, h1⟩ : ∃ τ1, τ1 = uJ (uI τ 46 ((p : Int) + 1)) 47 (tJ τ 47 ||| lShl (iL (iAnd (I p : Int) 127)) (7 * (k : Int))) := ⟨_, rfl⟩
        have f1 : TF [46, 47] τ τ1 := by rw [h1]; exact ((TF.refl _ τ).uI (by decide) _).uJ (by decide) _
        have p1 : tI τ1 46 = ((p + 1 : Nat) : Int) := by rw [h1, tI_uJ, tI_uI, if_pos rfl]; omega
        have j1 : tJ τ1 47 = tJ τ 47 ||| lShl (iL (iAnd (I p : Int) 127)) (7 * (k : Int)) := by rw [h1, tJ_uJ, if_pos rfl]
        rw [← h1]
        by_cases c128 : 128 ≤ I p
        · rw [if_pos c128, if_pos (show (128 : Int) ≤ (I p : Int) by omega), ← j1]
          cases c with
          | zero => omega
          | succ c =>
            rw [show (k : Int) + 1 = ((k + 1 : Nat) : Int) by omega]
            obtain ⟨τ2, f2, q2⟩ := m_tv_L he c (k + 1) N (p + 1) τ1 (by omega) (by omega) (hI.tr f1 (by decide) (by decide)) p1 (by omega)
            exact ⟨τ2, f1.tr f2 (fun _ q => q), q2⟩
        · rw [if_neg c128, if_neg (show ¬ (128 : Int) ≤ (I p : Int) by omega)]
          exact ⟨τ1, f1, rfl, p1, j1⟩
theorem m_takeVarint_eq (he : e ≤ n) (hI : TIn τ I n) (hp : tI τ 46 = (p : Int)) (hpn : p ≤ n) {x : Int} (hx : x = (e : Int)) : ∃ τ', TF [46, 47] τ τ' ∧ (match vrS I e p with | some r => m_takeVarint x τ = some (1, τ') ∧ tI τ' 46 = (r.1 : Int) ∧ tJ τ' 47 = r.2 | none => m_takeVarint x τ = some (0, τ')) := by
  subst hx
  have f0 : TF [46, 47] τ (uJ τ 47 0) := (TF.refl _ τ).uJ (by decide) _
  have q := m_tv_L (I := I) he 9 0 FU p (uJ τ 47 0) (by omega) (FU_gt (by omega)) (hI.tr f0 (by decide) (by decide)) hp hpn
  obtain ⟨τ', f1, q1⟩ := q
  refine ⟨τ', f0.tr f1 (fun _ q => q), ?_⟩
  have e0 : tJ (uJ τ 47 0) 47 = 0 := by rw [tJ_uJ, if_pos rfl]
  rw [e0] at q1
  have em : m_takeVarint (e : Int) τ = m_takeVarint_L7 (e : Int) FU ((0 : Nat) : Int) (uJ τ 47 0) := by unfold m_takeVarint; rw [nm_eq]; rfl
  rw [em]
  unfold vrS
  exact q1
theorem ln_c {r : Nat × Int64} (hr : r.1 ≤ e) (he : e ≤ 1000) {x : Int} (hx : x = (e : Int) - (r.1 : Int)) : ((r.2 < 0) ∨ (¬ (r.2 ≤ iL x))) ↔ e < r.1 + un r.2 := by
  have h := un_lt r.2
  have h1 : r.2 = lN (un r.2) := (lN_un r.2).symm
  have h2 : iL x = lN (e - r.1) := iL_n (by omega) (by omega)
  rw [h2]
  have a1 := lN_neg (v := un r.2) h
  have a2 := lN_le2 (v := un r.2) (c := e - r.1) h (by omega)
  rw [← h1] at a1 a2
  rw [a1, a2]
  omega
theorem ln_s {r : Nat × Int64} (hr : r.1 ≤ e) (he : e ≤ 1000) {x : Int} (hx : x = (e : Int) - (r.1 : Int)) : ((r.2 < 0) ∨ (iL x < r.2)) ↔ e < r.1 + un r.2 := by
  rw [← ln_c hr he hx, Int64.not_le]
theorem ln_i {r : Nat × Int64} (he : e ≤ 1000) (h : ¬ e < r.1 + un r.2) : lI r.2 = (un r.2 : Int) := by
  have := lI_lN (j := un r.2) (by omega)
  rw [lN_un] at this
  exact this
theorem m_takeField_eq (he : e ≤ n) (hI : TIn τ I n) (hp : tI τ 46 = (p : Int)) (hpn : p ≤ n) {x : Int} (hx : x = (e : Int)) : ∃ τ', TF KT τ τ' ∧ (match fldS I e p with | some r => m_takeField x τ = some (1, τ') ∧ tI τ' 48 = (r.1 : Int) ∧ tI τ' 49 = (r.2.1 : Int) ∧ tI τ' 50 = (r.2.2.1 : Int) ∧ tI τ' 51 = (r.2.2.2 : Int) ∧ tI τ' 46 = (r.2.2.2 : Int) | none => m_takeField x τ = some (0, τ')) := by
  have hn := hI.2.1
  have hx' := hx
  subst hx
  obtain ⟨τ1, f1, q1⟩ := m_takeVarint_eq he hI hp hpn rfl
  have f1' : TF KT τ τ1 := f1.mono (by decide)
  unfold m_takeField fldS
  cases ev : vrS I e p with
  | none =>
    rw [ev] at q1
    refine ⟨τ1, f1', ?_⟩
    show Option.bind _ _ = _
    rw [q1, bind_some', gd_pos (by omega), if_pos rfl]
  | some t =>
    rw [ev] at q1
    obtain ⟨e1, s1, j1⟩ := q1
    have tb := vrS_bd ev
    have h8 := Nat.mod_lt (un t.2) (show 0 < 8 by decide)
    rw [e1, bind_some', bind_some', gd_pos (by omega), if_neg (show ¬ (((1 : Int), τ1).1 = 0) by omega), nm_eq, nm_eq, j1, and7]
    obtain ⟨τ6, h6⟩ : ∃ τ6, τ6 = uI τ1 49 ((un t.2 % 8 : Nat) : Int) := ⟨_, rfl⟩
    have f6 : TF KT τ τ6 := by rw [h6]; exact f1'.uI (by decide) _
    rw [← h6]
    by_cases c0 : un t.2 / 8 = 0 ∨ 536870911 < un t.2 / 8
    · rw [if_pos c0, if_pos ((ush3_c t.2).mpr c0)]
      exact ⟨τ6, f6, rfl⟩
    · rw [if_neg c0, if_neg (fun q => c0 ((ush3_c t.2).mp q)), nm_eq, nm_eq, ush3_i (by omega)]
      obtain ⟨τ11, h11⟩ : ∃ τ11, τ11 = uI (uI τ6 48 ((un t.2 / 8 : Nat) : Int)) 50 (tI (uI τ6 48 ((un t.2 / 8 : Nat) : Int)) 46) := ⟨_, rfl⟩
      have f11 : TF KT τ τ11 := by rw [h11]; exact (f6.uI (by decide) _).uI (by decide) _
      have s11 : tI τ11 46 = (t.1 : Int) := by rw [h11, h6]; exact s1
      have k11 : tI τ11 49 = ((un t.2 % 8 : Nat) : Int) := by rw [h11, h6]; rfl
      have n11 : tI τ11 48 = ((un t.2 / 8 : Nat) : Int) := by rw [h11]; rfl
      have v11 : tI τ11 50 = (t.1 : Int) := by rw [h11, h6]; exact s1
      have I11 : TIn τ11 I n := hI.tr f11 (by decide) (by decide)
      rw [← h11, k11, gd_pos (by omega)]
      by_cases d0 : un t.2 % 8 = 0
      · rw [if_pos d0, if_pos (show ((un t.2 % 8 : Nat) : Int) = 0 by omega)]
        obtain ⟨τ2, f2, q2⟩ := m_takeVarint_eq he I11 s11 (by omega) hx'
        have f2' : TF KT τ τ2 := f11.tr f2 (by decide)
        cases e2 : vrS I e t.1 with
        | none =>
          rw [e2] at q2
          refine ⟨τ2, f2', ?_⟩
          show Option.bind (Option.bind _ _) _ = _
          rw [q2, bind_some', gd_pos (by omega), if_pos rfl, bind_some']; rfl
        | some r =>
          rw [e2] at q2
          obtain ⟨e3, s3, j3⟩ := q2
          refine ⟨uI τ2 51 (tI τ2 46), f2'.uI (by decide) _, ?_, ?_, ?_, ?_, ?_, ?_⟩
          · rw [e3, bind_some', gd_pos (by omega), if_neg (by omega), bind_some', elim_r, nm_eq]
          · show tI τ2 48 = _; rw [(f2 48 (by decide)).1]; exact n11
          · show tI τ2 49 = _; rw [(f2 49 (by decide)).1, k11, d0]
          · show tI τ2 50 = _; rw [(f2 50 (by decide)).1]; exact v11
          · rw [tI_uI, if_pos rfl]; exact s3
          · show tI τ2 46 = _; exact s3
      · rw [if_neg d0, if_neg (show ¬ ((un t.2 % 8 : Nat) : Int) = 0 by omega)]
        by_cases d2 : un t.2 % 8 = 2
        · rw [if_pos d2, if_pos (show ((un t.2 % 8 : Nat) : Int) = 2 by omega)]
          obtain ⟨τ2, f2, q2⟩ := m_takeVarint_eq he I11 s11 (by omega) hx'
          have f2' : TF KT τ τ2 := f11.tr f2 (by decide)
          unfold lnS
          cases e2 : vrS I e t.1 with
          | none =>
            rw [e2] at q2
            refine ⟨τ2, f2', ?_⟩
            show Option.bind (Option.bind _ _) _ = _
            rw [q2, bind_some', gd_pos (by omega), if_pos (Or.inl (Or.inl rfl)), bind_some']; rfl
          | some r =>
            rw [e2] at q2
            obtain ⟨e3, s3, j3⟩ := q2
            have rb := vrS_bd e2
            have lc := ln_c (e := e) (r := r) rb.2 (by omega) (x := (e : Int) - tI τ2 46) (by rw [s3])
            rw [e3, bind_some', bind_some', gd_pos (by omega), j3]
            by_cases c2 : e < r.1 + un r.2
            · rw [if_pos c2, if_pos (by
                rcases lc.mpr c2 with q | q
                · exact Or.inl (Or.inr q)
                · exact Or.inr q)]
              exact ⟨τ2, f2', by rw [bind_some']; rfl⟩
            · rw [if_neg c2, if_neg (by
                rintro ((q | q) | q)
                · omega
                · exact c2 (lc.mp (Or.inl q))
                · exact c2 (lc.mp (Or.inr q))), nm_eq, nm_eq, bind_some', elim_r, nm_eq]
              have e4 : tI (uI τ2 50 (tI τ2 46)) 46 + lI (tJ (uI τ2 50 (tI τ2 46)) 47) = ((r.1 + un r.2 : Nat) : Int) := by
                show tI τ2 46 + lI (tJ τ2 47) = _
                rw [s3, j3, ln_i (by omega) c2]; omega
              rw [e4]
              refine ⟨_, ((f2'.uI (by decide) _).uI (by decide) _).uI (by decide) _, rfl, ?_, ?_, ?_, ?_, ?_⟩
              · show tI τ2 48 = _; rw [(f2 48 (by decide)).1]; exact n11
              · show tI τ2 49 = _; rw [(f2 49 (by decide)).1, k11, d2]
              · show tI τ2 46 = _; exact s3
              · rfl
              · rfl
        · rw [if_neg d2, if_neg (show ¬ ((un t.2 % 8 : Nat) : Int) = 2 by omega)]
          by_cases d15 : un t.2 % 8 = 1 ∨ un t.2 % 8 = 5
          · rw [if_pos d15, if_pos (show (((un t.2 % 8 : Nat) : Int) = 1) ∨ (((un t.2 % 8 : Nat) : Int) = 5) by omega)]
            obtain ⟨w, hw⟩ : ∃ w, w = (if un t.2 % 8 = 1 then 8 else 4) := ⟨_, rfl⟩
            have ew : (if ((un t.2 % 8 : Nat) : Int) = 1 then (some 8) else (some 4) : Option Int) = some (w : Int) := by
              rw [hw]
              by_cases d1 : un t.2 % 8 = 1
              · rw [if_pos (by omega), if_pos d1]; rfl
              · rw [if_neg (by omega), if_neg d1]; rfl
            have hw8 : w ≤ 8 := by rw [hw]; split <;> omega
            rw [ew, bind_some', s11, gd_pos (by omega), gd_pos (by omega), ← hw]
            by_cases c2 : e < t.1 + w
            · rw [if_pos c2, if_neg (show ¬ (w : Int) ≤ (e : Int) - (t.1 : Int) by omega)]
              exact ⟨τ11, f11, by rw [bind_some']; rfl⟩
            · rw [if_neg c2, if_pos (show (w : Int) ≤ (e : Int) - (t.1 : Int) by omega), nm_eq, bind_some', elim_r, nm_eq]
              refine ⟨_, (f11.uI (by decide) _).uI (by decide) _, rfl, ?_, ?_, ?_, ?_, ?_⟩
              · show tI τ11 48 = _; exact n11
              · show tI τ11 49 = _; exact k11
              · show tI τ11 50 = _; exact v11
              · show (t.1 : Int) + (w : Int) = ((t.1 + w : Nat) : Int); omega
              · show (t.1 : Int) + (w : Int) = ((t.1 + w : Nat) : Int); omega
          · rw [if_neg d15, if_neg (show ¬ ((((un t.2 % 8 : Nat) : Int) = 1) ∨ (((un t.2 % 8 : Nat) : Int) = 5)) by omega)]
            exact ⟨τ11, f11, by rw [bind_some']; rfl⟩
end Rr
