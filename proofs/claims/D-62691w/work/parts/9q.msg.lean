set_option maxRecDepth 100000
/-! THE WIRE, READ: fields, numbers, messages; what both sides compute -/
def byU (S : SC) (m k : Nat) : Option Nat := (List.range (nF_ S)).find? (fun f => decide (qm S f = m ∧ qn S f = k))
def BU (S : SC) (m k : Nat) (o : Option Nat) : Prop := match o with
  | some f => f < nF_ S ∧ qm S f = m ∧ qn S f = k
  | none => ∀ g, g < nF_ S → qm S g = m → qn S g ≠ k
theorem byU_ok (S : SC) (m k : Nat) : BU S m k (byU S m k) := by
  cases h : byU S m k with
  | none =>
    intro g hg hm hk
    exact List.find?_eq_none.mp h g (List.mem_range.mpr hg) (decide_eq_true ⟨hm, hk⟩)
  | some f =>
    have q1 := List.find?_some h
    have q2 := List.mem_of_find?_eq_some h
    exact ⟨List.mem_range.mp q2, (of_decide_eq_true q1).1, (of_decide_eq_true q1).2⟩
theorem BU.uniq {S : SC} (hS : SW S) {m k : Nat} {o o' : Option Nat} (h : BU S m k o) (h' : BU S m k o') : o = o' := by
  cases o with
  | none =>
    cases o' with
    | none => rfl
    | some f => exact absurd h'.2.2 (h f h'.1 h'.2.1)
  | some f =>
    cases o' with
    | none => exact absurd h.2.2 (h' f h.1 h.2.1)
    | some g =>
      by_cases e : f = g
      · rw [e]
      · exact absurd (h.2.2.trans h'.2.2.symm) (hS.2.2.2.2.2.1 f g h.1 h'.1 e (h.2.1.trans h'.2.1.symm)).1
/-- the field of a record, if its kind is right -/
def rgt (S : SC) (m k kd : Nat) : Option Nat := (byU S m k).bind fun f => if (kd : Int) = wrK S f ∨ (qr S f = 1 ∧ plain S f ∧ kd = 2) then some f else none
theorem rgt_in {S : SC} {m k kd f : Nat} (h : rgt S m k kd = some f) : f < nF_ S ∧ qm S f = m ∧ ((kd : Int) = wrK S f ∨ (qr S f = 1 ∧ plain S f ∧ kd = 2)) := by
  unfold rgt at h
  have hb := byU_ok S m k
  cases e : byU S m k with
  | none => rw [e] at h; cases h
  | some g =>
    rw [e] at h hb
    change (if (kd : Int) = wrK S g ∨ (qr S g = 1 ∧ plain S g ∧ kd = 2) then some g else none) = some f at h
    split at h
    · cases h; exact ⟨hb.1, hb.2.1, by assumption⟩
    · cases h
def nmS (S : SC) (I : Nat → Nat) (f e p : Nat) : Option (Nat × Int64) := if wrK S f = 1 then fxS I 8 e p else if wrK S f = 5 then fxS I 4 e p else vrS I e p
theorem nmS_bd {S : SC} {I : Nat → Nat} {f e p : Nat} {r : Nat × Int64} (h : nmS S I f e p = some r) : p < r.1 ∧ r.1 ≤ e := by
  unfold nmS at h
  split at h
  · have := fxS_bd h; omega
  · split at h
    · have := fxS_bd h; omega
    · exact vrS_bd h
def pkL (S : SC) (I : Nat → Nat) (f e : Nat) : Nat → Nat → List Int64 → Option (List Int64)
  | 0, _, _ => none
  | c + 1, p, acc => if e ≤ p then some acc else (nmS S I f e p).bind fun r => pkL S I f e c r.1 (acc ++ [r.2])
def pkS (S : SC) (I : Nat → Nat) (f p e : Nat) : Option (List Int64) := pkL S I f e (e - p + 1) p []
/-- what a number means for a field -/
def mnt (S : SC) (f : Nat) (v : Int64) : Int64 := if qk S f = 0 ∨ 32 ≤ qk S f then iL (lI v) else if qk S f = 2 then v &&& 4294967295 else if qk S f = 4 then iL (iXor (lI (lUsh (v &&& 4294967295) 1)) (-(lI (v &&& 1)))) else if qk S f = 5 then (lUsh v 1) ^^^ (-(v &&& 1)) else if qk S f = 8 then (if v = 0 then 0 else 1) else v
def subT {d : Nat} (f : Nat) (T : TV (d + 1)) : TV d := match hdS f (t1 T) with
  | some s => s.2.2.2
  | none => emp d
def nuT {d : Nat} (S : SC) (f : Nat) (T : TV (d + 1)) (x : Int64) : TV (d + 1) := put S T (f, mnt S f x, [], emp d)
section Ms
variable (S : SC) (I : Nat → Nat)
/-- a record is taken -/
def stR1 {d : Nat} (rec : Nat → Nat → Nat → TV d → Option (TV d)) (m : Nat) (r : Nat × Nat × Nat × Nat) (T : TV (d + 1)) : Option (TV (d + 1)) := match rgt S m r.1 r.2.1 with
  | none => some T
  | some f => if plain S f then (if r.2.1 = 2 then (pkS S I f r.2.2.1 r.2.2.2).map (fun xs => xs.foldl (nuT S f) T) else (nmS S I f r.2.2.2 r.2.2.1).map (fun y => nuT S f T y.2)) else if isM S f then (rec (qk S f - 16) r.2.2.1 r.2.2.2 (if qr S f = 1 then emp d else subT f T)).map (fun T1 => put S T (f, 0, [], T1)) else if qk S f = 9 ∧ ¬ txt (gN I) r.2.2.2 r.2.2.1 = true then none else some (put S T (f, 0, cut I r.2.2.1 r.2.2.2, emp d))
def msgL {d : Nat} (rec : Nat → Nat → Nat → TV d → Option (TV d)) (m e : Nat) : Nat → Nat → TV (d + 1) → Option (TV (d + 1))
  | 0, _, _ => none
  | c + 1, p, T => if e ≤ p then some T else (fldS I e p).bind fun r => (stR1 S I rec m r T).bind fun T' => msgL rec m e c r.2.2.2 T'
def msgS : (d : Nat) → Nat → Nat → Nat → TV d → Option (TV d)
  | 0, _, _, _, _ => none
  | d + 1, m, p, e, T => msgL S I (msgS d) m e (e - p + 1) p T
end Ms
theorem vrL_end {I : Nat → Nat} {e : Nat} : ∀ (c k p : Nat) (v : Int64) (r : Nat × Int64) (e' : Nat), vrL I e c k p v = some r → r.1 ≤ e' → vrL I e' c k p v = some r
  | 0, k, p, v, r, e', h, _ => by cases h
  | c + 1, k, p, v, r, e', h, he => by
    have hb := vrL_bd _ _ _ _ _ h
    rw [vrL] at h ⊢
    rw [if_neg (by omega)] at h ⊢
    split at h
    · cases h
    · rename_i q
      rw [if_neg q]
      split at h
      · rename_i q2
        rw [if_pos q2]
        exact vrL_end c _ _ _ _ e' h he
      · rename_i q2
        rw [if_neg q2]
        exact h
section Mr
variable {S : SC} {I : Nat → Nat} {n e p f m : Nat} {τ : TT}
/-- the number of a record with a field's own kind -/
theorem own_num (hS : SW S) (hf : f < nF_ S) (hpl : plain S f) {r : Nat × Nat × Nat × Nat} (h : fldS I e p = some r) (hk : (r.2.1 : Int) = wrK S f) : ∃ x, nmS S I f r.2.2.2 r.2.2.1 = some (r.2.2.2, x) ∧ nmS S I f e r.2.2.1 = some (r.2.2.2, x) := by
  have hw := wrK_plain hS hf
  have hr := wrK_rg S f
  unfold fldS at h
  cases ev : vrS I e p with
  | none => rw [ev] at h; cases h
  | some t =>
    rw [ev] at h
    change (if un t.2 / 8 = 0 ∨ 536870911 < un t.2 / 8 then none else _) = some r at h
    split at h
    · cases h
    · split at h
      · cases e2 : vrS I e t.1 with
        | none => rw [e2] at h; cases h
        | some q =>
          rw [e2] at h
          cases h
          have hk' : (0 : Int) = wrK S f := hk
          refine ⟨q.2, ?_, ?_⟩
          · show nmS S I f q.1 t.1 = some (q.1, q.2)
            unfold nmS
            rw [if_neg (by omega), if_neg (by omega)]
            exact vrL_end _ _ _ _ _ q.1 e2 (Nat.le_refl _)
          · show nmS S I f e t.1 = some (q.1, q.2)
            unfold nmS
            rw [if_neg (by omega), if_neg (by omega), e2]
      · split at h
        · cases e2 : lnS I e t.1 with
          | none => rw [e2] at h; cases h
          | some q =>
            rw [e2] at h
            cases h
            have hk' : (2 : Int) = wrK S f := hk
            exact absurd hpl (hw.mp hk'.symm)
        · obtain ⟨w, hw⟩ : ∃ w, w = (if un t.2 % 8 = 1 then 8 else 4) := ⟨_, rfl⟩
          rw [← hw] at h
          split at h
          · rename_i q15
            split at h
            · cases h
            · rename_i qe
              cases h
              have hk' : ((un t.2 % 8 : Nat) : Int) = wrK S f := hk
              have hx : (w = 8 ∧ wrK S f = 1) ∨ (w = 4 ∧ wrK S f = 5) := by
                rw [hw]
                by_cases c1 : un t.2 % 8 = 1
                · rw [if_pos c1]; exact Or.inl ⟨rfl, by omega⟩
                · rw [if_neg c1]; exact Or.inr ⟨rfl, by omega⟩
              rcases hx with ⟨w8, k1⟩ | ⟨w4, k5⟩
              · rw [w8] at qe
                refine ⟨fxL I t.1 8 0, ?_, ?_⟩
                · show nmS S I f (t.1 + w) t.1 = some (t.1 + w, _)
                  unfold nmS fxS
                  rw [if_pos k1, w8, if_neg (by omega)]
                · show nmS S I f e t.1 = some (t.1 + w, _)
                  unfold nmS fxS
                  rw [if_pos k1, w8, if_neg qe]
              · rw [w4] at qe
                refine ⟨fxL I t.1 4 0, ?_, ?_⟩
                · show nmS S I f (t.1 + w) t.1 = some (t.1 + w, _)
                  unfold nmS fxS
                  rw [if_neg (by omega), if_pos k5, w4, if_neg (by omega)]
                · show nmS S I f e t.1 = some (t.1 + w, _)
                  unfold nmS fxS
                  rw [if_neg (by omega), if_pos k5, w4, if_neg qe]
          · cases h
theorem m_fieldOf_L (hS : SW S) (hT : TSc τ S) {k : Nat} (hm : m < 100) (hk : k < 2000000000) : ∀ (c N i : Nat), i + c = nF_ S → c < N → (∀ g, g < i → qm S g = m → qn S g ≠ k) → ∃ o, m_fieldOf_L2 (m : Int) (k : Int) τ N (i : Int) = some (oI o) ∧ BU S m k o
  | c, 0, i, _, h, _ => by omega
  | 0, N + 1, i, h, _, hb => by
    have h50 := hS.1
    have t38 := hT.2.2.2.1
    exact ⟨none, by rw [m_fieldOf_L2, t38, gd_pos (by omega), gd_pos (by omega), if_pos (by omega)]; rfl, fun g hg => hb g (by omega)⟩
  | c + 1, N + 1, i, h, hN, hb => by
    have h50 := hS.1
    have t38 := hT.2.2.2.1
    have hi : i < nF_ S := by omega
    obtain ⟨t23, t24, -⟩ := hT.2.2.2.2.1 i hi
    obtain ⟨k1, -, k3, -⟩ := hS.2.2.2.2.1 i hi
    have hM := hS.2.2.1
    rw [m_fieldOf_L2, t38, gd_pos (by omega), gd_pos (by omega), if_neg (by omega), gd_pos (by omega), Int.toNat_natCast, t23, t24, gd_pos (by omega), gd_pos (by omega), gd_pos (by omega), gd_pos (by omega)]
    by_cases cq : qm S i = m ∧ qn S i = k
    · rw [if_pos (by omega)]
      exact ⟨some i, rfl, hi, cq.1, cq.2⟩
    · rw [if_neg (by omega), show (i : Int) + 1 = ((i + 1 : Nat) : Int) by omega]
      refine m_fieldOf_L hS hT hm hk c N (i + 1) (by omega) (by omega) (fun g hg hgm => ?_)
      by_cases e : g = i
      · rw [e] at hgm ⊢; exact fun q => cq ⟨hgm, q⟩
      · exact hb g (by omega) hgm
theorem m_rightField_eq (hS : SW S) (hT : TSc τ S) {k kd : Nat} (hm : m < 100) (hk : k < 2000000000) (hkd : kd < 8) (h48 : tI τ 48 = (k : Int)) (h49 : tI τ 49 = (kd : Int)) {x : Int} (hx : x = (m : Int)) : m_rightField x τ = some (oI (rgt S m k kd)) := by
  subst hx
  have h50 := hS.1
  obtain ⟨o, e1, b1⟩ := m_fieldOf_L (m := m) (k := k) hS hT hm hk (nF_ S) FU 0 (by omega) (FU_gt (by omega)) (fun g hg => absurd hg (Nat.not_lt_zero _))
  have eo := BU.uniq hS b1 (byU_ok S m k)
  have e1' : m_fieldOf (m : Int) (k : Int) τ = some (oI o) := e1
  unfold m_rightField rgt
  rw [h48, h49, e1', bind_some', ← eo]
  cases o with
  | none =>
    have eN : oI none = -1 := rfl
    rw [eN, gd_pos (by omega), gd_pos (by exact fun q => absurd rfl q), gd_pos (by exact fun q => absurd rfl q), gd_pos (by exact fun q => absurd rfl q), if_pos (Or.inl rfl)]
    rfl
  | some f =>
    have hf : f < nF_ S := b1.1
    have t29 : tA τ 29 f = qr S f := (hT.2.2.2.2.1 f hf).2.2.2.2.1
    have r01 := (hS.2.2.2.2.1 f hf).2.2.2.2.2.2.1
    have hr := wrK_rg S f
    have eF : oI (some f) = (f : Int) := rfl
    rw [eF, m_ownKind_eq hS hT hf, m_isPlain_eq hS hT hf, vv_s, vv_s, gd_pos (by omega), gd_pos (by exact fun _ => rfl), gd_pos (by omega), gd_pos (by omega)]
    show _ = some (oI (if (kd : Int) = wrK S f ∨ (qr S f = 1 ∧ plain S f ∧ kd = 2) then some f else none))
    by_cases c1 : (kd : Int) = wrK S f
    · rw [if_pos (Or.inr c1), if_pos (Or.inl c1)]; rfl
    · rw [if_neg (by omega), gd_pos (by omega), Int.toNat_natCast, t29, gd_pos (by omega), gd_pos (by exact fun _ => rfl), gd_pos (by exact fun _ => by split <;> omega), gd_pos (by omega)]
      by_cases c2 : qr S f = 1 ∧ plain S f ∧ kd = 2
      · rw [if_neg (by rw [if_pos c2.2.1]; omega), if_pos (Or.inr c2)]; rfl
      · rw [if_pos (by
          by_cases d1 : qr S f = 0
          · exact Or.inl (Or.inl d1)
          · by_cases d2 : plain S f
            · right
              have : ¬ kd = 2 := fun q => c2 ⟨by omega, d2, q⟩
              omega
            · left; right; rw [if_neg d2]), if_neg (fun q => q.elim c1 c2)]
        rfl
theorem m_tn_L (hI : TIn τ I n) (u : Int) : ∀ (k N : Nat) (τ1 : TT), TF [47] τ τ1 → tI τ1 46 = (p : Int) → p + k ≤ n → k < N → ∃ τ', m_takeNumber_L61 u N ((k : Int) - 1) τ1 = some τ' ∧ TF [47] τ1 τ' ∧ tJ τ' 47 = fxL I p k (tJ τ1 47)
  | k, 0, τ1, _, _, _, h => by omega
  | 0, N + 1, τ1, _, _, _, _ => ⟨τ1, by rw [m_takeNumber_L61, gd_pos (by omega), if_pos (by omega)], TF.refl _ _, rfl⟩
  | k + 1, N + 1, τ1, f1, h46, hk, hN => by
    have hn := hI.2.1
    have hx : tA τ1 2 (p + k) = (I (p + k) : Int) := by rw [(f1 2 (by decide)).2.2]; exact hI.2.2.1 _ (by omega)
    obtain ⟨τ', e1, g1, g2⟩ := m_tn_L hI u k N (uJ τ1 47 (lShl (tJ τ1 47) 8 ||| iL (I (p + k) : Int))) (f1.uJ (by decide) _) h46 (by omega) (by omega)
    refine ⟨τ', ?_, ((TF.refl _ τ1).uJ (by decide) _).tr g1 (fun _ q => q), by rw [g2, tJ_uJ, if_pos rfl]; rfl⟩
    rw [m_takeNumber_L61, h46, gd_pos (by omega), if_neg (by omega), gd_pos (by omega), nm_eq, show ((p : Int) + (((k + 1 : Nat) : Int) - 1)).toNat = p + k by omega, hx, show ((k + 1 : Nat) : Int) - 1 + (-1) = (k : Int) - 1 by omega, e1]
theorem m_takeNumber_eq (hS : SW S) (hT : TSc τ S) (hI : TIn τ I n) (hf : f < nF_ S) (he : e ≤ n) (hpe : p ≤ n) (h46 : tI τ 46 = (p : Int)) {x y : Int} (hx : x = (f : Int)) (hy : y = (e : Int)) : ∃ τ', TF [46, 47] τ τ' ∧ (match nmS S I f e p with | some r => m_takeNumber x y τ = some (1, τ') ∧ tI τ' 46 = (r.1 : Int) ∧ tJ τ' 47 = r.2 | none => m_takeNumber x y τ = some (0, τ')) := by
  subst hx hy
  have hn := hI.2.1
  have hr := wrK_rg S f
  unfold m_takeNumber nmS
  rw [m_ownKind_eq hS hT hf, bind_some', bind_some', gd_pos (by omega)]
  have fix : ∀ (w : Nat), w = 4 ∨ w = 8 → ∃ τ', TF [46, 47] τ τ' ∧ (match fxS I w e p with | some r => (gd (rg (w : Int)) (if (w : Int) = 0 then (Option.bind (m_takeVarint (e : Int) τ) fun y15 => gd (zb y15.1) (some ((y15.1, y15.2)))) else (gd (rg ((e : Int) - (tI τ 46))) (if (w : Int) ≤ ((e : Int) - (tI τ 46)) then (nm (uJ τ 47 0) fun τ20 => nm ((w : Int) - 1) fun x21 => Option.bind (m_takeNumber_L61 (w : Int) FU x21 τ20) fun (v22 : TT) => nm (uI v22 46 ((tI v22 46) + (w : Int))) fun τ26 => some ((1, τ26))) else (some ((0, τ))))))) = some (1, τ') ∧ tI τ' 46 = (r.1 : Int) ∧ tJ τ' 47 = r.2 | none => (gd (rg (w : Int)) (if (w : Int) = 0 then (Option.bind (m_takeVarint (e : Int) τ) fun y15 => gd (zb y15.1) (some ((y15.1, y15.2)))) else (gd (rg ((e : Int) - (tI τ 46))) (if (w : Int) ≤ ((e : Int) - (tI τ 46)) then (nm (uJ τ 47 0) fun τ20 => nm ((w : Int) - 1) fun x21 => Option.bind (m_takeNumber_L61 (w : Int) FU x21 τ20) fun (v22 : TT) => nm (uI v22 46 ((tI v22 46) + (w : Int))) fun τ26 => some ((1, τ26))) else (some ((0, τ))))))) = some (0, τ')) := fun w hw => by
    unfold fxS
    rw [h46, gd_pos (show rg (w : Int) by omega), if_neg (show ¬ (w : Int) = 0 by omega), gd_pos (show rg ((e : Int) - (p : Int)) by omega)]
    by_cases c : e < p + w
    · rw [if_pos c, if_neg (show ¬ (w : Int) ≤ (e : Int) - (p : Int) by omega)]
      exact ⟨τ, TF.refl _ _, rfl⟩
    · rw [if_neg c, if_pos (show (w : Int) ≤ (e : Int) - (p : Int) by omega), nm_eq, nm_eq]
      obtain ⟨τ1, e1, g1, g2⟩ := m_tn_L hI (w : Int) w FU (uJ τ 47 0) ((TF.refl _ τ).uJ (by decide) _) h46 (by omega) (FU_gt (by omega))
      have h461 : tI τ1 46 = (p : Int) := by rw [(g1 46 (by decide)).1]; exact h46
      rw [e1, bind_some', nm_eq, h461]
      refine ⟨_, ((((TF.refl _ τ).uJ (by decide) 0).tr g1 (by decide)).uI (by decide) _), rfl, ?_, ?_⟩
      · show (p : Int) + (w : Int) = ((p + w : Nat) : Int); omega
      · show tJ τ1 47 = _; rw [g2, tJ_uJ, if_pos rfl]
  by_cases c1 : wrK S f = 1
  · rw [if_pos c1, if_pos c1, bind_some']
    exact fix 8 (Or.inr rfl)
  · rw [if_neg c1, if_neg c1, gd_pos (by omega)]
    by_cases c5 : wrK S f = 5
    · rw [if_pos c5, if_pos c5, bind_some']
      exact fix 4 (Or.inl rfl)
    · rw [if_neg c5, if_neg c5, bind_some', gd_pos (by omega), if_pos rfl]
      obtain ⟨τ1, f1, q1⟩ := m_takeVarint_eq he hI h46 hpe rfl
      refine ⟨τ1, f1, ?_⟩
      cases ev : vrS I e p with
      | none =>
        rw [ev] at q1
        show Option.bind _ _ = _
        rw [q1, bind_some', gd_pos (show zb (0 : Int) by decide)]
      | some r =>
        rw [ev] at q1
        refine ⟨?_, q1.2⟩
        rw [q1.1, bind_some', gd_pos (show zb (1 : Int) by decide)]
theorem m_pk_L (hS : SW S) (hf : f < nF_ S) (he : e ≤ n) : ∀ (c N p : Nat) (acc : List Int64) (τ : TT), TSc τ S → TIn τ I n → p ≤ e → e + 1 ≤ c + p → c < N → tI τ 46 = (p : Int) → ∃ τ', TF [46, 47] τ τ' ∧ m_arePacked_L5 (f : Int) (e : Int) N τ = some (if (pkL S I f e c p acc).isSome then 1 else 0, τ')
  | c, 0, p, acc, τ, _, _, _, _, h, _ => by omega
  | 0, N + 1, p, acc, τ, hT, hI, hp, h1, _, h46 => by
    omega
  | c + 1, N + 1, p, acc, τ, hT, hI, hp, h1, hN, h46 => by
    have hn := hI.2.1
    rw [m_arePacked_L5, h46, gd_pos (by omega), gd_pos (by omega), pkL]
    by_cases cp : e ≤ p
    · rw [if_pos cp, if_pos (by omega)]
      exact ⟨τ, TF.refl _ _, rfl⟩
    · rw [if_neg cp, if_neg (by omega)]
      obtain ⟨τ1, f1, q1⟩ := m_takeNumber_eq hS hT hI hf he (by omega) h46 rfl rfl
      cases ev : nmS S I f e p with
      | none =>
        rw [ev] at q1
        refine ⟨τ1, f1, ?_⟩
        rw [q1, bind_some', gd_pos (by omega), if_pos rfl]; rfl
      | some r =>
        rw [ev] at q1
        obtain ⟨e1, s1, -⟩ := q1
        have rb := nmS_bd ev
        obtain ⟨τ2, f2, e2⟩ := m_pk_L hS hf he c N r.1 (acc ++ [r.2]) τ1 (hT.tr f1 (by decide)) (hI.tr f1 (by decide) (by decide)) (by omega) (by omega) (by omega) s1
        refine ⟨τ2, f1.tr f2 (fun _ q => q), ?_⟩
        rw [e1, bind_some', gd_pos (by omega), if_neg (by omega), e2]; rfl
theorem m_arePacked_eq (hS : SW S) (hT : TSc τ S) (hI : TIn τ I n) (hf : f < nF_ S) (he : e ≤ n) (hp : p ≤ e) {x y z : Int} (hx : x = (f : Int)) (hy : y = (p : Int)) (hz : z = (e : Int)) : ∃ τ', TF [46, 47] τ τ' ∧ m_arePacked x y z τ = some (if (pkS S I f p e).isSome then 1 else 0, τ') := by
  subst hx hy hz
  have hn := hI.2.1
  have f0 : TF [46, 47] τ (uI τ 46 (p : Int)) := (TF.refl _ τ).uI (by decide) _
  obtain ⟨τ', f1, e1⟩ := m_pk_L hS hf he (e - p + 1) FU p [] (uI τ 46 (p : Int)) (hT.tr f0 (by decide)) (hI.tr f0 (by decide) (by decide)) (by omega) (by omega) (FU_gt (by omega)) (by rw [tI_uI, if_pos rfl])
  refine ⟨τ', f0.tr f1 (fun _ q => q), ?_⟩
  unfold m_arePacked pkS
  rw [nm_eq, e1]
end Mr
