set_option maxRecDepth 100000
/-! JSON: values that are no messages -/
def vnm (S : SC) (e : Nat) (w : List UInt8) : Option Nat := (List.range (nV_ S)).find? (fun v => decide (ve S v = e ∧ vw_ S v = w))
theorem vnm_ok (S : SC) (e : Nat) (w : List UInt8) : VN S e w (vnm S e w) := by
  cases h : vnm S e w with
  | none =>
    intro v hv he hw
    have q := List.find?_eq_none.mp h v (List.mem_range.mpr hv)
    exact q (decide_eq_true ⟨he, hw⟩)
  | some v =>
    have q1 := List.find?_some h
    have q2 := List.mem_of_find?_eq_some h
    exact ⟨List.mem_range.mp q2, (of_decide_eq_true q1).1, (of_decide_eq_true q1).2⟩
def byJ (S : SC) (m : Nat) (w : List UInt8) : Option Nat := (List.range (nF_ S)).find? (fun f => decide (qm S f = m ∧ jsn (qw S f) = w))
def byW (S : SC) (m : Nat) (w : List UInt8) : Option Nat := (List.range (nF_ S)).find? (fun f => decide (qm S f = m ∧ qw S f = w))
def byN (S : SC) (m : Nat) (w : List UInt8) : Option Nat := match byJ S m w with
  | some f => some f
  | none => byW S m w
theorem byN_ok (S : SC) (m : Nat) (w : List UInt8) : BN S m w (byN S m w) := by
  unfold byN
  cases h : byJ S m w with
  | some f =>
    have q1 := List.find?_some h
    have q2 := List.mem_of_find?_eq_some h
    exact ⟨List.mem_range.mp q2, (of_decide_eq_true q1).1, Or.inl (of_decide_eq_true q1).2⟩
  | none =>
    have nj : ∀ g, g < nF_ S → qm S g = m → jsn (qw S g) ≠ w := fun g hg hm hw => List.find?_eq_none.mp h g (List.mem_range.mpr hg) (decide_eq_true ⟨hm, hw⟩)
    cases h2 : byW S m w with
    | none => exact fun g hg hm => ⟨nj g hg hm, fun hw => List.find?_eq_none.mp h2 g (List.mem_range.mpr hg) (decide_eq_true ⟨hm, hw⟩)⟩
    | some f =>
      have q1 := List.find?_some h2
      have q2 := List.mem_of_find?_eq_some h2
      exact ⟨List.mem_range.mp q2, (of_decide_eq_true q1).1, Or.inr ⟨(of_decide_eq_true q1).2, nj⟩⟩
def strX (I : Nat → Nat) (n p : Nat) : Option (Nat × List UInt8) := (str I n p).bind fun r => if tw r.2 = true then some r else none
/-- all texts in the input are UTF-8 -/
def TXT (I : Nat → Nat) (n : Nat) : Prop := ∀ p r, str I n p = some r → tw r.2 = true
theorem TXT.eq {I : Nat → Nat} {n : Nat} (h : TXT I n) (p : Nat) : strX I n p = str I n p := by
  unfold strX
  cases e : str I n p with
  | none => rfl
  | some r =>
    show (if tw r.2 = true then some r else none) = _
    rw [if_pos (h p r e)]
/-- a value of a field that is no message, at a place: the place behind, its number, its bytes -/
def sclS (S : SC) (I : Nat → Nat) (n f p : Nat) : Option (Nat × Int64 × List UInt8) :=
  if qk S f = 8 then (if lit I n p 6 then some (p + slen 6, 1, []) else if lit I n p 7 then some (p + slen 7, 0, []) else none)
  else if qk S f = 9 then (strX I n p).map fun r => (r.1, 0, r.2)
  else if qk S f = 10 then (strX I n p).bind fun r => (unb r.2).map fun o => (r.1, 0, o)
  else if 32 ≤ qk S f ∧ lk I n p = 34 then (strX I n p).bind fun r => (vnm S (qk S f - 32) r.2).map fun v => (r.1, lN (vn S v), [])
  else if lk I n p = 34 then (strX I n p).bind fun r => (numW (qk S f) r.2).map fun x => (r.1, x, [])
  else (numW (qk S f) (cut I p (rns I n p))).map fun x => (rns I n p, x, [])
/-- what the reference has read of a field -/
def VV (τ : TT) (S : SC) (f : Nat) (e : Int64 × List UInt8) : Prop := (qk S f < 9 ∨ 32 ≤ qk S f → NumV τ e.1) ∧ (qk S f = 9 ∨ qk S f = 10 → Said τ e.2 ∧ e.2.length ≤ 1000)
theorem ubf_len {w : List UInt8} : ∀ (c k nb hv : Nat) (o : List UInt8) (r : Nat × List UInt8), ubf w c k nb hv o = some r → r.2.length ≤ o.length + c
  | 0, k, nb, hv, o, r, h => by cases h; exact Nat.le_refl _
  | c + 1, k, nb, hv, o, r, h => by
    rw [ubf] at h
    split at h
    · cases h
    · split at h
      · exact Nat.le_trans (ubf_len c _ _ _ _ _ h) (by omega)
      · have := ubf_len c _ _ _ _ _ h
        rw [List.length_append] at this
        simp only [List.length_cons, List.length_nil] at this
        omega
theorem unb_len {w o : List UInt8} (h : unb w = some o) : o.length ≤ w.length := by
  unfold unb at h
  split at h
  · cases h
  · cases e : ubf w (nse w w.length) 0 0 0 [] with
    | none => rw [e] at h; cases h
    | some r =>
      rw [e] at h
      have := ubf_len _ _ _ _ _ _ e
      have hn := nse_le w w.length
      change (if r.1 = 0 then some r.2 else none) = some o at h
      split at h
      · cases h
        simp only [List.length_nil] at this
        omega
      · cases h
theorem lit_sx {I : Nat → Nat} {n p s s' : Nat} (h : sx s = sx s') : lit I n p s ↔ lit I n p s' := by
  unfold lit slen sch
  rw [h]
section Sv
variable {I : Nat → Nat} {n p : Nat} {τ : TT} {S : SC}
theorem m_value_scl (hS : SW S) (hT : TSc τ S) (hI : TIn τ I n) (h58 : tI τ 58 = 0) (hX : TXT I n) (rec : Int → Int → Int → TT → Option (Int × TT)) {f : Nat} (hf : f < nF_ S) (hnm : qk S f < 16 ∨ 32 ≤ qk S f) (hp : p ≤ n) (dp : Int) : ∃ τ' r, TF KJ τ τ' ∧ tI τ' 58 = 0 ∧ m_value rec (f : Int) (p : Int) dp τ = some (r, τ') ∧ (match sclS S I n f p with | some e => r = (e.1 : Int) ∧ VV τ' S f e.2 | none => r = -1 ∨ ∃ e : Nat, r = (e : Int) ∧ e < n ∧ nsg (lk I n e) = true) := by
  have hn := hI.2.1
  have h50 := hS.1
  have t3 := (hT.2.2.2.2.1 f hf).2.2.1
  have sk := (hS.2.2.2.2.1 f hf).2.2.2.1
  have hM := hS.2.2.1
  have hE := hS.2.2.2.1
  have hk1 : qk S f < 100 := by omega
  have hx := lk_rg (n := n) hI.2.2.2 p
  unfold m_value sclS
  rw [gd_pos (by omega), nm_eq, Int.toNat_natCast, t3, gd_pos (by omega), hX.eq]
  by_cases c8 : qk S f = 8
  · rw [if_pos c8, if_pos (by omega)]
    have l25 : lit I n p 25 ↔ lit I n p 6 := lit_sx (by decide +kernel)
    have l26 : lit I n p 26 ↔ lit I n p 7 := lit_sx (by decide +kernel)
    have s25 : slen 25 = 4 ∧ slen 6 = 4 ∧ slen 26 = 5 ∧ slen 7 = 5 := by decide +kernel
    rw [m_literal_eq (s := 25) hI rfl (by omega) (by omega), bind_some']
    by_cases c : lit I n p 6
    · have c' := l25.mpr c
      refine ⟨uI (uJ τ 59 1) 60 0, ((p + slen 6 : Nat) : Int), ((TF.refl _ τ).uJ (by decide) _).uI (by decide) _, by rw [tI_uI, if_neg (by decide), tI_uJ]; exact h58, ?_, ?_⟩
      · rw [if_pos c', gd_pos (by omega), if_neg (by omega), bind_some', nm_eq, nm_eq, gd_pos (by omega), if_neg (by omega), s25.1, s25.2.1]
      · rw [if_pos c]
        exact ⟨rfl, fun _ => ⟨Or.inl (by rw [tI_uI, if_pos rfl]), by rw [tI_uI, if_pos rfl, if_pos rfl, tJ_uI, tJ_uJ, if_pos rfl]⟩, fun q => by omega⟩
    · have c' : ¬ lit I n p 25 := fun q => c (l25.mp q)
      have f1 : TF KJ τ (uI (uJ τ 59 0) 60 0) := ((TF.refl _ τ).uJ (by decide) _).uI (by decide) _
      have hI1 : TIn (uI (uJ τ 59 0) 60 0) I n := hI.tr f1 (by decide) (by decide)
      have h58' : tI (uI (uJ τ 59 0) 60 0) 58 = 0 := by rw [tI_uI, if_neg (by decide), tI_uJ]; exact h58
      rw [if_neg c', gd_pos (by omega), if_pos rfl, bind_some', nm_eq, nm_eq, gd_pos (by omega), if_pos rfl, m_literal_eq (s := 26) hI1 rfl (by omega) (by omega), bind_some', if_neg c]
      by_cases d : lit I n p 7
      · refine ⟨_, _, f1, h58', by rw [if_pos (l26.mpr d)], ?_⟩
        rw [if_pos d]
        refine ⟨by simp only [s25.2.2.1, s25.2.2.2], fun _ => ⟨Or.inl (by rw [tI_uI, if_pos rfl]), by rw [tI_uI, if_pos rfl, if_pos rfl, tJ_uI, tJ_uJ, if_pos rfl]⟩, fun q => by omega⟩
      · refine ⟨_, _, f1, h58', by rw [if_neg (fun q => d (l26.mp q))], ?_⟩
        rw [if_neg d]
        exact Or.inl rfl
  · rw [if_neg c8, if_neg (by omega)]
    by_cases c9 : qk S f = 9
    · rw [if_pos c9, if_pos (by omega)]
      obtain ⟨τ1, f1, e1⟩ := m_string_eq (p := p) hI rfl (by omega)
      have h58' : tI τ1 58 = 0 := by rw [(f1 58 (by decide)).1]; exact h58
      cases es : str I n p with
      | none =>
        rw [es] at e1
        exact ⟨τ1, -1, f1.mono (by decide), h58', by rw [e1, bind_some'], Or.inl rfl⟩
      | some r =>
        rw [es] at e1
        have hl := str_len es
        exact ⟨τ1, (r.1 : Int), f1.mono (by decide), h58', by rw [e1.1, bind_some'], rfl, fun q => by omega, fun _ => ⟨e1.2, by simp only; omega⟩⟩
    · rw [if_neg c9, if_neg (by omega)]
      by_cases c10 : qk S f = 10
      · rw [if_pos c10, if_pos (by omega)]
        obtain ⟨τ1, f1, e1⟩ := m_string_eq (p := p) hI rfl (by omega)
        have h58' : tI τ1 58 = 0 := by rw [(f1 58 (by decide)).1]; exact h58
        cases es : str I n p with
        | none =>
          rw [es] at e1
          exact ⟨τ1, -1, f1.mono (by decide), h58', by rw [e1, bind_some']; rfl, Or.inl rfl⟩
        | some r =>
          rw [es] at e1
          have hl := str_len es
          obtain ⟨τ2, f2, e2⟩ := m_unbase_eq e1.2 (by omega)
          have f3 : TF KJ τ τ2 := (f1.mono (by decide)).tr f2 (by decide)
          have h58'' : tI τ2 58 = 0 := by rw [(f2 58 (by decide)).1]; exact h58'
          cases eu : unb r.2 with
          | none =>
            rw [eu] at e2
            refine ⟨τ2, -1, f3, h58'', ?_, ?_⟩
            · rw [e1.1, bind_some']
              show gd (rg (r.1 : Int)) (if (r.1 : Int) = -1 then _ else Option.bind (m_unbase τ1) _) = _
              rw [gd_pos (by omega), if_neg (by omega), e2, bind_some']
              rfl
            · show (match Option.map (fun o => (r.1, (0 : Int64), o)) (unb r.2) with | some e => _ | none => _)
              rw [eu]; exact Or.inl rfl
          | some o =>
            rw [eu] at e2
            refine ⟨τ2, (r.1 : Int), f3, h58'', ?_, ?_⟩
            · rw [e1.1, bind_some']
              show gd (rg (r.1 : Int)) (if (r.1 : Int) = -1 then _ else Option.bind (m_unbase τ1) _) = _
              rw [gd_pos (by omega), if_neg (by omega), e2.1, bind_some']
              rfl
            · show (match Option.map (fun o => (r.1, (0 : Int64), o)) (unb r.2) with | some e => _ | none => _)
              rw [eu]
              have hol := unb_len eu
              exact ⟨rfl, fun q => by omega, fun _ => ⟨e2.2, by simp only; omega⟩⟩
      · rw [if_neg c10, if_neg (by omega), if_pos (by omega), m_look_eq hI rfl (by omega), gd_pos (by exact fun _ => rfl), gd_pos (by exact fun _ => by rw [vv_s]; exact rg_byte hx), vv_s]
        by_cases c32 : 32 ≤ qk S f ∧ lk I n p = 34
        · rw [if_pos c32, if_neg (by omega)]
          obtain ⟨τ1, f1, e1⟩ := m_string_eq (p := p) hI rfl (by omega)
          have h58' : tI τ1 58 = 0 := by rw [(f1 58 (by decide)).1]; exact h58
          cases es : str I n p with
          | none =>
            rw [es] at e1
            exact ⟨τ1, -1, f1.mono (by decide), h58', by rw [e1, bind_some']; rfl, Or.inl rfl⟩
          | some r =>
            rw [es] at e1
            have hl := str_len es
            have hT1 : TSc τ1 S := hT.tr f1 (by decide)
            obtain ⟨o, e3, vo⟩ := m_valueNamed_eq hS hT1 e1.2 (by omega) (x := ((qk S f : Nat) : Int) - 32) (e := qk S f - 32) (by omega) (by omega)
            have eo := VN.uniq hS vo (vnm_ok S (qk S f - 32) r.2)
            subst eo
            rw [e1.1, bind_some']
            show ∃ τ' r', TF KJ τ τ' ∧ tI τ' 58 = 0 ∧ (Option.bind (gd (rg (r.1 : Int)) (if (r.1 : Int) = -1 then (some (((-1)))) else (Option.bind (m_valueNamed (((qk S f : Nat) : Int) - 32) τ1) fun y78 => some y78))) fun (v63 : Int) => gd (rg v63) (if v63 = ((-1)) then (some (((-1), τ1))) else (gd (ib v63 40) (nm (uJ τ1 59 (iL (tA τ1 20 v63.toNat))) fun τ72 => nm (uI τ72 60 0) fun τ73 => some (((r.1 : Int), τ73)))))) = some (r', τ') ∧ (match Option.map (fun v => (r.1, lN (vn S v), ([] : List UInt8))) (vnm S (qk S f - 32) r.2) with | some e => r' = (e.1 : Int) ∧ VV τ' S f e.2 | none => r' = -1 ∨ ∃ e : Nat, r' = (e : Int) ∧ e < n ∧ nsg (lk I n e) = true)
            rw [gd_pos (by omega), if_neg (by omega), e3, bind_some', bind_some']
            cases ev : vnm S (qk S f - 32) r.2 with
            | none =>
              exact ⟨τ1, -1, f1.mono (by decide), h58', rfl, Or.inl rfl⟩
            | some v =>
              rw [ev] at vo
              have h40 := hS.2.1
              have hv := vo.1
              have tv := (hT1.2.2.2.2.2 v hv).2.1
              have sv := (hS.2.2.2.2.2.2.2.1 v hv).2.2
              refine ⟨uI (uJ τ1 59 (lN (vn S v))) 60 0, (r.1 : Int), ((f1.mono (by decide)).uJ (by decide) _).uI (by decide) _, by rw [tI_uI, if_neg (by decide), tI_uJ]; exact h58', ?_, rfl, ?_, fun q => by omega⟩
              · show gd (rg (v : Int)) (if (v : Int) = -1 then (some (((-1), τ1))) else (gd (ib (v : Int) 40) (nm (uJ τ1 59 (iL (tA τ1 20 (v : Int).toNat))) fun τ72 => nm (uI τ72 60 0) fun τ73 => some (((r.1 : Int), τ73))))) = _
                rw [gd_pos (by omega), if_neg (by omega), gd_pos (by omega), Int.toNat_natCast, tv, iL_n rfl (by omega), nm_eq, nm_eq]
              · intro _
                exact ⟨Or.inl (by rw [tI_uI, if_pos rfl]), by rw [tI_uI, if_pos rfl, if_pos rfl, tJ_uI, tJ_uJ, if_pos rfl]⟩
        · rw [if_neg c32, if_pos (by omega)]
          obtain ⟨τ1, r, f1, h58', e1, q⟩ := m_numberOf_eq (k := qk S f) hI h58 (f := f) (by omega) t3 (by omega) hp
          refine ⟨τ1, r, f1, h58', by rw [e1, bind_some'], ?_⟩
          unfold nuS at q
          by_cases c34 : lk I n p = 34
          · rw [if_pos c34] at q ⊢
            cases es : str I n p with
            | none => rw [es] at q; exact q
            | some s =>
              rw [es] at q
              show (match Option.map (fun x => (s.1, x, ([] : List UInt8))) (numW (qk S f) s.2) with | some e => _ | none => _)
              change (match Option.map (fun x => (s.1, x)) (numW (qk S f) s.2) with | some e => _ | none => _) at q
              cases en : numW (qk S f) s.2 with
              | none => rw [en] at q; exact q
              | some x => rw [en] at q; exact ⟨q.1, fun _ => q.2, fun r => by omega⟩
          · rw [if_neg c34] at q ⊢
            cases en : numW (qk S f) (cut I p (rns I n p)) with
            | none => rw [en] at q; exact q
            | some x => rw [en] at q; exact ⟨q.1, fun _ => q.2, fun r => by omega⟩
end Sv
