set_option maxRecDepth 100000
/-! WIRE: how the reference writes values and rows of them -/
abbrev KW : List Nat := [41, 56, 57, 58, 59, 60, 3, 6]
/-- the reference read again and put something behind -/
def MR (τ : TT) (w v : List UInt8) (τ' : TT) : Prop := TF KW τ τ' ∧ tI τ' 58 = 0 ∧ OW τ' (w ++ v)
theorem KJ_KW : ∀ j ∈ KJ, j ∈ KW := by decide
theorem KO_KW : ∀ j ∈ KO, j ∈ KW := by decide
theorem JH.trW {S : SC} {I : Nat → Nat} {n : Nat} {τ τ' : TT} (h : JH S I n τ) (f : TF KW τ τ') (h58 : tI τ' 58 = 0) : JH S I n τ' := ⟨h.1.tr f (by decide), h.2.1.tr f (by decide) (by decide), h58⟩
theorem MR.tr {τ τ1 τ2 : TT} {w v u : List UInt8} (h : MR τ w v τ1) (g : MR τ1 (w ++ v) u τ2) : MR τ w (v ++ u) τ2 := ⟨h.1.tr g.1 (fun _ q => q), g.2.1, by rw [← List.append_assoc]; exact g.2.2⟩
theorem MP.toR {τ τ' : TT} {w v : List UInt8} (h : MP τ w v τ') (h58 : tI τ 58 = 0) : MR τ w v τ' := ⟨h.1.mono KO_KW, by rw [(h.1 58 (by decide)).1]; exact h58, h.2.1⟩
/-- after reading -/
theorem MR.rd {τ τ1 τ2 : TT} {w v : List UInt8} (f : TF KJ τ τ1) (g : MR τ1 w v τ2) : MR τ w v τ2 := ⟨(f.mono KJ_KW).tr g.1 (fun _ q => q), g.2⟩
theorem OW.rd {τ τ1 : TT} {w : List UInt8} (h : OW τ w) (f : TF KJ τ τ1) : OW τ1 w := h.tr f (by decide) (by decide)
theorem MR.nil {τ : TT} {w : List UInt8} (h : OW τ w) (h58 : tI τ 58 = 0) : MR τ w [] τ := ⟨TF.refl _ _, h58, by rw [List.append_nil]; exact h⟩
def PO (S : SC) (I : Nat → Nat) (n : Nat) (od : Nat → List Nat) (d : Nat) (rec : Int → Int → TT → Option TT) : Prop := ∀ (m p e : Nat) (T : TV d) (τ : TT) (w : List UInt8), m < S.1 → p ≤ n → JH S I n τ → OW τ w → objS S I n d m p = some (e, T) → w.length + (enc S od d m T).length ≤ 4000 → ∃ τ', rec (m : Int) (p : Int) τ = some τ' ∧ MR τ w (enc S od d m T) τ'
section Pv
variable {S : SC} {I : Nat → Nat} {n d k : Nat} {od : Nat → List Nat} {rec : Int → Int → TT → Option TT} {f q : Nat} {τ : TT} {w : List UInt8}
theorem m_putValue_eq (hS : SW S) (hX : TXT I n) (hPO : PO S I n od d rec) (hf : f < nF_ S) (hq : q ≤ n) (hJ : JH S I n τ) (hO : OW τ w) {e : Nat × SV d} (hv : valS S I n (objS S I n d) f q = some e) (hl : w.length + (slE S (enc S od d) e.2).length ≤ 4000) : ∃ τ', m_putValue rec (f : Int) (q : Int) τ = some τ' ∧ MR τ w (slE S (enc S od d) e.2) τ' := by
  have h50 := hS.1
  have hM := hS.2.2.1
  have hE := hS.2.2.2.1
  have hsk := (hS.2.2.2.2.1 f hf).2.2.2.1
  have t28 := (hJ.1.2.2.2.2.1 f hf).2.2.1
  have hpm := plain_m hS hf
  have hwp := wrK_plain hS hf
  unfold m_putValue
  rw [gd_pos (by omega), nm_eq, Int.toNat_natCast, t28, gd_pos (by omega)]
  unfold valS at hv
  by_cases c : isM S f
  · rw [if_pos c] at hv
    cases er : objS S I n d (qk S f - 16) q with
    | none => rw [er] at hv; cases hv
    | some r =>
      rw [er] at hv
      cases hv
      have hnp : ¬ plain S f := fun u => (hpm.mp u).2 c
      have esl : slE S (enc S od d) (f, (0 : Int64), ([] : List UInt8), r.2) = tagE S f 2 ++ (lenE (enc S od d (qk S f - 16) r.2) ++ enc S od d (qk S f - 16) r.2) := by
        show tagE S f (wrK S f) ++ (if plain S f then _ else lenE (bdE S (enc S od d) (f, (0 : Int64), ([] : List UInt8), r.2)) ++ bdE S (enc S od d) (f, (0 : Int64), ([] : List UInt8), r.2)) = _
        have eb : bdE S (enc S od d) (f, (0 : Int64), ([] : List UInt8), r.2) = enc S od d (qk S f - 16) r.2 := by unfold bdE; rw [if_pos c]
        rw [if_neg hnp, hwp.mpr hnp, eb]
      change w.length + (slE S (enc S od d) (f, (0 : Int64), ([] : List UInt8), r.2)).length ≤ 4000 at hl
      show ∃ τ', _ ∧ MR τ w (slE S (enc S od d) (f, (0 : Int64), ([] : List UInt8), r.2)) τ'
      rw [esl] at hl ⊢
      rw [List.length_append, List.length_append] at hl
      obtain ⟨τ1, e1, g1⟩ := m_putTag_eq hS hJ.1 hf hO 2 (by omega)
      have r1 := g1.toR hJ.2.2
      have hJ1 := hJ.trW r1.1 r1.2.1
      obtain ⟨τ2, e2, g2⟩ := hPO (qk S f - 16) q r.1 r.2 τ1 (w ++ tagE S f 2) (by omega) hq hJ1 r1.2.2 er (by rw [List.length_append]; omega)
      obtain ⟨τ3, e3, g3, g4⟩ := m_putLength_eq (w := w ++ tagE S f 2) g2.2.2 (by rw [List.length_append]; omega) (a := tI τ1 6) r1.2.2.2.1
      refine ⟨τ3, ?_, ?_⟩
      · rw [if_neg (by omega), e1, bind_some', nm_eq, show ((qk S f : Nat) : Int) - 16 = ((qk S f - 16 : Nat) : Int) by omega, e2, bind_some', e3, bind_some']
      · exact r1.tr ⟨g2.1.tr (g3.mono KO_KW) (fun _ u => u), by rw [(g3 58 (by decide)).1]; exact g2.2.1, g4⟩
  · rw [if_neg c] at hv
    cases er : sclS S I n f q with
    | none => rw [er] at hv; cases hv
    | some r =>
      rw [er] at hv
      cases hv
      rw [if_pos (by omega)]
      obtain ⟨τ1, r1, f1, h58, e1, v1⟩ := m_value_scl hS hJ.1 hJ.2.1 hJ.2.2 hX (m_object 12) hf (by omega) hq 1
      rw [er] at v1
      have hJ1 := hJ.tr f1 h58
      have hO1 := hO.rd f1
      have esl : slE S (enc S od d) (f, r.2.1, r.2.2, emp d) = tagE S f (wrK S f) ++ (if plain S f then numE S f r.2.1 else lenE r.2.2 ++ r.2.2) := by
        have eb : bdE S (enc S od d) (f, r.2.1, r.2.2, emp d) = r.2.2 := by unfold bdE; rw [if_neg c]
        show tagE S f (wrK S f) ++ (if plain S f then _ else lenE (bdE S (enc S od d) (f, r.2.1, r.2.2, emp d)) ++ bdE S (enc S od d) (f, r.2.1, r.2.2, emp d)) = _
        rw [eb]
      change w.length + (slE S (enc S od d) (f, r.2.1, r.2.2, emp d)).length ≤ 4000 at hl
      show ∃ τ', _ ∧ MR τ w (slE S (enc S od d) (f, r.2.1, r.2.2, emp d)) τ'
      rw [esl] at hl ⊢
      rw [List.length_append] at hl
      obtain ⟨τ2, e2, g2⟩ := m_putTag_eq hS hJ1.1 hf hO1 (wrK S f) (by omega)
      have r2 := g2.toR h58
      have hJ2 := hJ1.trW r2.1 r2.2.1
      have hr := wrK_rg S f
      rw [e1, bind_some']
      show ∃ τ', Option.bind (m_ownKind (f : Int) τ1) _ = _ ∧ _
      rw [m_ownKind_eq hS hJ1.1 hf, bind_some', e2, bind_some', m_isPlain_eq hS hJ2.1 hf, bind_some']
      by_cases hpl : plain S f
      · rw [if_pos hpl] at hl ⊢
        rw [if_pos hpl, gd_pos (by omega), if_neg (by omega)]
        have nv := (v1.2.1 hpl).tr g2.1 (by decide) (by decide)
        obtain ⟨τ3, e3, g3⟩ := m_putWhole_eq hS hJ2.1 hf nv r2.2.2 (by rw [List.length_append]; omega)
        exact ⟨τ3, by rw [e3, bind_some'], (r2.tr (g3.toR r2.2.1)).rd f1⟩
      · rw [if_neg hpl] at hl ⊢
        rw [List.length_append] at hl
        have hk : qk S f = 9 ∨ qk S f = 10 := by
          by_cases u : qk S f = 9 ∨ qk S f = 10
          · exact u
          · exact absurd (hpm.mpr ⟨u, c⟩) hpl
        obtain ⟨s1, s2⟩ := v1.2.2 hk
        have s1' := s1.tr g2.1 (by decide) (by decide)
        rw [if_neg hpl, gd_pos (by omega), if_pos rfl, s1'.1]
        obtain ⟨τ3, e3, g3⟩ := m_putVarint_eq r2.2.2 (iL (r.2.2.length : Int)) (by rw [List.length_append]; show _ + (lenE r.2.2).length ≤ _; omega)
        have r3 := g3.toR r2.2.1
        have s3 := s1'.tr g3.1 (by decide) (by decide)
        obtain ⟨τ4, e4, g4⟩ := m_putSaid_eq s2 s3 r3.2.2 (by rw [List.length_append, List.length_append]; show _ + (lenE r.2.2).length + _ ≤ _; omega)
        refine ⟨τ4, ?_, ?_⟩
        · rw [e3, bind_some', e4, bind_some']
        · have r4 := g4.toR r3.2.1
          exact (r2.tr (r3.tr r4)).rd f1
theorem val_ne (hI : ∀ k, I k < 256) {e : Nat × SV d} (hf : qk S f ≠ 9 → qk S f ≠ 10 → ¬ isM S f → plain S f) (h : valS S I n (objS S I n d) f q = some e) : lk I n q ≠ 93 := by
  intro c
  unfold valS at h
  split at h
  · cases er : objS S I n d (qk S f - 16) q with
    | none => rw [er] at h; cases h
    | some r =>
      cases d with
      | zero => cases er
      | succ d =>
        rw [objS, if_neg (by rw [c]; decide)] at er
        cases er
  · rename_i cM
    cases er : sclS S I n f q with
    | none => rw [er] at h; cases h
    | some r =>
      have ns : strX I n q = none := by
        unfold strX str
        rw [if_neg (by rw [c]; decide)]; rfl
      by_cases hp : plain S f
      · have hlt := (scl_num hI hp er).1
        unfold sclS at er
        rw [ns] at er
        have l6 : ∀ s, (s = 6 ∨ s = 7) → ¬ lit I n q s := fun s hs u => by
          have q0 : 0 < slen s := by rcases hs with w | w <;> rw [w] <;> decide +kernel
          have := u 0 q0
          rw [Nat.add_zero, c] at this
          have q1 : sch 6 0 ≠ 93 ∧ sch 7 0 ≠ 93 := by decide +kernel
          rcases hs with w | w <;> rw [w] at this <;> omega
        rw [if_neg (l6 6 (Or.inl rfl)), if_neg (l6 7 (Or.inr rfl))] at er
        split at er
        · cases er
        · split at er
          · cases er
          · split at er
            · cases er
            · split at er
              · cases er
              · split at er
                · cases er
                · cases eu : numW (qk S f) (cut I q (rns I n q)) with
                  | none => rw [eu] at er; cases er
                  | some x =>
                    rw [eu] at er
                    cases er
                    have hR := Rns.mk (n := n) (p := q) hI
                    have := hR.2.2.2.2 q (Nat.le_refl _) hlt
                    rw [c] at this
                    cases this
      · have hk : qk S f = 9 ∨ qk S f = 10 := by
          by_cases u : qk S f = 9
          · exact Or.inl u
          · by_cases v : qk S f = 10
            · exact Or.inr v
            · exact absurd (hf u v cM) hp
        unfold sclS at er
        rw [ns, if_neg (by omega)] at er
        split at er
        · cases er
        · rw [if_pos (by omega)] at er
          cases er
end Pv
