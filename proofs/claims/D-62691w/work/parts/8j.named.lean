set_option maxRecDepth 100000
/-! NAMES that are looked for -/
theorem eq_wI {v w : List UInt8} : v = w ↔ v.length = w.length ∧ ∀ j, j < v.length → wI v j = wI w j := by
  constructor
  · intro e; subst e; exact ⟨rfl, fun _ _ => rfl⟩
  · rintro ⟨h1, h2⟩
    refine List.ext_getElem h1 (fun j a b => ?_)
    have q := h2 j a
    unfold wI at q
    rw [List.getD_eq_getElem?_getD, List.getD_eq_getElem?_getD, List.getElem?_eq_getElem a, List.getElem?_eq_getElem b] at q
    exact UInt8.toNat_inj.mp q
def oI (o : Option Nat) : Int := match o with
  | some f => (f : Int)
  | none => -1
/-- the field of a message that a text names: by its JSON name, or else by its own -/
def BN (S : SC) (m : Nat) (w : List UInt8) (o : Option Nat) : Prop := match o with
  | some f => f < nF_ S ∧ qm S f = m ∧ (jsn (qw S f) = w ∨ (qw S f = w ∧ ∀ g, g < nF_ S → qm S g = m → jsn (qw S g) ≠ w))
  | none => ∀ g, g < nF_ S → qm S g = m → jsn (qw S g) ≠ w ∧ qw S g ≠ w
theorem BN.uniq {S : SC} (hS : SW S) {m : Nat} {w : List UInt8} {o o' : Option Nat} (h : BN S m w o) (h' : BN S m w o') : o = o' := by
  have U := hS.2.2.2.2.2.1
  cases o with
  | none =>
    cases o' with
    | none => rfl
    | some g =>
      obtain ⟨a1, a2, a3⟩ := h'
      have q := h g a1 a2
      rcases a3 with r | r
      · exact absurd r q.1
      · exact absurd r.1 q.2
  | some f =>
    obtain ⟨b1, b2, b3⟩ := h
    cases o' with
    | none =>
      have q := h' f b1 b2
      rcases b3 with r | r
      · exact absurd r q.1
      · exact absurd r.1 q.2
    | some g =>
      obtain ⟨a1, a2, a3⟩ := h'
      by_cases e : f = g
      · rw [e]
      · have u := U f g b1 a1 e (by rw [b2, a2])
        rcases b3 with r | r
        · rcases a3 with s | s
          · exact absurd (r.trans s.symm) u.2.2
          · exact absurd r (s.2 f b1 b2)
        · rcases a3 with s | s
          · exact absurd s (r.2 g a1 a2)
          · exact absurd (r.1.trans s.1.symm) u.2.1
/-- a value of an enum that a text names -/
def VN (S : SC) (e : Nat) (w : List UInt8) (o : Option Nat) : Prop := match o with
  | some v => v < nV_ S ∧ ve S v = e ∧ vw_ S v = w
  | none => ∀ v, v < nV_ S → ve S v = e → vw_ S v ≠ w
theorem VN.uniq {S : SC} (hS : SW S) {e : Nat} {w : List UInt8} {o o' : Option Nat} (h : VN S e w o) (h' : VN S e w o') : o = o' := by
  have U := hS.2.2.2.2.2.2.2.2
  cases o with
  | none =>
    cases o' with
    | none => rfl
    | some g => exact absurd h'.2.2 (h g h'.1 h'.2.1)
  | some f =>
    cases o' with
    | none => exact absurd h.2.2 (h' f h.1 h.2.1)
    | some g =>
      by_cases q : f = g
      · rw [q]
      · exact absurd (h.2.2.trans h'.2.2.symm) (U f g h.1 h'.1 q (by rw [h.2.1, h'.2.1])).1
section Nm
variable {τ : TT} {S : SC} {w : List UInt8}
theorem m_fn_L55 (hw : Said τ w) (hl : w.length ≤ 1000) {v : List UInt8} (hv : Arr τ 41 v) (h24 : v.length ≤ 24) (hvw : v.length = w.length) (u1 u2 u3 : Int) : ∀ (c n k : Nat), k + c = v.length → c < n → m_fieldNamed_L55 u1 u2 u3 (v.length : Int) τ n 1 (k : Int) = some (if (∀ j, j < v.length → k ≤ j → wI v j = wI w j) then 1 else 0)
  | 0, n, k, h1, h2 => by
    obtain ⟨n, rfl⟩ : ∃ m, n = m + 1 := ⟨n - 1, by omega⟩
    rw [m_fieldNamed_L55, gd_pos (by omega), gd_pos (by omega), gd_pos (by omega), if_pos (by omega), if_pos (fun j q1 q2 => absurd q1 (by omega))]
  | c + 1, n, k, h1, h2 => by
    obtain ⟨n, rfl⟩ : ∃ m, n = m + 1 := ⟨n - 1, by omega⟩
    have e1 : tA τ 41 k = (wI v k : Int) := hv k (by omega)
    have e2 : tA τ 56 k = (wI w k : Int) := hw.2 k (by omega)
    have b1 := wI_lt v k
    have b2 := wI_lt w k
    rw [m_fieldNamed_L55, gd_pos (by omega), gd_pos (by omega), gd_pos (by omega), if_neg (by omega), gd_pos (by omega), gd_pos (by omega), Int.toNat_natCast, e1, e2, gd_pos (by omega), gd_pos (by omega)]
    by_cases q : wI v k = wI w k
    · rw [if_pos (by omega), bind_some', show (k : Int) + 1 = ((k + 1 : Nat) : Int) by omega, m_fn_L55 hw hl hv h24 hvw u1 u2 u3 c n (k + 1) (by omega) (by omega)]
      congr 1
      by_cases r : ∀ j, j < v.length → k + 1 ≤ j → wI v j = wI w j
      · rw [if_pos r, if_pos (fun j q1 q2 => by
          rcases Nat.lt_or_ge k j with e | e
          · exact r j q1 e
          · rw [show j = k by omega]; exact q)]
      · rw [if_neg r, if_neg (fun q => r (fun j q1 q2 => q j q1 (by omega)))]
    · rw [if_neg (by omega), bind_some', if_neg (fun r => q (r k (by omega) (Nat.le_refl _)))]
      obtain ⟨n, rfl⟩ : ∃ m, n = m + 1 := ⟨n - 1, by omega⟩
      rw [m_fieldNamed_L55, gd_pos (by omega), gd_pos (by omega), gd_pos (by omega), if_pos (Or.inr rfl)]
theorem m_fn_cmp (hw : Said τ w) (hl : w.length ≤ 1000) {v : List UInt8} (hv : Arr τ 41 v) (h24 : v.length ≤ 24) (u1 u2 u3 : Int) : (Option.bind (if (v.length : Int) = (w.length : Int) then (some 1) else (some 0)) fun (v22 : Int) => m_fieldNamed_L55 u1 u2 u3 (v.length : Int) τ FU v22 0) = some (if v = w then 1 else 0) := by
  by_cases c : v.length = w.length
  · rw [if_pos (by omega), bind_some']
    have q := m_fn_L55 hw hl hv h24 c u1 u2 u3 v.length FU 0 (by omega) (FU_gt (by omega))
    rw [show ((0 : Nat) : Int) = 0 from rfl] at q
    rw [q]
    by_cases r : v = w
    · rw [if_pos r, if_pos (fun j h _ => by rw [r])]
    · rw [if_neg r, if_neg (fun h => r (eq_wI.mpr ⟨c, fun j hj => h j hj (Nat.zero_le _)⟩))]
  · rw [if_neg (by omega), bind_some', if_neg (fun r => c (by rw [r])), FU_s 0 (by omega), m_fieldNamed_L55, gd_pos (by omega), gd_pos (by omega), gd_pos (by omega), if_pos (Or.inr rfl)]
theorem m_fn_L132 (hw : Said τ w) (hl : w.length ≤ 1000) {f : Nat} (hf : f < 50) {v : List UInt8} (hv : Tok τ (tA τ 22 f) v) (hvw : v.length = w.length) (u1 u2 : Int) : ∀ (c n k : Nat), k + c = w.length → c < n → m_fieldNamed_L132 u1 u2 (f : Int) τ n 1 (k : Int) = some (if (∀ j, j < w.length → k ≤ j → wI v j = wI w j) then 1 else 0)
  | 0, n, k, h1, h2 => by
    obtain ⟨n, rfl⟩ : ∃ m, n = m + 1 := ⟨n - 1, by omega⟩
    rw [m_fieldNamed_L132, hw.1, gd_pos (by omega), gd_pos (by omega), gd_pos (by omega), if_pos (by omega), if_pos (fun j q1 q2 => absurd q1 (by omega))]
  | c + 1, n, k, h1, h2 => by
    obtain ⟨n, rfl⟩ : ∃ m, n = m + 1 := ⟨n - 1, by omega⟩
    obtain ⟨t, pl, a1, a2, a3, a4, a5, a6⟩ := hv
    have e1 : tA τ 8 (pl + k) = (wI v k : Int) := a6 k (by omega)
    have e2 : tA τ 56 k = (wI w k : Int) := hw.2 k (by omega)
    have b1 := wI_lt v k
    have b2 := wI_lt w k
    rw [m_fieldNamed_L132, hw.1, gd_pos (by omega), gd_pos (by omega), gd_pos (by omega), if_neg (by omega), gd_pos (by omega), Int.toNat_natCast, a1, gd_pos (by omega), Int.toNat_natCast, a4, gd_pos (by omega), gd_pos (by omega), Int.toNat_natCast, show ((pl : Int) + (k : Int)).toNat = pl + k by omega, e1, e2, gd_pos (by omega), gd_pos (by omega)]
    by_cases q : wI v k = wI w k
    · rw [if_pos (by omega), bind_some', show (k : Int) + 1 = ((k + 1 : Nat) : Int) by omega, m_fn_L132 hw hl hf ⟨t, pl, a1, a2, a3, a4, a5, a6⟩ hvw u1 u2 c n (k + 1) (by omega) (by omega)]
      congr 1
      by_cases r : ∀ j, j < w.length → k + 1 ≤ j → wI v j = wI w j
      · rw [if_pos r, if_pos (fun j q1 q2 => by
          rcases Nat.lt_or_ge k j with e | e
          · exact r j q1 e
          · rw [show j = k by omega]; exact q)]
      · rw [if_neg r, if_neg (fun q => r (fun j q1 q2 => q j q1 (by omega)))]
    · rw [if_neg (by omega), bind_some', if_neg (fun r => q (r k (by omega) (Nat.le_refl _)))]
      obtain ⟨n, rfl⟩ : ∃ m, n = m + 1 := ⟨n - 1, by omega⟩
      rw [m_fieldNamed_L132, hw.1, gd_pos (by omega), gd_pos (by omega), gd_pos (by omega), if_pos (Or.inr rfl)]
theorem m_fn_cmp2 (hw : Said τ w) (hl : w.length ≤ 1000) {f : Nat} (hf : f < 50) {v : List UInt8} (hv : Tok τ (tA τ 22 f) v) (u1 u2 : Int) : (Option.bind (if (v.length : Int) = (w.length : Int) then (some 1) else (some 0)) fun (v41 : Int) => m_fieldNamed_L132 u1 u2 (f : Int) τ FU v41 0) = some (if v = w then 1 else 0) := by
  by_cases c : v.length = w.length
  · rw [if_pos (by omega), bind_some']
    have q := m_fn_L132 hw hl hf hv c u1 u2 w.length FU 0 (by omega) (FU_gt (by omega))
    rw [show ((0 : Nat) : Int) = 0 from rfl] at q
    rw [q]
    by_cases r : v = w
    · rw [if_pos r, if_pos (fun j h _ => by rw [r])]
    · rw [if_neg r, if_neg (fun h => r (eq_wI.mpr ⟨c, fun j hj => h j (by omega) (Nat.zero_le _)⟩))]
  · rw [if_neg (by omega), bind_some', if_neg (fun r => c (by rw [r])), FU_s 0 (by omega), m_fieldNamed_L132, hw.1, gd_pos (by omega), gd_pos (by omega), gd_pos (by omega), if_pos (Or.inr rfl)]
theorem Said.tr {τ' : TT} {l : List Nat} (h : Said τ w) (f : TF l τ τ') (h1 : 56 ∉ l) (h2 : 57 ∉ l) : Said τ' w := ⟨by rw [(f 57 h2).1]; exact h.1, fun j hj => by rw [(f 56 h1).2.2]; exact h.2 j hj⟩
theorem m_fn_L4 (hS : SW S) (hl : w.length ≤ 1000) {m : Nat} (hm : m < 100) : ∀ (c n f : Nat) (b : Option Nat) (τ : TT), TSc τ S → Said τ w → f + c = nF_ S → c < n → (∀ g, g < f → qm S g = m → jsn (qw S g) ≠ w) → (match b with | some g => g < f ∧ qm S g = m ∧ qw S g = w | none => ∀ g, g < f → qm S g = m → qw S g ≠ w) → ∃ τ' o, TF [41] τ τ' ∧ m_fieldNamed_L4 (m : Int) n (oI b) (f : Int) τ = some (oI o, τ') ∧ BN S m w o
  | 0, n, f, b, τ, hT, hw, h1, h2, h3, h4 => by
    obtain ⟨n, rfl⟩ : ∃ m, n = m + 1 := ⟨n - 1, by omega⟩
    have h50 := hS.1
    refine ⟨τ, b, TF.refl _ _, ?_, ?_⟩
    · rw [m_fieldNamed_L4, hT.2.2.2.1, gd_pos (by omega), gd_pos (by omega), if_pos (by omega)]
    · cases b with
      | none => exact fun g hg hm => ⟨h3 g (by omega) hm, h4 g (by omega) hm⟩
      | some g => exact ⟨by have := h4.1; omega, h4.2.1, Or.inr ⟨h4.2.2, fun g' hg' hm' => h3 g' (by omega) hm'⟩⟩
  | c + 1, n, f, b, τ, hT, hw, h1, h2, h3, h4 => by
    obtain ⟨n, rfl⟩ : ∃ m, n = m + 1 := ⟨n - 1, by omega⟩
    have h50 := hS.1
    have hf : f < nF_ S := by omega
    obtain ⟨t1, t2, t3, t4, t5, t6, t7⟩ := hT.2.2.2.2.1 f hf
    have s := hS.2.2.2.2.1 f hf
    have h24 := s.2.2.2.2.2.2.2.2.1
    have hj24 : (jsn (qw S f)).length ≤ 24 := Nat.le_trans (jsL_len _ _) h24
    have hM := hS.2.2.1
    rw [m_fieldNamed_L4, hT.2.2.2.1, gd_pos (by omega), gd_pos (by omega), if_neg (by omega), gd_pos (by omega), Int.toNat_natCast, t1, gd_pos (by omega), gd_pos (by omega)]
    by_cases cm : qm S f = m
    · obtain ⟨τ1, f1, e1, a1⟩ := m_jsonName_eq (u2 := 41) (Or.inl rfl) hS hT (x := (f : Int)) rfl hf
      have hT1 : TSc τ1 S := hT.tr f1 (by decide)
      have hw1 : Said τ1 w := hw.tr f1 (by decide) (by decide)
      rw [if_pos (by omega), e1, bind_some']
      show ∃ τ' o, TF [41] τ τ' ∧ (Option.bind (Option.bind (gd (rg ((jsn (qw S f)).length : Int)) (gd (rg (tI τ1 57)) (if ((jsn (qw S f)).length : Int) = (tI τ1 57) then (some 1) else (some 0)))) fun (v22 : Int) => Option.bind (m_fieldNamed_L55 (m : Int) (oI b) (f : Int) ((jsn (qw S f)).length : Int) τ1 FU v22 0) fun (v26 : Int) => gd (rg v26) (if v26 = 0 then (gd (ib (tA τ1 22 f) 1001) (Option.bind (gd (rg (tA τ1 11 (tA τ1 22 f).toNat)) (gd (rg (tI τ1 57)) (if (tA τ1 11 (tA τ1 22 f).toNat) = (tI τ1 57) then (some 1) else (some 0)))) fun (v41 : Int) => Option.bind (m_fieldNamed_L132 (m : Int) (oI b) (f : Int) τ1 FU v41 0) fun (v45 : Int) => gd (rg v45) (if v45 = 0 then (some (Sum.inr ((oI b, τ1)))) else (some (Sum.inr (((f : Int), τ1))))))) else (some (Sum.inl (((f : Int), τ1)))))) (Sum.elim some fun (v13 : Int × TT) => m_fieldNamed_L4 (m : Int) n v13.1 ((f : Int) + 1) v13.2)) = _ ∧ _
      rw [hw1.1, gd_pos (by omega), gd_pos (by omega)]
      have ec := m_fn_cmp hw1 hl a1 hj24 (m : Int) (oI b) (f : Int)
      have ec2 : ∀ (X : Type) (G : Int → Option X), (Option.bind (if ((jsn (qw S f)).length : Int) = (w.length : Int) then (some 1) else (some 0)) fun (v22 : Int) => Option.bind (m_fieldNamed_L55 (m : Int) (oI b) (f : Int) ((jsn (qw S f)).length : Int) τ1 FU v22 0) G) = G (if jsn (qw S f) = w then 1 else 0) := fun X G => by
        have q := congrArg (fun o => Option.bind o G) ec
        rw [Option.bind_assoc] at q
        exact q
      rw [ec2]
      by_cases cj : jsn (qw S f) = w
      · rw [if_pos cj, gd_pos (by omega), if_neg (by omega), bind_some', elim_l]
        exact ⟨τ1, some f, f1, rfl, hf, cm, Or.inl cj⟩
      · rw [if_neg cj, gd_pos (by omega), if_pos rfl]
        have t7' := (hT1.2.2.2.2.1 f hf).2.2.2.2.2.2
        obtain ⟨t, pl, p1, p2, p3, p4, p5, p6⟩ := t7'
        have ec3 := m_fn_cmp2 hw1 hl (f := f) (by omega) (hT1.2.2.2.2.1 f hf).2.2.2.2.2.2 (m : Int) (oI b)
        have ec4 : ∀ (X : Type) (G : Int → Option X), (Option.bind (if ((qw S f).length : Int) = (w.length : Int) then (some 1) else (some 0)) fun (v41 : Int) => Option.bind (m_fieldNamed_L132 (m : Int) (oI b) (f : Int) τ1 FU v41 0) G) = G (if qw S f = w then 1 else 0) := fun X G => by
          have q := congrArg (fun o => Option.bind o G) ec3
          rw [Option.bind_assoc] at q
          exact q
        rw [p1, gd_pos (by omega), Int.toNat_natCast, p3, gd_pos (by omega), gd_pos (by omega), ec4]
        have h3' : ∀ g, g < f + 1 → qm S g = m → jsn (qw S g) ≠ w := fun g hg hm' => by
          rcases Nat.lt_or_ge g f with r | r
          · exact h3 g r hm'
          · rw [show g = f by omega]; exact cj
        by_cases cw : qw S f = w
        · rw [if_pos cw, gd_pos (by omega), if_neg (by omega), bind_some', elim_r, show (f : Int) + 1 = ((f + 1 : Nat) : Int) by omega]
          obtain ⟨τ2, o, f2, e2, b2⟩ := m_fn_L4 hS hl hm c n (f + 1) (some f) τ1 hT1 hw1 (by omega) (by omega) h3' ⟨by omega, cm, cw⟩
          exact ⟨τ2, o, f1.tr f2 (fun _ e => e), e2, b2⟩
        · rw [if_neg cw, gd_pos (by omega), if_pos rfl, bind_some', elim_r, show (f : Int) + 1 = ((f + 1 : Nat) : Int) by omega]
          obtain ⟨τ2, o, f2, e2, b2⟩ := m_fn_L4 hS hl hm c n (f + 1) b τ1 hT1 hw1 (by omega) (by omega) h3' (by
            cases b with
            | none =>
              intro g hg hm'
              rcases Nat.lt_or_ge g f with r | r
              · exact h4 g r hm'
              · rw [show g = f by omega]; exact cw
            | some g => exact ⟨by have := h4.1; omega, h4.2⟩)
          exact ⟨τ2, o, f1.tr f2 (fun _ e => e), e2, b2⟩
    · rw [if_neg (by omega), bind_some', elim_r, show (f : Int) + 1 = ((f + 1 : Nat) : Int) by omega]
      exact m_fn_L4 hS hl hm c n (f + 1) b τ hT hw (by omega) (by omega) (fun g hg hm' => by
        rcases Nat.lt_or_ge g f with r | r
        · exact h3 g r hm'
        · rw [show g = f by omega] at hm'; exact absurd hm' cm) (by
        cases b with
        | none =>
          intro g hg hm'
          rcases Nat.lt_or_ge g f with r | r
          · exact h4 g r hm'
          · rw [show g = f by omega] at hm'; exact absurd hm' cm
        | some g => exact ⟨by have := h4.1; omega, h4.2⟩)
theorem m_fieldNamed_eq (hS : SW S) (hT : TSc τ S) (hw : Said τ w) (hl : w.length ≤ 1000) {x : Int} {m : Nat} (hx : x = (m : Int)) (hm : m < 100) : ∃ τ' o, TF [41] τ τ' ∧ m_fieldNamed x τ = some (oI o, τ') ∧ BN S m w o := by
  subst hx
  have h50 := hS.1
  exact m_fn_L4 hS hl hm (nF_ S) FU 0 none τ hT hw (by omega) (FU_gt (by omega)) (fun g hg => absurd hg (by omega)) (fun g hg => absurd hg (by omega))
theorem m_vn_L46 (hw : Said τ w) (hl : w.length ≤ 1000) {u : Nat} (hu : u < 40) {v : List UInt8} (hv : Tok τ (tA τ 19 u) v) (hvw : v.length = w.length) (u1 : Int) : ∀ (c n k : Nat), k + c = w.length → c < n → m_valueNamed_L46 u1 (u : Int) τ n 1 (k : Int) = some (if (∀ j, j < w.length → k ≤ j → wI v j = wI w j) then 1 else 0)
  | 0, n, k, h1, h2 => by
    obtain ⟨n, rfl⟩ : ∃ m, n = m + 1 := ⟨n - 1, by omega⟩
    rw [m_valueNamed_L46, hw.1, gd_pos (by omega), gd_pos (by omega), gd_pos (by omega), if_pos (by omega), if_pos (fun j q1 q2 => absurd q1 (by omega))]
  | c + 1, n, k, h1, h2 => by
    obtain ⟨n, rfl⟩ : ∃ m, n = m + 1 := ⟨n - 1, by omega⟩
    obtain ⟨t, pl, a1, a2, a3, a4, a5, a6⟩ := hv
    have e1 : tA τ 8 (pl + k) = (wI v k : Int) := a6 k (by omega)
    have e2 : tA τ 56 k = (wI w k : Int) := hw.2 k (by omega)
    have b1 := wI_lt v k
    have b2 := wI_lt w k
    rw [m_valueNamed_L46, hw.1, gd_pos (by omega), gd_pos (by omega), gd_pos (by omega), if_neg (by omega), gd_pos (by omega), Int.toNat_natCast, a1, gd_pos (by omega), Int.toNat_natCast, a4, gd_pos (by omega), gd_pos (by omega), Int.toNat_natCast, show ((pl : Int) + (k : Int)).toNat = pl + k by omega, e1, e2, gd_pos (by omega), gd_pos (by omega)]
    by_cases q : wI v k = wI w k
    · rw [if_pos (by omega), bind_some', show (k : Int) + 1 = ((k + 1 : Nat) : Int) by omega, m_vn_L46 hw hl hu ⟨t, pl, a1, a2, a3, a4, a5, a6⟩ hvw u1 c n (k + 1) (by omega) (by omega)]
      congr 1
      by_cases r : ∀ j, j < w.length → k + 1 ≤ j → wI v j = wI w j
      · rw [if_pos r, if_pos (fun j q1 q2 => by
          rcases Nat.lt_or_ge k j with e | e
          · exact r j q1 e
          · rw [show j = k by omega]; exact q)]
      · rw [if_neg r, if_neg (fun q => r (fun j q1 q2 => q j q1 (by omega)))]
    · rw [if_neg (by omega), bind_some', if_neg (fun r => q (r k (by omega) (Nat.le_refl _)))]
      obtain ⟨n, rfl⟩ : ∃ m, n = m + 1 := ⟨n - 1, by omega⟩
      rw [m_valueNamed_L46, hw.1, gd_pos (by omega), gd_pos (by omega), gd_pos (by omega), if_pos (Or.inr rfl)]
theorem m_vn_L2 (hS : SW S) (hT : TSc τ S) (hw : Said τ w) (hl : w.length ≤ 1000) {e : Nat} (he : e < 100) : ∀ (c n v : Nat), v + c = nV_ S → c < n → (∀ g, g < v → ve S g = e → vw_ S g ≠ w) → ∃ o, m_valueNamed_L2 (e : Int) τ n (v : Int) = some (oI o) ∧ VN S e w o
  | 0, n, v, h1, h2, h3 => by
    obtain ⟨n, rfl⟩ : ∃ m, n = m + 1 := ⟨n - 1, by omega⟩
    have h40 := hS.2.1
    refine ⟨none, ?_, fun g hg => h3 g (by omega)⟩
    rw [m_valueNamed_L2, hT.2.2.1, gd_pos (by omega), gd_pos (by omega), if_pos (by omega)]
    rfl
  | c + 1, n, v, h1, h2, h3 => by
    obtain ⟨n, rfl⟩ : ∃ m, n = m + 1 := ⟨n - 1, by omega⟩
    have h40 := hS.2.1
    have hv : v < nV_ S := by omega
    obtain ⟨t1, t2, t3⟩ := hT.2.2.2.2.2 v hv
    have s := hS.2.2.2.2.2.2.2.1 v hv
    have h6 := hS.2.2.2.1
    have next : vw_ S v ≠ w ∨ ve S v ≠ e → ∀ g, g < v + 1 → ve S g = e → vw_ S g ≠ w := fun q g hg hge => by
      rcases Nat.lt_or_ge g v with r | r
      · exact h3 g r hge
      · rw [show g = v by omega] at hge ⊢
        rcases q with q | q
        · exact q
        · exact absurd hge q
    rw [m_valueNamed_L2, hT.2.2.1, gd_pos (by omega), gd_pos (by omega), if_neg (by omega), gd_pos (by omega), Int.toNat_natCast, t1, gd_pos (by omega), gd_pos (by omega)]
    by_cases ce : ve S v = e
    · obtain ⟨t, pl, p1, p2, p3, p4, p5, p6⟩ := t3
      rw [if_pos (by omega), p1, gd_pos (by omega), Int.toNat_natCast, p3, gd_pos (by omega), hw.1, gd_pos (by omega)]
      by_cases cl : (vw_ S v).length = w.length
      · have q := m_vn_L46 hw hl (u := v) (by omega) (hT.2.2.2.2.2 v hv).2.2 cl (e : Int) w.length FU 0 (by omega) (FU_gt (by omega))
        rw [show ((0 : Nat) : Int) = 0 from rfl] at q
        rw [if_pos (by omega), q, bind_some']
        by_cases r : ∀ j, j < w.length → 0 ≤ j → wI (vw_ S v) j = wI w j
        · rw [if_pos r, gd_pos (by omega), if_neg (by omega), bind_some', elim_l]
          exact ⟨some v, rfl, hv, ce, eq_wI.mpr ⟨cl, fun j hj => r j (by omega) (Nat.zero_le _)⟩⟩
        · rw [if_neg r, gd_pos (by omega), if_pos rfl, bind_some', elim_r, show (v : Int) + 1 = ((v + 1 : Nat) : Int) by omega]
          exact m_vn_L2 hS hT hw hl he c n (v + 1) (by omega) (by omega) (next (Or.inl (fun q => r (fun j _ _ => by rw [q]))))
      · rw [if_neg (by omega), bind_some', elim_r, show (v : Int) + 1 = ((v + 1 : Nat) : Int) by omega]
        exact m_vn_L2 hS hT hw hl he c n (v + 1) (by omega) (by omega) (next (Or.inl (fun q => cl (by rw [q]))))
    · rw [if_neg (by omega), bind_some', elim_r, show (v : Int) + 1 = ((v + 1 : Nat) : Int) by omega]
      exact m_vn_L2 hS hT hw hl he c n (v + 1) (by omega) (by omega) (next (Or.inr ce))
theorem m_valueNamed_eq (hS : SW S) (hT : TSc τ S) (hw : Said τ w) (hl : w.length ≤ 1000) {x : Int} {e : Nat} (hx : x = (e : Int)) (he : e < 100) : ∃ o, m_valueNamed x τ = some (oI o) ∧ VN S e w o := by
  subst hx
  have h40 := hS.2.1
  exact m_vn_L2 hS hT hw hl he (nV_ S) FU 0 (by omega) (FU_gt (by omega)) (fun g hg => absurd hg (by omega))
end Nm
