set_option maxRecDepth 100000
/-! SCHEMAS that are right, as both sides have them -/
/-- a field: its message, number, kind, oneof (or -1), 1 if it is a row, 1 if it is optional, its name -/
abbrev FD : Type := Nat × Nat × Nat × Int × Int × Int × List UInt8
/-- a value of an enum: the enum, its name, its number -/
abbrev VD : Type := Nat × List UInt8 × Nat
/-- how many messages and enums; fields; values -/
abbrev SC : Type := Nat × Nat × List FD × List VD
def xF (S : SC) : List FD := S.2.2.1
def xV (S : SC) : List VD := S.2.2.2
def nF_ (S : SC) : Nat := (xF S).length
def nV_ (S : SC) : Nat := (xV S).length
def fdd (S : SC) (f : Nat) : FD := (xF S).getD f (0, 0, 0, 0, 0, 0, [])
def vdd (S : SC) (v : Nat) : VD := (xV S).getD v (0, [], 0)
def qm (S : SC) (f : Nat) : Nat := (fdd S f).1
def qn (S : SC) (f : Nat) : Nat := (fdd S f).2.1
def qk (S : SC) (f : Nat) : Nat := (fdd S f).2.2.1
def qo (S : SC) (f : Nat) : Int := (fdd S f).2.2.2.1
def qr (S : SC) (f : Nat) : Int := (fdd S f).2.2.2.2.1
def qp (S : SC) (f : Nat) : Int := (fdd S f).2.2.2.2.2.1
def qw (S : SC) (f : Nat) : List UInt8 := (fdd S f).2.2.2.2.2.2
def ve (S : SC) (v : Nat) : Nat := (vdd S v).1
def vw_ (S : SC) (v : Nat) : List UInt8 := (vdd S v).2.1
def vn (S : SC) (v : Nat) : Nat := (vdd S v).2.2
/-- a field's name in JSON -/
def jsL (g : Bool) : List UInt8 → List UInt8
  | [] => []
  | c :: r => if c.toNat = 95 then jsL true r else (if g = true ∧ 97 ≤ c.toNat ∧ c.toNat ≤ 122 then UInt8.ofNat (c.toNat - 32) else c) :: jsL false r
def jsn (w : List UInt8) : List UInt8 := jsL false w
theorem jsL_len : ∀ (w : List UInt8) (g : Bool), (jsL g w).length ≤ w.length
  | [], g => Nat.le_refl _
  | c :: r, g => by
    rw [jsL]
    split
    · exact Nat.le_trans (jsL_len r true) (Nat.le_succ _)
    · exact Nat.succ_le_succ (jsL_len r false)
def SW (S : SC) : Prop := nF_ S ≤ 50 ∧ nV_ S ≤ 40 ∧ S.1 ≤ 10 ∧ S.2.1 ≤ 6 ∧
  (∀ f, f < nF_ S → qm S f < S.1 ∧ 1 ≤ qn S f ∧ qn S f ≤ 536870911 ∧ (qk S f ≤ 10 ∨ (16 ≤ qk S f ∧ qk S f < 16 + S.1) ∨ (32 ≤ qk S f ∧ qk S f < 32 + S.2.1)) ∧ -1 ≤ qo S f ∧ qo S f < 12 ∧ (qr S f = 0 ∨ qr S f = 1) ∧ (qp S f = 0 ∨ qp S f = 1) ∧ (qw S f).length ≤ 24 ∧ (qr S f = 1 → qo S f = -1)) ∧
  (∀ f g, f < nF_ S → g < nF_ S → f ≠ g → qm S f = qm S g → qn S f ≠ qn S g ∧ qw S f ≠ qw S g ∧ jsn (qw S f) ≠ jsn (qw S g)) ∧
  (∀ f g, f < nF_ S → g < nF_ S → qo S f ≠ -1 → qo S f = qo S g → qm S f = qm S g) ∧
  (∀ v, v < nV_ S → ve S v < S.2.1 ∧ (vw_ S v).length ≤ 24 ∧ vn S v < 1000000000) ∧
  (∀ v u, v < nV_ S → u < nV_ S → v ≠ u → ve S v = ve S u → vw_ S v ≠ vw_ S u ∧ vn S v ≠ vn S u)
/-- names are not empty -/
def NE (S : SC) : Prop := ∀ f, f < nF_ S → jsn (qw S f) ≠ [] ∧ qw S f ≠ []
/-- a token of the reference: its letters -/
def Tok (τ : TT) (t : Int) (w : List UInt8) : Prop := ∃ i pl : Nat, t = (i : Int) ∧ i ≤ 1000 ∧ tA τ 11 i = (w.length : Int) ∧ tA τ 10 i = (pl : Int) ∧ pl + w.length ≤ 1000 ∧ ∀ j, j < w.length → tA τ 8 (pl + j) = (wI w j : Int)
def TSc (τ : TT) (S : SC) : Prop := tI τ 35 = (S.1 : Int) ∧ tI τ 36 = (S.2.1 : Int) ∧ tI τ 37 = (nV_ S : Int) ∧ tI τ 38 = (nF_ S : Int) ∧
  (∀ f, f < nF_ S → tA τ 23 f = (qm S f : Int) ∧ tA τ 24 f = (qn S f : Int) ∧ tA τ 28 f = (qk S f : Int) ∧ tA τ 27 f = qo S f ∧ tA τ 29 f = qr S f ∧ tA τ 30 f = qp S f ∧ Tok τ (tA τ 22 f) (qw S f)) ∧
  (∀ v, v < nV_ S → tA τ 21 v = (ve S v : Int) ∧ tA τ 20 v = (vn S v : Int) ∧ Tok τ (tA τ 19 v) (vw_ S v))
theorem Tok.tr {τ τ' : TT} {l : List Nat} {t : Int} {w : List UInt8} (h : Tok τ t w) (f : TF l τ τ') (h1 : 8 ∉ l) (h2 : 10 ∉ l) (h3 : 11 ∉ l) : Tok τ' t w := by
  obtain ⟨i, pl, a1, a2, a3, a4, a5, a6⟩ := h
  exact ⟨i, pl, a1, a2, by rw [(f 11 h3).2.2]; exact a3, by rw [(f 10 h2).2.2]; exact a4, a5, fun j hj => by rw [(f 8 h1).2.2]; exact a6 j hj⟩
/-- keys of the reference that its schema lies in -/
def KS : List Nat := [8, 10, 11, 19, 20, 21, 22, 23, 24, 27, 28, 29, 30, 35, 36, 37, 38]
theorem TSc.tr {τ τ' : TT} {l : List Nat} {S : SC} (h : TSc τ S) (f : TF l τ τ') (hl : ∀ k ∈ KS, k ∉ l) : TSc τ' S := by
  have q : ∀ k, k ∈ KS → tI τ' k = tI τ k ∧ tA τ' k = tA τ k := fun k hk => ⟨(f k (hl k hk)).1, (f k (hl k hk)).2.2⟩
  obtain ⟨a1, a2, a3, a4, a5, a6⟩ := h
  refine ⟨by rw [(q 35 (by decide)).1]; exact a1, by rw [(q 36 (by decide)).1]; exact a2, by rw [(q 37 (by decide)).1]; exact a3, by rw [(q 38 (by decide)).1]; exact a4, fun g hg => ?_, fun v hv => ?_⟩
  · obtain ⟨b1, b2, b3, b4, b5, b6, b7⟩ := a5 g hg
    exact ⟨by rw [(q 23 (by decide)).2]; exact b1, by rw [(q 24 (by decide)).2]; exact b2, by rw [(q 28 (by decide)).2]; exact b3, by rw [(q 27 (by decide)).2]; exact b4, by rw [(q 29 (by decide)).2]; exact b5, by rw [(q 30 (by decide)).2]; exact b6, by rw [(q 22 (by decide)).2]; exact b7.tr f (hl 8 (by decide)) (hl 10 (by decide)) (hl 11 (by decide))⟩
  · obtain ⟨b1, b2, b3⟩ := a6 v hv
    exact ⟨by rw [(q 21 (by decide)).2]; exact b1, by rw [(q 20 (by decide)).2]; exact b2, by rw [(q 19 (by decide)).2]; exact b3.tr f (hl 8 (by decide)) (hl 10 (by decide)) (hl 11 (by decide))⟩
theorem drop_cons {w : List UInt8} {i : Nat} (h : i < w.length) : w.drop i = w.getD i 0 :: w.drop (i + 1) := by
  rw [List.drop_eq_getElem_cons h, List.getD_eq_getElem?_getD, List.getElem?_eq_getElem h]; rfl
section Jn
variable {τ : TT} {S : SC}
/-- an array of the reference begins with a row's bytes -/
def Arr (τ : TT) (k : Nat) (w : List UInt8) : Prop := ∀ j, j < w.length → tA τ k j = (wI w j : Int)
theorem Arr.push {k : Nat} {w : List UInt8} (h : Arr τ k w) {x : Int} {c : UInt8} (hx : x = (c.toNat : Int)) : Arr (uA τ k w.length x) k (w ++ [c]) := by
  intro j hj
  rw [List.length_append] at hj
  simp only [List.length_cons, List.length_nil] at hj
  unfold wI
  rw [tA_uA]
  by_cases e : j = w.length
  · subst e
    rw [if_pos ⟨rfl, rfl⟩, List.getD_eq_getElem?_getD, List.getElem?_append_right (Nat.le_refl _)]
    simp only [Nat.sub_self, List.getElem?_cons_zero, Option.getD_some]
    exact hx
  · rw [if_neg (fun q => e q.2), h j (by omega), List.getD_eq_getElem?_getD, List.getElem?_append_left (by omega)]
    unfold wI
    rw [List.getD_eq_getElem?_getD]
theorem m_jn_L {u2 : Nat} (hu : u2 = 41 ∨ u2 = 42) (hS : SW S) {f : Nat} (hf : f < nF_ S) : ∀ (c n i : Nat) (g : Bool) (o : List UInt8) (τ : TT), TSc τ S → Arr τ u2 o → i + c = (qw S f).length → c < n → o.length ≤ i → ∃ τ', TF [u2] τ τ' ∧ m_jsonName_L8 (f : Int) u2 n (o.length : Int) (if g = true then 1 else 0) (i : Int) τ = some (((o ++ jsL g ((qw S f).drop i)).length : Int), τ') ∧ Arr τ' u2 (o ++ jsL g ((qw S f).drop i))
  | 0, n, i, g, o, τ, hT, hA, h1, h2, h3 => by
    obtain ⟨n, rfl⟩ : ∃ m, n = m + 1 := ⟨n - 1, by omega⟩
    obtain ⟨t, pl, a1, a2, a3, a4, a5, a6⟩ := (hT.2.2.2.2.1 f hf).2.2.2.2.2.2
    have h50 := hS.1
    have h24 := (hS.2.2.2.2.1 f hf).2.2.2.2.2.2.2.2.1
    have e : (qw S f).drop i = [] := List.drop_eq_nil_of_le (by omega)
    rw [e, show jsL g [] = [] from rfl, List.append_nil]
    refine ⟨τ, TF.refl _ _, ?_, hA⟩
    rw [m_jsonName_L8, gd_pos (by omega), Int.toNat_natCast, a1, gd_pos (by omega), gd_pos (by omega), Int.toNat_natCast, a3, gd_pos (by omega), if_pos (by omega)]
  | c + 1, n, i, g, o, τ, hT, hA, h1, h2, h3 => by
    obtain ⟨n, rfl⟩ : ∃ m, n = m + 1 := ⟨n - 1, by omega⟩
    obtain ⟨t, pl, a1, a2, a3, a4, a5, a6⟩ := (hT.2.2.2.2.1 f hf).2.2.2.2.2.2
    have h50 := hS.1
    have h24 := (hS.2.2.2.2.1 f hf).2.2.2.2.2.2.2.2.1
    have hb : (((qw S f).getD i 0).toNat) < 256 := ((qw S f).getD i 0).toNat_lt
    have ei : tA τ 8 (pl + i) = ((((qw S f).getD i 0).toNat : Nat) : Int) := a6 i (by omega)
    have g01 : (if g = true then (1 : Int) else 0) = 0 ∨ (if g = true then (1 : Int) else 0) = 1 := by cases g <;> simp
    have eI : m_jsonName_L8 (f : Int) u2 (n + 1) (o.length : Int) (if g = true then 1 else 0) (i : Int) τ = Option.bind (if ((((qw S f).getD i 0).toNat : Nat) : Int) = 95 then (some (((o.length : Int), 1, τ))) else (Option.bind (if (((if g = true then (1 : Int) else 0) = 0) ∨ (((((qw S f).getD i 0).toNat : Nat) : Int) < 97)) ∨ (122 < ((((qw S f).getD i 0).toNat : Nat) : Int)) then (some ((((qw S f).getD i 0).toNat : Nat) : Int)) else (some (((((qw S f).getD i 0).toNat : Nat) : Int) - 32))) fun (v23 : Int) => gd (ib (o.length : Int) (tln u2)) (nm (uA τ u2 o.length v23) fun τ28 => some (((o.length : Int) + 1, 0, τ28))))) fun (v14 : Int × Int × TT) => m_jsonName_L8 (f : Int) u2 n v14.1 v14.2.1 ((i : Int) + 1) v14.2.2 := by
      rw [m_jsonName_L8, gd_pos (by omega), Int.toNat_natCast, a1, gd_pos (by omega), gd_pos (by omega), Int.toNat_natCast, a3, gd_pos (by omega), if_neg (by omega), a4, gd_pos (by omega), show ((pl : Int) + (i : Int)).toNat = pl + i by omega, ei, nm_eq, gd_pos (by omega), gd_pos (by omega), Int.toNat_natCast]
    rw [eI, drop_cons (w := qw S f) (i := i) (by omega), jsL]
    by_cases c95 : ((qw S f).getD i 0).toNat = 95
    · rw [if_pos c95, if_pos (by omega), bind_some', show (i : Int) + 1 = ((i + 1 : Nat) : Int) by omega]
      have q := m_jn_L hu hS hf c n (i + 1) true o τ hT hA (by omega) (by omega) (by omega)
      rw [if_pos (show true = true from rfl)] at q
      exact q
    · rw [if_neg c95, if_neg (by omega)]
      have key : ∀ (x : Int) (b : UInt8), x = (b.toNat : Int) → ∃ τ', TF [u2] τ τ' ∧ (Option.bind (gd (ib (o.length : Int) (tln u2)) (nm (uA τ u2 o.length x) fun τ28 => some (((o.length : Int) + 1, (0 : Int), τ28)))) fun (v14 : Int × Int × TT) => m_jsonName_L8 (f : Int) u2 n v14.1 v14.2.1 ((i : Int) + 1) v14.2.2) = some (((o ++ b :: jsL false ((qw S f).drop (i + 1))).length : Int), τ') ∧ Arr τ' u2 (o ++ b :: jsL false ((qw S f).drop (i + 1))) := fun x b hx => by
        have f0 : TF [u2] τ (uA τ u2 o.length x) := (TF.refl _ τ).uA (by simp) _ _
        have hT' : TSc (uA τ u2 o.length x) S := hT.tr f0 (by rcases hu with e | e <;> rw [e] <;> decide)
        have q := m_jn_L hu hS hf c n (i + 1) false (o ++ [b]) _ hT' (hA.push hx) (by omega) (by omega) (by rw [List.length_append]; simp; omega)
        obtain ⟨τ', f1, g1, g2⟩ := q
        refine ⟨τ', f0.tr f1 (fun _ e => e), ?_, ?_⟩
        · rw [gd_pos (by rcases hu with e | e <;> rw [e] <;> show _ ∧ _ < ((64 : Nat) : Int) <;> omega), nm_eq, bind_some']
          rw [if_neg (show ¬ false = true by decide)] at g1
          have el : ((o.length : Int) + 1) = (((o ++ [b]).length : Nat) : Int) := by rw [List.length_append]; simp
          show m_jsonName_L8 (f : Int) u2 n ((o.length : Int) + 1) 0 ((i : Int) + 1) (uA τ u2 o.length x) = _
          rw [el, show (i : Int) + 1 = ((i + 1 : Nat) : Int) by omega, g1, List.append_assoc]
          rfl
        · rw [List.append_assoc] at g2; exact g2
      by_cases cg : g = true ∧ 97 ≤ ((qw S f).getD i 0).toNat ∧ ((qw S f).getD i 0).toNat ≤ 122
      · rw [if_pos cg, if_neg (by rw [if_pos cg.1]; omega), bind_some']
        exact key _ _ (by rw [tn_of (by omega)]; omega)
      · rw [if_neg cg, if_pos (by
          by_cases r : g = true
          · rw [if_pos r]
            by_cases r2 : ((qw S f).getD i 0).toNat < 97
            · left; right; omega
            · right
              have : ¬ ((qw S f).getD i 0).toNat ≤ 122 := fun r3 => cg ⟨r, by omega, r3⟩
              omega
          · left; left; rw [if_neg r])]
        rw [bind_some']
        exact key _ _ rfl
theorem m_jsonName_eq {u2 : Nat} (hu : u2 = 41 ∨ u2 = 42) (hS : SW S) (hT : TSc τ S) {x : Int} {f : Nat} (hx : x = (f : Int)) (hf : f < nF_ S) : ∃ τ', TF [u2] τ τ' ∧ m_jsonName x u2 τ = some (((jsn (qw S f)).length : Int), τ') ∧ Arr τ' u2 (jsn (qw S f)) := by
  subst hx
  have h24 := (hS.2.2.2.2.1 f hf).2.2.2.2.2.2.2.2.1
  have q := m_jn_L hu hS hf (qw S f).length FU 0 false [] τ hT (fun j hj => absurd hj (by simp)) (by omega) (FU_gt (by omega)) (by simp)
  exact q
end Jn
