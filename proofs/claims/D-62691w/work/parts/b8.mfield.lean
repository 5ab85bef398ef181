set_option maxRecDepth 100000
/-! SCHEMAS, READ: fields, as the reference reads them -/
/-- what the reader has: messages (object, scope, name, parent), enums (object, name, parent), values (name's row, name, number, enum), fields (object, type, parts, name, number, message, oneof, repeated, optional), oneofs (row, name, message), reserved (number, message), names of a scope (row, name, scope) -/
abbrev TyM : Type := Nat × Nat × Nat × Int
abbrev TyE : Type := Nat × Nat × Int
abbrev TyV : Type := Nat × Nat × Nat × Nat
abbrev TyF : Type := Nat × Nat × Nat × Nat × Nat × Nat × Int × Int × Int
abbrev TyO : Type := Nat × Nat × Nat
abbrev TyR : Type := Nat × Nat
abbrev TyN : Type := Nat × Nat × Int
def fTy (f : TyF) : Nat := f.2.1
def fPa (f : TyF) : Nat := f.2.2.1
def fNm (f : TyF) : Nat := f.2.2.2.1
def fNo (f : TyF) : Nat := f.2.2.2.2.1
def fMs (f : TyF) : Nat := f.2.2.2.2.2.1
def fOn (f : TyF) : Int := f.2.2.2.2.2.2.1
def fRe (f : TyF) : Int := f.2.2.2.2.2.2.2.1
def fPr (f : TyF) : Int := f.2.2.2.2.2.2.2.2
/-- the reference has it -/
def TPS (τ : TT) (M : List TyM) (E : List TyE) (V : List TyV) (F : List TyF) (O : List TyO) (R : List TyR) : Prop :=
  (tI τ 35 = (M.length : Int) ∧ tI τ 36 = (E.length : Int) ∧ tI τ 37 = (V.length : Int) ∧ tI τ 38 = (F.length : Int) ∧ tI τ 39 = (O.length : Int) ∧ tI τ 40 = (R.length : Int)) ∧
  (∀ j m, M[j]? = some m → tA τ 15 j = (m.2.2.1 : Int) ∧ tA τ 16 j = m.2.2.2) ∧
  (∀ j e, E[j]? = some e → tA τ 17 j = (e.2.1 : Int) ∧ tA τ 18 j = e.2.2) ∧
  (∀ j v, V[j]? = some v → tA τ 19 j = (v.2.1 : Int) ∧ tA τ 20 j = (v.2.2.1 : Int) ∧ tA τ 21 j = (v.2.2.2 : Int)) ∧
  (∀ j f, F[j]? = some f → tA τ 25 j = (fTy f : Int) ∧ tA τ 26 j = (fPa f : Int) ∧ tA τ 22 j = (fNm f : Int) ∧ tA τ 24 j = (fNo f : Int) ∧ tA τ 23 j = (fMs f : Int) ∧ tA τ 27 j = fOn f ∧ tA τ 29 j = fRe f ∧ tA τ 30 j = fPr f) ∧
  (∀ j o, O[j]? = some o → tA τ 31 j = (o.2.1 : Int) ∧ tA τ 32 j = (o.2.2 : Int)) ∧
  ∀ j r, R[j]? = some r → tA τ 33 j = (r.1 : Int) ∧ tA τ 34 j = (r.2 : Int)
section Tb
variable {I : Nat → Nat} {n i K : Nat} {σ σ' : ST} {τ τ0 τ1 τ' : TT} {M : List TyM} {E : List TyE} {V : List TyV} {F : List TyF} {O : List TyO} {R : List TyR}
theorem TPS.tf (h : TPS τ M E V F O R) (f : TF [13, 14] τ τ') : TPS τ' M E V F O R := by
  have q : ∀ k, k ∉ [13, 14] → tI τ' k = tI τ k ∧ tA τ' k = tA τ k := fun k hk => ⟨(f k hk).1, (f k hk).2.2⟩
  have i35 := (q 35 (by decide)).1
  have i36 := (q 36 (by decide)).1
  have i37 := (q 37 (by decide)).1
  have i38 := (q 38 (by decide)).1
  have i39 := (q 39 (by decide)).1
  have i40 := (q 40 (by decide)).1
  unfold TPS
  rw [i35, i36, i37, i38, i39, i40, (q 15 (by decide)).2, (q 16 (by decide)).2, (q 17 (by decide)).2, (q 18 (by decide)).2, (q 19 (by decide)).2, (q 20 (by decide)).2, (q 21 (by decide)).2, (q 22 (by decide)).2, (q 23 (by decide)).2, (q 24 (by decide)).2, (q 25 (by decide)).2, (q 26 (by decide)).2, (q 27 (by decide)).2, (q 29 (by decide)).2, (q 30 (by decide)).2, (q 31 (by decide)).2, (q 32 (by decide)).2, (q 33 (by decide)).2, (q 34 (by decide)).2]
  exact h
/-- the reference has failed -/
abbrev KP : List Nat := [13, 14, 15, 16, 17, 18, 19, 20, 21, 22, 23, 24, 25, 26, 27, 29, 30, 31, 32, 33, 34, 35, 36, 37, 38, 39, 40]
def BAD (τ0 τ : TT) : Prop := tI τ 14 = 1 ∧ TF KP τ0 τ
def MB (τ0 : TT) (F : Option TT) : Prop := ∃ τ', F = some τ' ∧ BAD τ0 τ'
theorem BAD.k (h : TF KP τ0 τ) : BAD τ0 (uI τ 14 1) := ⟨by rw [tI_uI, if_pos rfl], h.uI (by decide) _⟩
theorem BAD.i0 (h : TF [13, 14] τ0 τ) : BAD τ0 (uI τ 14 1) := BAD.k (h.mono (by decide))
theorem BAD.u (h : BAD τ0 τ) : BAD τ0 (uI τ 14 1) := BAD.k h.2
theorem BAD.tk (f : TF KP τ0 τ) (h : BAD τ τ') : BAD τ0 τ' := ⟨h.1, f.tr h.2 (fun _ u => u)⟩
theorem BAD.tr (f : TF [13, 14] τ0 τ) (h : BAD τ τ') : BAD τ0 τ' := BAD.tk (f.mono (by decide)) h
theorem MB_ret (h : BAD τ0 τ) : MB τ0 (some τ) := ⟨τ, rfl, h⟩
theorem MB_word (h : BAD τ0 τ) {f : Int × TT → Option TT} (k : ∀ τ', BAD τ0 τ' → MB τ0 (f (0, τ'))) : MB τ0 (Option.bind (m_word τ) f) := by
  rw [(m_bad h.1 0).2.2.2.1, bind_some']; exact k _ h.u
theorem MB_num (h : BAD τ0 τ) {f : Int × TT → Option TT} (k : ∀ τ', BAD τ0 τ' → MB τ0 (f (0, τ'))) : MB τ0 (Option.bind (m_number τ) f) := by
  rw [(m_bad h.1 0).2.2.2.2, bind_some']; exact k _ h.u
theorem MB_sign (h : BAD τ0 τ) {u : Nat} {f : TT → Option TT} (k : ∀ τ', BAD τ0 τ' → MB τ0 (f τ')) : MB τ0 (Option.bind (m_sign u τ) f) := by
  rw [(m_bad h.1 u).2.1, bind_some']; exact k _ h.u
theorem MB_takes (h : BAD τ0 τ) {u : Nat} {f : Int × TT → Option TT} (k : MB τ0 (f (0, τ))) : MB τ0 (Option.bind (m_takes u τ) f) := by
  rw [(m_bad h.1 u).1, bind_some']; exact k
theorem MB_chk {x c : Int} (h : BAD τ0 τ) {A : TT → Option TT} : MB τ0 (Option.bind (gd (rg (tI τ 14)) (gd ((tI τ 14) = 0 → rg x) (if ((tI τ 14) = 0) ∧ (¬ (x = c)) then (some 0) else (some 1)))) fun (v15 : Int) => gd (zb v15) (nm (uI τ 14 v15) fun τ20 => gd (rg (tI τ20 14)) (if (tI τ20 14) = 0 then A τ20 else (some τ20)))) := by
  rw [h.1, gd_pos (by omega), gd_pos (by exact fun q => by cases q), if_neg (fun q => by cases q.1), bind_some', gd_pos (by decide), nm_eq]
  have e := h.u.1
  rw [e, gd_pos (by omega), if_neg (by omega)]
  exact MB_ret h.u
/-- further parts of a type's name -/
def dtS (I : Nat → Nat) (n : Nat) : Nat → Nat → Option Nat
  | 0, _ => none
  | c + 1, i => if sgn I n i 46 then (if (tkn I n (i + 1)).1 = 1 then (dtS I n c (i + 2)).map (· + 1) else none) else some 0
/-- a field: how many further parts its type has -/
def fldC (I : Nat → Nat) (n i w : Nat) : Prop := (tkn I n (i + 1 + 2 * w)).1 = 1 ∧ sgn I n (i + 2 + 2 * w) 61 ∧ (tkn I n (i + 3 + 2 * w)).1 = 2 ∧ sgn I n (i + 4 + 2 * w) 59
def fldO (I : Nat → Nat) (n i : Nat) (o : Option Nat) : Prop := match o with
  | some w => (tkn I n i).1 = 1 ∧ dtS I n (n + 1) (i + 1) = some w ∧ fldC I n i w
  | none => (tkn I n i).1 ≠ 1 ∨ dtS I n (n + 1) (i + 1) = none ∨ ∃ w, dtS I n (n + 1) (i + 1) = some w ∧ ¬ fldC I n i w
theorem sx_18 : sx 18 = [46] := by decide +kernel
theorem m_L9 (hD : KD I n K) {u1 u2 u3 u4 u5 : Int} : ∀ (c i : Nat) (w : Int) (τ : TT) (N : Nat), MRd τ I n K i → K - i ≤ c → c + 1 < N →
    (∀ v, dtS I n (c + 1) i = some v → ∃ τ', m_readField_L9 u1 u2 u3 u4 u5 N w τ = some (w + v, τ') ∧ MRd τ' I n K (i + 2 * v) ∧ TF [13, 14] τ τ') ∧
    (dtS I n (c + 1) i = none → ∃ x τ', m_readField_L9 u1 u2 u3 u4 u5 N w τ = some (x, τ') ∧ BAD τ τ')
  | c, i, w, τ, 0, _, _, h => by omega
  | c, i, w, τ, N + 1, h, hc, hN => by
    by_cases q : sgn I n i 46
    · have e1 : m_takes 18 τ = some (1, uI τ 13 ((i : Int) + 1)) := by rw [m_takes_sg h sx_18 (by decide), if_pos (show sgn I n i ((46 : Nat) : Int) from q)]
      have h1 := h.step hD (show (tkn I n i).1 ≠ 0 by have := q.1; omega)
      have hi : i + 1 ≤ K := h1.2.2.2.1
      by_cases q2 : (tkn I n (i + 1)).1 = 1
      · have e2 : m_word (uI τ 13 ((i : Int) + 1)) = some (((i + 1 : Nat) : Int), uI (uI τ 13 ((i : Int) + 1)) 13 (((i + 1 : Nat) : Int) + 1)) := by rw [m_word_eq h1, if_pos q2]
        have h2 := h1.step hD (show (tkn I n (i + 1)).1 ≠ 0 by omega)
        have hi2 : i + 1 + 1 ≤ K := h2.2.2.2.1
        obtain ⟨c, rfl⟩ : ∃ c', c = c' + 1 := ⟨c - 1, by omega⟩
        have F2 : TF [13, 14] τ (uI (uI τ 13 ((i : Int) + 1)) 13 (((i + 1 : Nat) : Int) + 1)) := ((TF.refl _ _).uI (by decide) _).uI (by decide) _
        have ih := m_L9 hD (u1 := u1) (u2 := u2) (u3 := u3) (u4 := u4) (u5 := u5) c (i + 2) (w + 1) _ N h2 (by omega) (by omega)
        have eq : ∀ (o : Option (Int × TT)), m_readField_L9 u1 u2 u3 u4 u5 N (w + 1) (uI (uI τ 13 ((i : Int) + 1)) 13 (((i + 1 : Nat) : Int) + 1)) = o → m_readField_L9 u1 u2 u3 u4 u5 (N + 1) w τ = o := fun o ho => by
          rw [m_readField_L9, e1, bind_some', gd_pos (by omega), if_neg (by omega), e2, bind_some']; exact ho
        constructor
        · intro v hv
          rw [dtS, if_pos q, if_pos q2] at hv
          cases e3 : dtS I n (c + 1) (i + 2) with
          | none => rw [e3] at hv; cases hv
          | some v' =>
            rw [e3] at hv
            have hv' : v' + 1 = v := Option.some.inj hv
            obtain ⟨τ', a1, a2, a3⟩ := ih.1 v' e3
            refine ⟨τ', eq _ (by rw [a1, ← hv']; congr 2; omega), by rw [show i + 2 * v = i + 2 + 2 * v' by omega]; exact a2, F2.tr a3 (fun _ u => u)⟩
        · intro hv
          rw [dtS, if_pos q, if_pos q2] at hv
          cases e3 : dtS I n (c + 1) (i + 2) with
          | some v' => rw [e3] at hv; cases hv
          | none =>
            obtain ⟨x, τ', a1, a2⟩ := ih.2 e3
            exact ⟨x, τ', eq _ a1, BAD.tr F2 a2⟩
      · have e2 : m_word (uI τ 13 ((i : Int) + 1)) = some (0, uI (uI τ 13 ((i : Int) + 1)) 14 1) := by rw [m_word_eq h1, if_neg q2]
        have B : BAD τ (uI (uI τ 13 ((i : Int) + 1)) 14 1) := BAD.i0 ((TF.refl _ _).uI (by decide) _)
        constructor
        · intro v hv
          rw [dtS, if_pos q, if_neg q2] at hv; cases hv
        · intro _
          obtain ⟨N, rfl⟩ : ∃ N', N = N' + 1 := ⟨N - 1, by omega⟩
          refine ⟨w + 1, _, ?_, B⟩
          rw [m_readField_L9, e1, bind_some', gd_pos (by omega), if_neg (by omega), e2, bind_some', m_readField_L9, (m_bad B.1 18).1, bind_some', gd_pos (by omega), if_pos rfl]
    · have e1 : m_takes 18 τ = some (0, τ) := by rw [m_takes_sg h sx_18 (by decide), if_neg (show ¬ sgn I n i ((46 : Nat) : Int) from q)]
      constructor
      · intro v hv
        rw [dtS, if_neg q] at hv
        have hv' : 0 = v := Option.some.inj hv
        subst hv'
        refine ⟨τ, ?_, h, TF.refl _ _⟩
        rw [m_readField_L9, e1, bind_some', gd_pos (by omega), if_pos rfl]
        simp
      · intro hv
        rw [dtS, if_neg q] at hv; cases hv
end Tb
