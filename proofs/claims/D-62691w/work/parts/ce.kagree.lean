set_option maxRecDepth 100000
/-! SCHEMAS, CHECKED: kinds of fields: one answer; the reference's loop -/
section Se
variable {n K : Nat} {I : Nat → Nat} {τ : TT} {M : List TyM} {E : List TyE} {V : List TyV} {F : List TyF} {O : List TyO} {R : List TyR} {N : List TyN}
/-- every entry stands at one place -/
def Uq (M : List TyM) (E : List TyE) : Prop := (∀ (j j' : Nat) (m : TyM), M[j]? = some m → M[j']? = some m → j = j') ∧ (∀ (j j' : Nat) (m : TyE), E[j]? = some m → E[j']? = some m → j = j') ∧ M.length ≤ 10
theorem WKv.u (hu : Uq M E) {p : Int} {w : List UInt8} {v v' : Int} (h : WKv I n M E p w v) (h' : WKv I n M E p w v') : v = v' := by
  rcases h with ⟨j, m, a1, a2, a3⟩ | ⟨a0, j, m, a1, a2, a3⟩ | ⟨a0, a1, a3⟩ <;> rcases h' with ⟨j', m', b1, b2, b3⟩ | ⟨b0, j', m', b1, b2, b3⟩ | ⟨b0, b1, b3⟩
  · rw [a1] at b1
    have e := Option.some.inj b1
    subst e
    have := hu.1 j j' m a2 b2
    omega
  · rw [a1] at b0; cases b0
  · rw [a1] at b0; cases b0
  · rw [a0] at b1; cases b1
  · rw [a1] at b1
    have e := Option.some.inj b1
    subst e
    have := hu.2.1 j j' m a2 b2
    omega
  · rw [a1] at b1; cases b1
  · rw [a0] at b1; cases b1
  · rw [a1] at b1; cases b1
  · omega
theorem PTk_u (hu : Uq M E) : ∀ (ws : List (List UInt8)) (v v1 v2 : Int), PTk I n M E ws v v1 → PTk I n M E ws v v2 → v1 = v2
  | [], v, v1, v2, h1, h2 => by
    have e1 : v1 = v := h1
    have e2 : v2 = v := h2
    rw [e1, e2]
  | w :: ws, v, v1, v2, h1, h2 => by
    have hl := hu.2.2
    rcases h1 with ⟨a1, a2⟩ | ⟨j, a1, a2, u, a3, a4⟩ <;> rcases h2 with ⟨b1, b2⟩ | ⟨j', b1, b2, u', b3, b4⟩
    · omega
    · omega
    · omega
    · have e : j = j' := by omega
      subst e
      have e2 := WKv.u hu a3 b3
      subst e2
      exact PTk_u hu ws u v1 v2 a4 b4
theorem KOf.u (hu : Uq M E) {f : TyF} {v v' : Int} (h : KOf I n M E f v) (h' : KOf I n M E f v') : v = v' := by
  rcases h with ⟨a1, a2, a3⟩ | ⟨a1, v0, a2, a3⟩ <;> rcases h' with ⟨b1, b2, b3⟩ | ⟨b1, v0', b2, b3⟩
  · rw [a3, b3]
  · exact absurd ⟨a1, a2⟩ b1
  · exact absurd ⟨b1, b2⟩ a1
  · have e : v0 = v0' := by
      rcases a2 with ⟨p, c1, c2⟩ | ⟨c1, c2⟩ <;> rcases b2 with ⟨p', d1, d2⟩ | ⟨d1, d2⟩
      · rw [c1] at d1
        have e := Option.some.inj d1
        subst e
        exact WKv.u hu c2 d2
      · rw [c1] at d1; cases d1
      · rw [c1] at d1; cases d1
      · rw [c2, d2]
    subst e
    exact PTk_u hu _ _ _ _ a3 b3
theorem KOf.rgv (h : RF I n K τ M E V F O R N) {x : Nat} {f : TyF} (hx : F[x]? = some f) {v : Int} (k : KOf I n M E f v) (hu : Uq M E) : rg v := by
  have hl := h.2.2.2.2.1
  rcases k with ⟨a1, a2, a3⟩ | ⟨a1, v0, a2, a3⟩
  · have := scK_rg (tx I n (fTy f)); omega
  · have key : ∀ (ws : List (List UInt8)) (v0 v : Int), -1 ≤ v0 → v0 < 1000 → PTk I n M E ws v0 v → -1 ≤ v ∧ v < 1000 := by
      intro ws
      induction ws with
      | nil =>
        intro v0 v h1 h2 h3
        have e : v = v0 := h3
        omega
      | cons w ws ih =>
        intro v0 v h1 h2 h3
        rcases h3 with ⟨-, e⟩ | ⟨j, -, -, u, c3, c4⟩
        · omega
        · have := WKv.rgv h.2.2.2.2 c3
          exact ih u v this.1 this.2 c4
    have r0 : -1 ≤ v0 ∧ v0 < 1000 := by
      rcases a2 with ⟨p, -, c2⟩ | ⟨-, c2⟩
      · exact WKv.rgv h.2.2.2.2 c2
      · omega
    have := key _ _ _ r0.1 r0.2 a3
    omega
theorem refl_L29 (hu : Uq M E) : ∀ (c N1 j : Nat) (τ : TT), RF I n K τ M E V F O R N → j + c = F.length → c < N1 → ∃ τ', TF [28, 41, 42] τ τ' ∧ (∀ x, x < j → tA τ' 28 x = tA τ 28 x) ∧ (((∃ x, j ≤ x ∧ x < F.length ∧ ∃ f, F[x]? = some f ∧ KOf I n M E f (-1)) ∧ m_refusal_L29 N1 (j : Int) τ = some (Sum.inl (4, τ'))) ∨ ((∀ (x : Nat) (f : TyF), j ≤ x → F[x]? = some f → ∃ v, KOf I n M E f v ∧ v ≠ -1 ∧ tA τ' 28 x = v) ∧ m_refusal_L29 N1 (j : Int) τ = some (Sum.inr τ')))
  | c, 0, j, τ, _, _, h => by omega
  | 0, N1 + 1, j, τ, h, hj, _ => by
    have hl := h.2.2.2.2.1
    have hC := h.2.2.2.1.1
    refine ⟨τ, TF.refl _ _, fun _ _ => rfl, Or.inr ⟨fun x f h1 h2 => by have := gq_lt h2; omega, ?_⟩⟩
    rw [m_refusal_L29, gd_pos (by omega), hC.2.2.2.1, gd_pos (by omega), if_pos (by omega)]
  | c + 1, N1 + 1, j, τ, h, hj, hN => by
    have hl := h.2.2.2.2.1
    have hC := h.2.2.2.1.1
    obtain ⟨f, hf, -, -⟩ := drop_at (show j < F.length by omega)
    obtain ⟨v, e1, k1⟩ := m_kindOf_eq h hf
    have rv := k1.rgv h hf hu
    have F1 : TF [28, 41, 42] τ (uA τ 28 j v) := (TF.refl _ _).uA (by decide) _ _
    have a28 : tA (uA τ 28 j v) 28 j = v := by rw [tA_uA, if_pos ⟨rfl, rfl⟩]
    have o28 : ∀ x, x ≠ j → tA (uA τ 28 j v) 28 x = tA τ 28 x := fun x hx => by rw [tA_uA, if_neg (fun e => hx e.2)]
    have hop : m_refusal_L29 (N1 + 1) (j : Int) τ = if v = -1 then some (Sum.inl (4, uA τ 28 j v)) else m_refusal_L29 N1 ((j + 1 : Nat) : Int) (uA τ 28 j v) := by
      rw [m_refusal_L29, gd_pos (by omega), hC.2.2.2.1, gd_pos (by omega), if_neg (by omega), e1, bind_some', gd_pos (by constructor <;> omega), Int.toNat_natCast, nm_eq, a28, gd_pos rv, show (j : Int) + 1 = ((j + 1 : Nat) : Int) by omega]
    rw [hop]
    by_cases q : v = -1
    · rw [if_pos q]
      refine ⟨uA τ 28 j v, F1, fun x hx => o28 x (by omega), Or.inl ⟨⟨j, Nat.le_refl _, by omega, f, hf, by rw [← q]; exact k1⟩, rfl⟩⟩
    · rw [if_neg q]
      obtain ⟨τ', F2, o2, r⟩ := refl_L29 hu c N1 (j + 1) (uA τ 28 j v) (h.tf F1) (by omega) (by omega)
      refine ⟨τ', F1.tr F2 (fun _ u => u), fun x hx => by rw [o2 x (by omega)]; exact o28 x (by omega), ?_⟩
      rcases r with ⟨⟨x, x1, x2, x3⟩, r⟩ | ⟨r1, r2⟩
      · exact Or.inl ⟨⟨x, by omega, x2, x3⟩, r⟩
      · refine Or.inr ⟨fun x f' hx hf' => ?_, r2⟩
        by_cases e : x = j
        · subst e
          rw [hf] at hf'
          have e2 := Option.some.inj hf'
          subst e2
          exact ⟨v, k1, q, by rw [o2 x (by omega)]; exact a28⟩
        · exact r1 x f' (by omega) hf'
end Se
