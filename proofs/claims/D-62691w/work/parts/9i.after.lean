set_option maxRecDepth 100000
/-! WIRE: the reference's walk over a message's fields -/
def AF (S : SC) (m u i : Nat) (b : Option Nat) : Prop := match b with
  | none => ∀ g, g < i → qm S g = m → ¬ u < qn S g
  | some f => f < i ∧ qm S f = m ∧ u < qn S f ∧ ∀ g, g < i → qm S g = m → u < qn S g → qn S f ≤ qn S g
section Af
variable {S : SC} {τ : TT} {m u : Nat} {od : Nat → List Nat}
theorem m_after_L (hS : SW S) (hT : TSc τ S) (hm : m < 100) (hu : u ≤ 536870911) : ∀ (c N i : Nat) (b : Option Nat), i + c = nF_ S → c < N → AF S m u i b → ∃ b', m_after_L5 (m : Int) (u : Int) τ N (oI b) (i : Int) = some (oI b') ∧ AF S m u (nF_ S) b'
  | c, 0, i, b, _, h, _ => by omega
  | 0, N + 1, i, b, h, _, hb => by
    have h50 := hS.1
    have t38 := hT.2.2.2.1
    have e : i = nF_ S := by omega
    exact ⟨b, by rw [m_after_L5, t38, gd_pos (by omega), gd_pos (by omega), if_pos (by omega)], e ▸ hb⟩
  | c + 1, N + 1, i, b, h, hN, hb => by
    have h50 := hS.1
    have t38 := hT.2.2.2.1
    have hi : i < nF_ S := by omega
    obtain ⟨t23, t24, -⟩ := hT.2.2.2.2.1 i hi
    obtain ⟨k1, -, k3, -⟩ := hS.2.2.2.2.1 i hi
    have hM := hS.2.2.1
    have next : ∀ b1, AF S m u (i + 1) b1 → ∃ b', m_after_L5 (m : Int) (u : Int) τ N (oI b1) ((i : Int) + 1) = some (oI b') ∧ AF S m u (nF_ S) b' := fun b1 h1 => by
      have := m_after_L hS hT hm hu c N (i + 1) b1 (by omega) (by omega) h1
      rw [show (i : Int) + 1 = ((i + 1 : Nat) : Int) by omega]
      exact this
    rw [m_after_L5, t38, gd_pos (by omega), gd_pos (by omega), if_neg (by omega), gd_pos (by omega), Int.toNat_natCast, t23, t24, gd_pos (by omega), gd_pos (by omega), gd_pos (by omega), gd_pos (by omega)]
    by_cases cq : qm S i = m ∧ u < qn S i
    · rw [if_pos (show (((qm S i : Nat) : Int) = (m : Int)) ∧ ¬ (((qn S i : Nat) : Int) ≤ (u : Int)) by omega)]
      cases b with
      | none =>
        rw [gd_pos (show rg (oI none) by exact ⟨by decide, by decide⟩), gd_pos (by exact fun q => absurd rfl q), gd_pos (by exact fun q => absurd rfl q), gd_pos (by exact fun q => absurd rfl q), if_pos (Or.inl (show oI none = -1 from rfl)), bind_some']
        refine next (some i) ⟨by omega, cq.1, cq.2, fun g hg hgm hgu => ?_⟩
        by_cases e : g = i
        · rw [e]; exact Nat.le_refl _
        · exact absurd hgu (hb g (by omega) hgm)
      | some f =>
        obtain ⟨f1, f2, f3, f4⟩ := hb
        have tf := (hT.2.2.2.2.1 f (by omega)).2.1
        have sf := (hS.2.2.2.2.1 f (by omega)).2.2.1
        have eo : oI (some f) = (f : Int) := rfl
        rw [eo, gd_pos (by omega), gd_pos (by omega), gd_pos (by omega), Int.toNat_natCast, tf, gd_pos (by omega)]
        by_cases cl : qn S f ≤ qn S i
        · rw [if_neg (by omega), bind_some']
          refine next (some f) ⟨by omega, f2, f3, fun g hg hgm hgu => ?_⟩
          by_cases e : g = i
          · rw [e]; exact cl
          · exact f4 g (by omega) hgm hgu
        · rw [if_pos (by omega), bind_some']
          refine next (some i) ⟨by omega, cq.1, cq.2, fun g hg hgm hgu => ?_⟩
          by_cases e : g = i
          · rw [e]; exact Nat.le_refl _
          · have := f4 g (by omega) hgm hgu; omega
    · rw [if_neg (show ¬ ((((qm S i : Nat) : Int) = (m : Int)) ∧ ¬ (((qn S i : Nat) : Int) ≤ (u : Int))) by omega), bind_some']
      refine next b ?_
      cases b with
      | none =>
        intro g hg hgm hgu
        by_cases e : g = i
        · rw [e] at hgm hgu; exact cq ⟨hgm, hgu⟩
        · exact hb g (by omega) hgm hgu
      | some f =>
        obtain ⟨f1, f2, f3, f4⟩ := hb
        refine ⟨by omega, f2, f3, fun g hg hgm hgu => ?_⟩
        by_cases e : g = i
        · rw [e] at hgm hgu; exact absurd ⟨hgm, hgu⟩ cq
        · exact f4 g (by omega) hgm hgu
/-- the next field is the next in order -/
theorem m_after_eq (hS : SW S) (hO : OD S od) (hT : TSc τ S) (hm : m < S.1) (hu : u ≤ 536870911) {pre post : List Nat} (hl : od m = pre ++ post) (h1 : ∀ g ∈ pre, qn S g ≤ u) (h2 : ∀ g ∈ post, u < qn S g) {x y : Int} (hx : x = (m : Int)) (hy : y = (u : Int)) : m_after x y τ = some (oI post.head?) := by
  subst hx hy
  have h50 := hS.1
  have hM := hS.2.2.1
  obtain ⟨b, e, hb⟩ := m_after_L (m := m) (u := u) hS hT (by omega) hu (nF_ S) FU 0 none (by omega) (FU_gt (by omega)) (fun g hg => absurd hg (Nat.not_lt_zero _))
  have e' : m_after (m : Int) (u : Int) τ = some (oI b) := e
  rw [e']
  congr 2
  obtain ⟨o1, o2, o3⟩ := hO m hm
  rw [hl] at o1 o2
  cases post with
  | nil =>
    cases b with
    | none => rfl
    | some f =>
      obtain ⟨f1, f2, f3, f4⟩ := hb
      have := (o1 f).mpr ⟨f1, f2⟩
      rw [List.append_nil] at this
      have := h1 f this
      omega
  | cons h t =>
    have hh := (o1 h).mp (List.mem_append.mpr (Or.inr List.mem_cons_self))
    have hhu := h2 h List.mem_cons_self
    cases b with
    | none => exact absurd hhu (hb h hh.1 hh.2)
    | some f =>
      obtain ⟨f1, f2, f3, f4⟩ := hb
      have q := f4 h hh.1 hh.2 hhu
      rcases List.mem_append.mp ((o1 f).mpr ⟨f1, f2⟩) with w | w
      · have := h1 f w; omega
      · rcases List.mem_cons.mp w with w | w
        · rw [w]; rfl
        · have := (List.pairwise_cons.mp (List.pairwise_append.mp o2).2.1).1 f w
          omega
end Af
