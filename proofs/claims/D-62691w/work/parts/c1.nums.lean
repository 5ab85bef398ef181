set_option maxRecDepth 100000
/-! SCHEMAS, CHECKED: numbers, on both sides -/
/-- a field's number is wrong -/
def BNf (F : List TyF) (R : List TyR) (f : TyF) : Prop := (fNo f = 0 ∨ 536870911 < fNo f ∨ (19000 ≤ fNo f ∧ fNo f ≤ 19999)) ∨ (∃ r, r ∈ R ∧ r.2 = fMs f ∧ r.1 = fNo f) ∨ ∃ g, g ∈ F ∧ g.1 ≠ f.1 ∧ fMs g = fMs f ∧ fNo g = fNo f
/-- so says the reference -/
def BNx (F : List TyF) (R : List TyR) (x : Nat) (f : TyF) : Prop := (fNo f = 0 ∨ 536870911 < fNo f ∨ (19000 ≤ fNo f ∧ fNo f ≤ 19999)) ∨ (∃ r, r ∈ R ∧ r.2 = fMs f ∧ r.1 = fNo f) ∨ ∃ z, z < x ∧ ∃ g, F[z]? = some g ∧ fMs g = fMs f ∧ fNo g = fNo f
section S1
variable {y n K sd root a0 : Nat} {I : Nat → Nat} {σ σ' : ST} {τ : TT} {ob : Nat → Prop} {L : Nat → Nat → List Nat} {M : List TyM} {E : List TyE} {V : List TyV} {F : List TyF} {O : List TyO} {R : List TyR} {N : List TyN}
theorem ex_gd {w : List Nat} {P : Nat → Prop} {k : Nat} (hk : k = 0) : (∃ x, k ≤ x ∧ x < w.length ∧ P (w.getD x 0)) ↔ ∃ z, z ∈ w ∧ P z := by
  constructor
  · intro ⟨x, _, h1, h2⟩
    exact ⟨_, mem_gd h1, h2⟩
  · intro ⟨z, h1, h2⟩
    obtain ⟨x, hx⟩ := List.getElem?_of_mem h1
    exact ⟨x, by omega, gq_lt hx, by rw [List.getD_eq_getElem?_getD, hx]; exact h2⟩
theorem isNumber_eq (h : SFr y σ I n ob L sd root M E V F O R N a0) {f : TyF} (hf : f ∈ F) : ∃ v, ck_isNumber (some f.1) σ = some v ∧ Gd v (BNf F R f) := by
  obtain ⟨m, hm, r128, m7, om⟩ := h.ms hf
  obtain ⟨H, Q, B, W, C, -⟩ := h
  obtain ⟨-, f9, -, -, -, f131, -⟩ := B.2.2.2.1 f hf
  have fn := (W.2.2.2.2.1 f hf).2.1
  obtain ⟨lb, lb1, lb2, lb3, lb4, -, lb5⟩ := H.get (k := 101) om (by decide) m7
  obtain ⟨la, la1, la2, la3, la4, la5, -⟩ := H.get (k := 99) om (by decide) m7
  have lb5 := lb5 rfl
  have la5 := la5 rfl
  obtain ⟨q99, -, q101⟩ := Q.2.2.1 _ m hm
  have hl := W.1
  have l101 : (L 101 m.1).length ≤ 30 := by
    rw [q101, List.length_map]
    exact Nat.le_trans (List.length_filter_le _ _) (by omega)
  have l99 : (L 99 m.1).length ≤ 50 := by
    rw [q99, List.length_map]
    exact Nat.le_trans (List.length_filter_le _ _) (by omega)
  have e102 : sI σ 102 m.1 = ((L 101 m.1).length : Int) := by rw [C.2.2.2 _ m hm, q101, List.length_map]
  obtain ⟨v0, e0, g0⟩ : ∃ v0 : Int, (gd (rg (fNo f : Int)) (if ((fNo f : Int) ≤ 0) ∨ (536870911 < (fNo f : Int)) then (some 0) else (if ((fNo f : Int) < 19000) ∨ (¬ ((fNo f : Int) ≤ 19999)) then (some 1) else (some 0)))) = some v0 ∧ Gd v0 (fNo f = 0 ∨ 536870911 < fNo f ∨ (19000 ≤ fNo f ∧ fNo f ≤ 19999)) := by
    rw [gd_pos (by omega)]
    by_cases c1 : ((fNo f : Int) ≤ 0) ∨ (536870911 < (fNo f : Int))
    · exact ⟨0, if_pos c1, Or.inl ⟨rfl, by omega⟩⟩
    · rw [if_neg c1]
      by_cases c2 : ((fNo f : Int) < 19000) ∨ (¬ ((fNo f : Int) ≤ 19999))
      · exact ⟨1, if_pos c2, Or.inr ⟨rfl, by omega⟩⟩
      · exact ⟨0, if_neg c2, Or.inl ⟨rfl, by omega⟩⟩
  obtain ⟨v1, e1, g1⟩ := isnum_L44 (σ := σ) (fa := f.1) (mo := m.1) (lb := lb) (no := (fNo f : Int)) (w := L 101 m.1) f9 r128 m7 e102 lb1 lb4 (by rw [lb5.1]; exact l101) lb5.2.1 f131 (by omega) (by omega) (fun v hv => by
    rw [q101] at hv
    obtain ⟨r, r1, r2⟩ := List.mem_map.mp hv
    rw [← r2]; exact (W.2.2.2.2.2.2.1 r (List.mem_filter.mp r1).1).2) _ FU 0 v0 _ g0 (Nat.zero_add _) (FU_gt (by omega))
  obtain ⟨v2, e2, g2⟩ := isnum_L89 (σ := σ) (fa := f.1) (mo := m.1) (la := la) (no := (fNo f : Int)) (w := L 99 m.1) f9 r128 m7 la1 la4 la5.1 (fun q hq => by
    rw [q99] at hq
    obtain ⟨g, w1, w2⟩ := List.mem_map.mp hq
    obtain ⟨-, g9, -, -, -, g131, -⟩ := B.2.2.2.1 g (List.mem_filter.mp w1).1
    have := (W.2.2.2.2.1 g (List.mem_filter.mp w1).1).2.1
    rw [← w2, g131]; exact ⟨g9, by omega⟩) f131 (by omega) (by omega) _ FU 0 v1 _ g1 (Nat.zero_add _) (FU_gt (by omega))
  have e1 : ck_isNumber_L44 (some f.1) σ FU v0 0 = some v1 := e1
  have e2 : ck_isNumber_L89 (some f.1) σ FU v1 0 = some v2 := e2
  refine ⟨v2, ?_, g2.cg ?_⟩
  · unfold ck_isNumber
    rw [bind_some', gd_pos f9, f131, e0, bind_some', e1, bind_some', e2]
  · rw [ex_gd (P := fun z => ((z : Nat) : Int) = (fNo f : Int)) rfl, ex_gd (P := fun z => z ≠ f.1 ∧ sI σ 131 z = (fNo f : Int)) rfl]
    unfold BNf
    rw [or_assoc]
    have k1 : (∃ z, z ∈ L 101 m.1 ∧ ((z : Nat) : Int) = (fNo f : Int)) ↔ ∃ r, r ∈ R ∧ r.2 = fMs f ∧ r.1 = fNo f := by
      rw [q101]
      constructor
      · intro ⟨z, z1, z2⟩
        obtain ⟨r, r1, r2⟩ := List.mem_map.mp z1
        obtain ⟨r3, r4⟩ := List.mem_filter.mp r1
        exact ⟨r, r3, of_decide_eq_true r4, by omega⟩
      · intro ⟨r, r1, r2, r3⟩
        exact ⟨r.1, List.mem_map.mpr ⟨r, List.mem_filter.mpr ⟨r1, decide_eq_true r2⟩, rfl⟩, by omega⟩
    have k2 : (∃ z, z ∈ L 99 m.1 ∧ (z ≠ f.1 ∧ sI σ 131 z = (fNo f : Int))) ↔ ∃ g, g ∈ F ∧ g.1 ≠ f.1 ∧ fMs g = fMs f ∧ fNo g = fNo f := by
      rw [q99]
      constructor
      · intro ⟨z, z1, z2, z3⟩
        obtain ⟨g, r1, r2⟩ := List.mem_map.mp z1
        obtain ⟨r3, r4⟩ := List.mem_filter.mp r1
        obtain ⟨-, -, -, -, -, g131, -⟩ := B.2.2.2.1 g r3
        rw [← r2, g131] at z3
        exact ⟨g, r3, by rw [r2]; exact z2, of_decide_eq_true r4, by omega⟩
      · intro ⟨g, r1, r2, r3, r4⟩
        obtain ⟨-, -, -, -, -, g131, -⟩ := B.2.2.2.1 g r1
        exact ⟨g.1, List.mem_map.mpr ⟨g, List.mem_filter.mpr ⟨r1, decide_eq_true r3⟩, rfl⟩, r2, by rw [g131, r4]⟩
    rw [k1, k2]
/-! the reference -/
theorem wnum_L56 (h : RF I n K τ M E V F O R N) {x : Nat} {f : TyF} (hx : F[x]? = some f) : ∀ (c N1 j : Nat) (v : Int) (A : Prop), Fg v A → j + c = R.length → c < N1 → ∃ v', m_hasWrongNumber_L56 (x : Int) (fNo f : Int) τ N1 v (j : Int) = some v' ∧ Fg v' (A ∨ ∃ z, j ≤ z ∧ z < R.length ∧ ∃ r, R[z]? = some r ∧ (r.2 = fMs f ∧ r.1 = fNo f))
  | c, 0, j, v, A, _, _, h => by omega
  | 0, N1 + 1, j, v, A, hf, hj, _ => by
    have hC := h.2.2.2.1.1
    have hl := h.2.2.2.2.1
    exact ⟨v, by rw [m_hasWrongNumber_L56, gd_pos (by omega), hC.2.2.2.2.2, gd_pos (by omega), if_pos (by omega)], hf.cg (ex_no (by omega)).symm⟩
  | c + 1, N1 + 1, j, v, A, hf, hj, hN => by
    have hC := h.2.2.2.1.1
    have hl := h.2.2.2.2.1
    have hxl := gq_lt hx
    obtain ⟨r, hr, hmem, -⟩ := drop_at (show j < R.length by omega)
    obtain ⟨a1, a2⟩ := h.2.2.2.1.2.2.2.2.2.2 j r hr
    obtain ⟨-, -, -, b4, b5, -⟩ := h.2.2.2.1.2.2.2.2.1 x f hx
    have w := h.2.2.2.2.2.2.2.2.2.2.1 r hmem
    have wf := h.2.2.2.2.2.2.2.2.1 f (List.mem_of_getElem? hx)
    have ih := fun f' A' hf' => wnum_L56 h hx c N1 (j + 1) f' A' hf' (by omega) (by omega)
    have st := ex_st (A := A) (H := fun z => ∃ r, R[z]? = some r ∧ (r.2 = fMs f ∧ r.1 = fNo f)) (show j < R.length by omega)
    rw [m_hasWrongNumber_L56, gd_pos (by omega), hC.2.2.2.2.2, gd_pos (by omega), if_neg (by omega), show (j : Int) + 1 = ((j + 1 : Nat) : Int) by omega]
    rcases hf with ⟨e, hA⟩ | ⟨e, hA⟩
    · subst e
      rw [gd_pos (by omega), if_pos rfl, gd_pos (by constructor <;> omega), gd_pos (by constructor <;> omega), Int.toNat_natCast, Int.toNat_natCast, a2, b5, a1, gd_pos (by omega), gd_pos (by omega), gd_pos (by exact fun _ => by omega), gd_pos (by exact fun _ => by omega)]
      by_cases q : r.2 = fMs f ∧ r.1 = fNo f
      · rw [if_pos (by omega), bind_some']
        obtain ⟨v', v1, v2⟩ := ih 1 (A ∨ ∃ r, R[j]? = some r ∧ (r.2 = fMs f ∧ r.1 = fNo f)) (Or.inr ⟨rfl, Or.inr ⟨r, hr, q⟩⟩)
        exact ⟨v', v1, v2.cg st⟩
      · rw [if_neg (by omega), bind_some']
        obtain ⟨v', v1, v2⟩ := ih 0 (A ∨ ∃ r, R[j]? = some r ∧ (r.2 = fMs f ∧ r.1 = fNo f)) (Or.inl ⟨rfl, fun w => by
          rcases w with w | ⟨r', w1, w2⟩
          · exact hA w
          · rw [hr] at w1
            have e := Option.some.inj w1
            subst e
            exact q w2⟩)
        exact ⟨v', v1, v2.cg st⟩
    · subst e
      rw [gd_pos (by omega), if_neg (by omega), bind_some']
      obtain ⟨v', v1, v2⟩ := ih 1 (A ∨ ∃ r, R[j]? = some r ∧ (r.2 = fMs f ∧ r.1 = fNo f)) (Or.inr ⟨rfl, Or.inl hA⟩)
      exact ⟨v', v1, v2.cg st⟩
theorem wnum_L111 (h : RF I n K τ M E V F O R N) {x : Nat} {f : TyF} (hx : F[x]? = some f) : ∀ (c N1 j : Nat) (v : Int) (A : Prop), Fg v A → j + c = x → c < N1 → ∃ v', m_hasWrongNumber_L111 (x : Int) (fNo f : Int) τ N1 v (j : Int) = some v' ∧ Fg v' (A ∨ ∃ z, j ≤ z ∧ z < x ∧ ∃ g, F[z]? = some g ∧ (fMs g = fMs f ∧ fNo g = fNo f))
  | c, 0, j, v, A, _, _, h => by omega
  | 0, N1 + 1, j, v, A, hf, hj, _ => by
    have hl := h.2.2.2.2.1
    have hxl := gq_lt hx
    exact ⟨v, by rw [m_hasWrongNumber_L111, gd_pos (by omega), gd_pos (by omega), if_pos (by omega)], hf.cg (ex_no (by omega)).symm⟩
  | c + 1, N1 + 1, j, v, A, hf, hj, hN => by
    have hl := h.2.2.2.2.1
    have hxl := gq_lt hx
    obtain ⟨g, hg, hmem, -⟩ := drop_at (show j < F.length by omega)
    obtain ⟨-, -, -, a4, a5, -⟩ := h.2.2.2.1.2.2.2.2.1 j g hg
    obtain ⟨-, -, -, b4, b5, -⟩ := h.2.2.2.1.2.2.2.2.1 x f hx
    have w := h.2.2.2.2.2.2.2.2.1 g hmem
    have wf := h.2.2.2.2.2.2.2.2.1 f (List.mem_of_getElem? hx)
    have ih := fun f' A' hf' => wnum_L111 h hx c N1 (j + 1) f' A' hf' (by omega) (by omega)
    have st := ex_st (A := A) (H := fun z => ∃ g, F[z]? = some g ∧ (fMs g = fMs f ∧ fNo g = fNo f)) (show j < x by omega)
    rw [m_hasWrongNumber_L111, gd_pos (by omega), gd_pos (by omega), if_neg (by omega), show (j : Int) + 1 = ((j + 1 : Nat) : Int) by omega]
    rcases hf with ⟨e, hA⟩ | ⟨e, hA⟩
    · subst e
      rw [gd_pos (by omega), if_pos rfl, gd_pos (by constructor <;> omega), gd_pos (by constructor <;> omega), Int.toNat_natCast, Int.toNat_natCast, a5, b5, a4, gd_pos (by omega), gd_pos (by omega), gd_pos (by exact fun _ => by omega), gd_pos (by exact fun _ => by omega)]
      by_cases q : fMs g = fMs f ∧ fNo g = fNo f
      · rw [if_pos (by omega), bind_some']
        obtain ⟨v', v1, v2⟩ := ih 1 (A ∨ ∃ g, F[j]? = some g ∧ (fMs g = fMs f ∧ fNo g = fNo f)) (Or.inr ⟨rfl, Or.inr ⟨g, hg, q⟩⟩)
        exact ⟨v', v1, v2.cg st⟩
      · rw [if_neg (by omega), bind_some']
        obtain ⟨v', v1, v2⟩ := ih 0 (A ∨ ∃ g, F[j]? = some g ∧ (fMs g = fMs f ∧ fNo g = fNo f)) (Or.inl ⟨rfl, fun w => by
          rcases w with w | ⟨r', w1, w2⟩
          · exact hA w
          · rw [hg] at w1
            have e := Option.some.inj w1
            subst e
            exact q w2⟩)
        exact ⟨v', v1, v2.cg st⟩
    · subst e
      rw [gd_pos (by omega), if_neg (by omega), bind_some']
      obtain ⟨v', v1, v2⟩ := ih 1 (A ∨ ∃ g, F[j]? = some g ∧ (fMs g = fMs f ∧ fNo g = fNo f)) (Or.inr ⟨rfl, Or.inl hA⟩)
      exact ⟨v', v1, v2.cg st⟩
theorem wnum_L4 (h : RF I n K τ M E V F O R N) : ∀ (c N1 j : Nat) (v : Int) (A : Prop), Fg v A → j + c = F.length → c < N1 → ∃ v', m_hasWrongNumber_L4 τ N1 v (j : Int) = some v' ∧ Fg v' (A ∨ ∃ x, j ≤ x ∧ x < F.length ∧ ∃ f, F[x]? = some f ∧ BNx F R x f)
  | c, 0, j, v, A, _, _, h => by omega
  | 0, N1 + 1, j, v, A, hf, hj, _ => by
    have hC := h.2.2.2.1.1
    have hl := h.2.2.2.2.1
    exact ⟨v, by rw [m_hasWrongNumber_L4, gd_pos (by omega), hC.2.2.2.1, gd_pos (by omega), if_pos (by omega), gd_pos hf.rgv.2], hf.cg (ex_no (by omega)).symm⟩
  | c + 1, N1 + 1, j, v, A, hf, hj, hN => by
    have hC := h.2.2.2.1.1
    have hl := h.2.2.2.2.1
    obtain ⟨f, hx, hmem, -⟩ := drop_at (show j < F.length by omega)
    obtain ⟨-, -, -, b4, -⟩ := h.2.2.2.1.2.2.2.2.1 j f hx
    have wf := h.2.2.2.2.2.2.2.2.1 f hmem
    obtain ⟨v0, e0, g0⟩ : ∃ v0 : Int, (gd (rg v) (gd (v = 0 → rg (fNo f : Int)) (gd ((v = 0) ∧ (¬ ((fNo f : Int) = 0)) → rg (fNo f : Int)) (if ((v = 0) ∧ (¬ ((fNo f : Int) = 0))) ∧ (¬ (536870911 < (fNo f : Int))) then (gd (rg (fNo f : Int)) (if ((fNo f : Int) < 19000) ∨ (19999 < (fNo f : Int)) then (some 0) else (some 1))) else (some 1))))) = some v0 ∧ Fg v0 (A ∨ (fNo f = 0 ∨ 536870911 < fNo f ∨ (19000 ≤ fNo f ∧ fNo f ≤ 19999))) := by
      rw [gd_pos hf.rgv.1, gd_pos (by exact fun _ => by omega), gd_pos (by exact fun _ => by omega)]
      rcases hf with ⟨e, hA⟩ | ⟨e, hA⟩
      · subst e
        by_cases c1 : (((0 : Int) = 0) ∧ (¬ ((fNo f : Int) = 0))) ∧ (¬ (536870911 < (fNo f : Int)))
        · rw [if_pos c1, gd_pos (by omega)]
          by_cases c2 : ((fNo f : Int) < 19000) ∨ (19999 < (fNo f : Int))
          · refine ⟨0, if_pos c2, Or.inl ⟨rfl, fun q => ?_⟩⟩
            rcases q with q | q
            · exact hA q
            · omega
          · exact ⟨1, if_neg c2, Or.inr ⟨rfl, Or.inr (by omega)⟩⟩
        · exact ⟨1, if_neg c1, Or.inr ⟨rfl, Or.inr (by omega)⟩⟩
      · subst e
        exact ⟨1, if_neg (fun q => by cases q.1.1), Or.inr ⟨rfl, Or.inl hA⟩⟩
    obtain ⟨v1, e1, g1⟩ := wnum_L56 h hx R.length FU 0 v0 _ g0 (Nat.zero_add _) (FU_gt (by omega))
    obtain ⟨v2, e2, g2⟩ := wnum_L111 h hx j FU 0 v1 _ g1 (Nat.zero_add _) (FU_gt (by omega))
    have e1 : m_hasWrongNumber_L56 (j : Int) (fNo f : Int) τ FU v0 0 = some v1 := e1
    have e2 : m_hasWrongNumber_L111 (j : Int) (fNo f : Int) τ FU v1 0 = some v2 := e2
    have g3 : Fg v2 (A ∨ ∃ f, F[j]? = some f ∧ BNx F R j f) := g2.cg (by
      have k1 : (∃ z, 0 ≤ z ∧ z < R.length ∧ ∃ r, R[z]? = some r ∧ (r.2 = fMs f ∧ r.1 = fNo f)) ↔ ∃ r, r ∈ R ∧ r.2 = fMs f ∧ r.1 = fNo f := by
        constructor
        · intro ⟨z, _, _, r, r1, r2⟩
          exact ⟨r, List.mem_of_getElem? r1, r2⟩
        · intro ⟨r, r1, r2⟩
          obtain ⟨z, hz⟩ := List.getElem?_of_mem r1
          exact ⟨z, Nat.zero_le _, gq_lt hz, r, hz, r2⟩
      have k2 : (∃ z, 0 ≤ z ∧ z < j ∧ ∃ g, F[z]? = some g ∧ (fMs g = fMs f ∧ fNo g = fNo f)) ↔ ∃ z, z < j ∧ ∃ g, F[z]? = some g ∧ fMs g = fMs f ∧ fNo g = fNo f := by
        constructor
        · intro ⟨z, _, z1, z2⟩
          exact ⟨z, z1, z2⟩
        · intro ⟨z, z1, z2⟩
          exact ⟨z, Nat.zero_le _, z1, z2⟩
      have k3 : (∃ f, F[j]? = some f ∧ BNx F R j f) ↔ BNx F R j f := by
        constructor
        · intro ⟨f', q1, q2⟩
          rw [hx] at q1
          have e := Option.some.inj q1
          subst e
          exact q2
        · intro q
          exact ⟨f, hx, q⟩
      rw [k1, k2, k3]
      unfold BNx
      rw [or_assoc, or_assoc])
    obtain ⟨v3, e3, g4⟩ := wnum_L4 h c N1 (j + 1) v2 _ g3 (by omega) (by omega)
    refine ⟨v3, ?_, g4.cg (ex_st (A := A) (H := fun x => ∃ f, F[x]? = some f ∧ BNx F R x f) (show j < F.length by omega))⟩
    rw [m_hasWrongNumber_L4, gd_pos (by omega), hC.2.2.2.1, gd_pos (by omega), if_neg (by omega), gd_pos (by constructor <;> omega), Int.toNat_natCast, b4, nm_eq, e0, bind_some', e1, bind_some', e2, bind_some', show (j : Int) + 1 = ((j + 1 : Nat) : Int) by omega]
    exact e3
theorem nums_iff (hN : (F.map (fun f => f.1)).Nodup) : (∃ x, x < F.length ∧ ∃ f, F[x]? = some f ∧ BNx F R x f) ↔ ∃ f, f ∈ F ∧ BNf F R f := by
  have inj : ∀ {x z : Nat} {f g : TyF}, F[x]? = some f → F[z]? = some g → g.1 = f.1 → z = x := fun {x z f g} h1 h2 e => by
    have p := List.pairwise_iff_getElem.mp hN
    apply Classical.byContradiction
    intro q
    have l1 := gq_lt h1
    have l2 := gq_lt h2
    have e1 : F[x] = f := (List.getElem?_eq_some_iff.mp h1).2
    have e2 : F[z] = g := (List.getElem?_eq_some_iff.mp h2).2
    rcases Nat.lt_or_gt_of_ne q with c | c
    · have := p z x (by rw [List.length_map]; exact l2) (by rw [List.length_map]; exact l1) c
      rw [List.getElem_map, List.getElem_map, e1, e2] at this
      exact this e
    · have := p x z (by rw [List.length_map]; exact l1) (by rw [List.length_map]; exact l2) c
      rw [List.getElem_map, List.getElem_map, e1, e2] at this
      exact this e.symm
  constructor
  · intro ⟨x, _, f, hx, q⟩
    refine ⟨f, List.mem_of_getElem? hx, ?_⟩
    rcases q with q | q | ⟨z, z1, g, z2, z3, z4⟩
    · exact Or.inl q
    · exact Or.inr (Or.inl q)
    · exact Or.inr (Or.inr ⟨g, List.mem_of_getElem? z2, fun e => by have := inj hx z2 e; omega, z3, z4⟩)
  · intro ⟨f, hf, q⟩
    obtain ⟨x, hx⟩ := List.getElem?_of_mem hf
    rcases q with q | q | ⟨g, g1, g2, g3, g4⟩
    · exact ⟨x, gq_lt hx, f, hx, Or.inl q⟩
    · exact ⟨x, gq_lt hx, f, hx, Or.inr (Or.inl q)⟩
    · obtain ⟨z, hz⟩ := List.getElem?_of_mem g1
      rcases Nat.lt_trichotomy z x with c | c | c
      · exact ⟨x, gq_lt hx, f, hx, Or.inr (Or.inr ⟨z, c, g, hz, g3, g4⟩)⟩
      · subst c
        rw [hx] at hz
        have e := Option.some.inj hz
        exact absurd (by rw [e]) g2
      · exact ⟨z, gq_lt hz, g, hz, Or.inr (Or.inr ⟨x, c, f, hx, g3.symm, g4.symm⟩)⟩
theorem m_wnum_eq (h : RF I n K τ M E V F O R N) (hN : (F.map (fun f => f.1)).Nodup) : ∃ v, m_hasWrongNumber τ = some v ∧ Fg v (∃ f, f ∈ F ∧ BNf F R f) := by
  have hl := h.2.2.2.2.1
  obtain ⟨v, e, g⟩ := wnum_L4 h F.length FU 0 0 False (Or.inl ⟨rfl, fun h => h⟩) (Nat.zero_add _) (FU_gt (by omega))
  exact ⟨v, e, g.cg (ex_0.trans (nums_iff hN))⟩
end S1
