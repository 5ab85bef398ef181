set_option maxRecDepth 100000
/-! SCHEMAS, CHECKED: names, by the reference -/
section Sw
variable {I : Nat → Nat} {n K : Nat} {τ : TT} {M : List TyM} {E : List TyE} {V : List TyV} {F : List TyF} {O : List TyO} {R : List TyR} {N : List TyN}
theorem nd_cnt {β : Type} [BEq β] [LawfulBEq β] : ∀ (l : List β), ¬ l.Nodup ↔ ∃ z, z ∈ l ∧ 1 < l.count z
  | [] => by
    constructor
    · intro h; exact absurd List.nodup_nil h
    · intro ⟨z, h, _⟩; cases h
  | a :: l => by
    have ih := nd_cnt l
    rw [List.nodup_cons]
    constructor
    · intro h
      by_cases q : a ∈ l
      · refine ⟨a, List.mem_cons_self, ?_⟩
        rw [List.count_cons_self]
        have := List.count_pos_iff.mpr q
        omega
      · have h2 : ¬ l.Nodup := fun w => h ⟨q, w⟩
        obtain ⟨z, z1, z2⟩ := ih.mp h2
        refine ⟨z, List.mem_cons_of_mem _ z1, Nat.lt_of_lt_of_le z2 ?_⟩
        exact List.Sublist.count_le _ (List.sublist_cons_self a l)
    · intro ⟨z, z1, z2⟩ ⟨q1, q2⟩
      by_cases e : z = a
      · subst e
        rw [List.count_cons_self, List.count_eq_zero.mpr q1] at z2
        omega
      · rw [List.count_cons_of_ne (fun w => e w.symm)] at z2
        have zl : z ∈ l := by
          rcases List.mem_cons.mp z1 with w | w
          · exact absurd w e
          · exact w
        exact ih.mpr ⟨z, zl, z2⟩ q2
theorem NL_len (h : PW I n M E V F O R N) : (NL I n M E V).length ≤ 56 := by
  have := h.1
  unfold NL
  rw [List.length_append, List.length_append, List.length_map, List.length_map, List.length_map]
  omega
theorem FN_len (h : PW I n M E V F O R N) : (FN I n F O).length ≤ 62 := by
  have := h.1
  unfold FN
  rw [List.length_append, List.length_map, List.length_map]
  omega
theorem twM (h : RF I n K τ M E V F O R N) : ∀ (c N j : Nat) (f : Int) (A : Prop), Fg f A → j + c = M.length → c < N → ∃ v, m_namesTwice_L4 τ N f (j : Int) = some v ∧ Fg v (A ∨ ∃ x, j ≤ x ∧ x < M.length ∧ ∃ m, M[x]? = some m ∧ 1 < (NL I n M E V).count (tx I n (m.2.2.1), m.2.2.2))
  | c, 0, j, f, A, _, _, h => by omega
  | 0, N + 1, j, f, A, hf, hj, _ => by
    have hl := h.2.2.2.2.1
    have hC := h.2.2.2.1.1
    exact ⟨f, by rw [m_namesTwice_L4, gd_pos (by omega), hC.1, gd_pos (by omega), if_pos (by omega)], hf.cg (ex_no (by omega)).symm⟩
  | c + 1, N + 1, j, f, A, hf, hj, hN => by
    have hl := h.2.2.2.2.1
    have hC := h.2.2.2.1.1
    obtain ⟨m, hm, hmem, -⟩ := drop_at (show j < M.length by omega)
    obtain ⟨a1, a2⟩ := h.2.2.2.1.2.1 j m hm
    have w := h.2.2.2.2.2.1 j m hm
    have sm := m_named_eq h (t := m.2.2.1) (p := m.2.2.2) w.2.2.1 (by have := gq_lt hm; omega)
    have ih := fun f' A' hf' => twM h c N (j + 1) f' A' hf' (by omega) (by omega)
    have st := ex_st (A := A) (H := fun x => ∃ m, M[x]? = some m ∧ 1 < (NL I n M E V).count (tx I n (m.2.2.1), m.2.2.2)) (show j < M.length by omega)
    have cl : (NL I n M E V).count (tx I n (m.2.2.1), m.2.2.2) ≤ 100 := Nat.le_trans List.count_le_length (Nat.le_trans (NL_len h.2.2.2.2) (by decide))
    rw [m_namesTwice_L4, gd_pos (by omega), hC.1, gd_pos (by omega), if_neg (by omega), show (j : Int) + 1 = ((j + 1 : Nat) : Int) by omega]
    rcases hf with ⟨e, hA⟩ | ⟨e, hA⟩
    · subst e
      rw [gd_pos (by omega), gd_pos (by exact fun _ => by constructor <;> omega), Int.toNat_natCast, a1, a2, sm, gd_pos (by exact fun _ => ok_some _), vv_s, gd_pos (by exact fun _ => by omega)]
      by_cases q : 1 < (NL I n M E V).count (tx I n (m.2.2.1), m.2.2.2)
      · rw [if_neg (by omega), bind_some']
        obtain ⟨v, v1, v2⟩ := ih 1 (A ∨ ∃ m, M[j]? = some m ∧ 1 < (NL I n M E V).count (tx I n (m.2.2.1), m.2.2.2)) (Or.inr ⟨rfl, Or.inr ⟨m, hm, q⟩⟩)
        exact ⟨v, v1, v2.cg st⟩
      · rw [if_pos (by omega), bind_some']
        obtain ⟨v, v1, v2⟩ := ih 0 (A ∨ ∃ m, M[j]? = some m ∧ 1 < (NL I n M E V).count (tx I n (m.2.2.1), m.2.2.2)) (Or.inl ⟨rfl, fun h => by
          rcases h with h | ⟨m', h1, h2⟩
          · exact hA h
          · rw [hm] at h1
            have e := Option.some.inj h1
            subst e
            exact q h2⟩)
        exact ⟨v, v1, v2.cg st⟩
    · subst e
      rw [gd_pos (by omega), gd_pos (by exact fun h => by cases h), gd_pos (by exact fun h => by cases h), gd_pos (by exact fun h => by cases h), if_neg (fun h => by cases h.1), bind_some']
      obtain ⟨v, v1, v2⟩ := ih 1 (A ∨ ∃ m, M[j]? = some m ∧ 1 < (NL I n M E V).count (tx I n (m.2.2.1), m.2.2.2)) (Or.inr ⟨rfl, Or.inl hA⟩)
      exact ⟨v, v1, v2.cg st⟩
theorem twE (h : RF I n K τ M E V F O R N) : ∀ (c N j : Nat) (f : Int) (A : Prop), Fg f A → j + c = E.length → c < N → ∃ v, m_namesTwice_L50 τ N f (j : Int) = some v ∧ Fg v (A ∨ ∃ x, j ≤ x ∧ x < E.length ∧ ∃ m, E[x]? = some m ∧ 1 < (NL I n M E V).count (tx I n (m.2.1), m.2.2))
  | c, 0, j, f, A, _, _, h => by omega
  | 0, N + 1, j, f, A, hf, hj, _ => by
    have hl := h.2.2.2.2.1
    have hC := h.2.2.2.1.1
    exact ⟨f, by rw [m_namesTwice_L50, gd_pos (by omega), hC.2.1, gd_pos (by omega), if_pos (by omega)], hf.cg (ex_no (by omega)).symm⟩
  | c + 1, N + 1, j, f, A, hf, hj, hN => by
    have hl := h.2.2.2.2.1
    have hC := h.2.2.2.1.1
    obtain ⟨m, hm, hmem, -⟩ := drop_at (show j < E.length by omega)
    obtain ⟨a1, a2⟩ := h.2.2.2.1.2.2.1 j m hm
    have w := h.2.2.2.2.2.2.1 m hmem
    have sm := m_named_eq h (t := m.2.1) (p := m.2.2) w.2.2.1 (by omega)
    have ih := fun f' A' hf' => twE h c N (j + 1) f' A' hf' (by omega) (by omega)
    have st := ex_st (A := A) (H := fun x => ∃ m, E[x]? = some m ∧ 1 < (NL I n M E V).count (tx I n (m.2.1), m.2.2)) (show j < E.length by omega)
    have cl : (NL I n M E V).count (tx I n (m.2.1), m.2.2) ≤ 100 := Nat.le_trans List.count_le_length (Nat.le_trans (NL_len h.2.2.2.2) (by decide))
    rw [m_namesTwice_L50, gd_pos (by omega), hC.2.1, gd_pos (by omega), if_neg (by omega), show (j : Int) + 1 = ((j + 1 : Nat) : Int) by omega]
    rcases hf with ⟨e, hA⟩ | ⟨e, hA⟩
    · subst e
      rw [gd_pos (by omega), gd_pos (by exact fun _ => by constructor <;> omega), Int.toNat_natCast, a1, a2, sm, gd_pos (by exact fun _ => ok_some _), vv_s, gd_pos (by exact fun _ => by omega)]
      by_cases q : 1 < (NL I n M E V).count (tx I n (m.2.1), m.2.2)
      · rw [if_neg (by omega), bind_some']
        obtain ⟨v, v1, v2⟩ := ih 1 (A ∨ ∃ m, E[j]? = some m ∧ 1 < (NL I n M E V).count (tx I n (m.2.1), m.2.2)) (Or.inr ⟨rfl, Or.inr ⟨m, hm, q⟩⟩)
        exact ⟨v, v1, v2.cg st⟩
      · rw [if_pos (by omega), bind_some']
        obtain ⟨v, v1, v2⟩ := ih 0 (A ∨ ∃ m, E[j]? = some m ∧ 1 < (NL I n M E V).count (tx I n (m.2.1), m.2.2)) (Or.inl ⟨rfl, fun h => by
          rcases h with h | ⟨m', h1, h2⟩
          · exact hA h
          · rw [hm] at h1
            have e := Option.some.inj h1
            subst e
            exact q h2⟩)
        exact ⟨v, v1, v2.cg st⟩
    · subst e
      rw [gd_pos (by omega), gd_pos (by exact fun h => by cases h), gd_pos (by exact fun h => by cases h), gd_pos (by exact fun h => by cases h), if_neg (fun h => by cases h.1), bind_some']
      obtain ⟨v, v1, v2⟩ := ih 1 (A ∨ ∃ m, E[j]? = some m ∧ 1 < (NL I n M E V).count (tx I n (m.2.1), m.2.2)) (Or.inr ⟨rfl, Or.inl hA⟩)
      exact ⟨v, v1, v2.cg st⟩
theorem twV (h : RF I n K τ M E V F O R N) : ∀ (c N j : Nat) (f : Int) (A : Prop), Fg f A → j + c = V.length → c < N → ∃ v, m_namesTwice_L96 τ N f (j : Int) = some v ∧ Fg v (A ∨ ∃ x, j ≤ x ∧ x < V.length ∧ ∃ m, V[x]? = some m ∧ 1 < (NL I n M E V).count (tx I n (m.2.1), ePa E m.2.2.2))
  | c, 0, j, f, A, _, _, h => by omega
  | 0, N + 1, j, f, A, hf, hj, _ => by
    have hl := h.2.2.2.2.1
    have hC := h.2.2.2.1.1
    exact ⟨f, by rw [m_namesTwice_L96, gd_pos (by omega), hC.2.2.1, gd_pos (by omega), if_pos (by omega)], hf.cg (ex_no (by omega)).symm⟩
  | c + 1, N + 1, j, f, A, hf, hj, hN => by
    have hl := h.2.2.2.2.1
    have hC := h.2.2.2.1.1
    obtain ⟨m, hm, hmem, -⟩ := drop_at (show j < V.length by omega)
    obtain ⟨a1, a2, a3⟩ := h.2.2.2.1.2.2.2.1 j m hm
    have w := h.2.2.2.2.2.2.2.1 m hmem
    obtain ⟨e, he, hem, -⟩ := drop_at w.1
    have e18 := (h.2.2.2.1.2.2.1 _ _ he).2
    have we := h.2.2.2.2.2.2.1 e hem
    have ep : ePa E m.2.2.2 = e.2.2 := by unfold ePa; rw [he]; rfl
    have sm := m_named_eq h (t := m.2.1) (p := ePa E m.2.2.2) w.2.2.1 (by rw [ep]; omega)
    have ih := fun f' A' hf' => twV h c N (j + 1) f' A' hf' (by omega) (by omega)
    have st := ex_st (A := A) (H := fun x => ∃ m, V[x]? = some m ∧ 1 < (NL I n M E V).count (tx I n (m.2.1), ePa E m.2.2.2)) (show j < V.length by omega)
    have cl : (NL I n M E V).count (tx I n (m.2.1), ePa E m.2.2.2) ≤ 100 := Nat.le_trans List.count_le_length (Nat.le_trans (NL_len h.2.2.2.2) (by decide))
    rw [m_namesTwice_L96, gd_pos (by omega), hC.2.2.1, gd_pos (by omega), if_neg (by omega), show (j : Int) + 1 = ((j + 1 : Nat) : Int) by omega]
    rcases hf with ⟨e, hA⟩ | ⟨e, hA⟩
    · subst e
      rw [gd_pos (by omega), gd_pos (by exact fun _ => by constructor <;> omega), Int.toNat_natCast, a3, gd_pos (by exact fun _ => by constructor <;> omega), Int.toNat_natCast, e18, a1, ← ep, sm, gd_pos (by exact fun _ => ok_some _), vv_s, gd_pos (by exact fun _ => by omega)]
      by_cases q : 1 < (NL I n M E V).count (tx I n (m.2.1), ePa E m.2.2.2)
      · rw [if_neg (by omega), bind_some']
        obtain ⟨v, v1, v2⟩ := ih 1 (A ∨ ∃ m, V[j]? = some m ∧ 1 < (NL I n M E V).count (tx I n (m.2.1), ePa E m.2.2.2)) (Or.inr ⟨rfl, Or.inr ⟨m, hm, q⟩⟩)
        exact ⟨v, v1, v2.cg st⟩
      · rw [if_pos (by omega), bind_some']
        obtain ⟨v, v1, v2⟩ := ih 0 (A ∨ ∃ m, V[j]? = some m ∧ 1 < (NL I n M E V).count (tx I n (m.2.1), ePa E m.2.2.2)) (Or.inl ⟨rfl, fun h => by
          rcases h with h | ⟨m', h1, h2⟩
          · exact hA h
          · rw [hm] at h1
            have e := Option.some.inj h1
            subst e
            exact q h2⟩)
        exact ⟨v, v1, v2.cg st⟩
    · subst e
      rw [gd_pos (by omega), gd_pos (by exact fun h => by cases h), gd_pos (by exact fun h => by cases h), gd_pos (by exact fun h => by cases h), gd_pos (by exact fun h => by cases h), if_neg (fun h => by cases h.1), bind_some']
      obtain ⟨v, v1, v2⟩ := ih 1 (A ∨ ∃ m, V[j]? = some m ∧ 1 < (NL I n M E V).count (tx I n (m.2.1), ePa E m.2.2.2)) (Or.inr ⟨rfl, Or.inl hA⟩)
      exact ⟨v, v1, v2.cg st⟩
theorem twF (h : RF I n K τ M E V F O R N) : ∀ (c N j : Nat) (f : Int) (A : Prop), Fg f A → j + c = F.length → c < N → ∃ v, m_namesTwice_L147 τ N f (j : Int) = some v ∧ Fg v (A ∨ ∃ x, j ≤ x ∧ x < F.length ∧ ∃ m, F[x]? = some m ∧ 1 < (FN I n F O).count (tx I n (fNm m), fMs m))
  | c, 0, j, f, A, _, _, h => by omega
  | 0, N + 1, j, f, A, hf, hj, _ => by
    have hl := h.2.2.2.2.1
    have hC := h.2.2.2.1.1
    exact ⟨f, by rw [m_namesTwice_L147, gd_pos (by omega), hC.2.2.2.1, gd_pos (by omega), if_pos (by omega)], hf.cg (ex_no (by omega)).symm⟩
  | c + 1, N + 1, j, f, A, hf, hj, hN => by
    have hl := h.2.2.2.2.1
    have hC := h.2.2.2.1.1
    obtain ⟨m, hm, hmem, -⟩ := drop_at (show j < F.length by omega)
    obtain ⟨a1, a2, a3, a4, a5, -⟩ := h.2.2.2.1.2.2.2.2.1 j m hm
    have w := h.2.2.2.2.2.2.2.2.1 m hmem
    have sm := m_fnamed_eq h (t := fNm m) (p := fMs m) w.2.2.1 (by omega)
    have ih := fun f' A' hf' => twF h c N (j + 1) f' A' hf' (by omega) (by omega)
    have st := ex_st (A := A) (H := fun x => ∃ m, F[x]? = some m ∧ 1 < (FN I n F O).count (tx I n (fNm m), fMs m)) (show j < F.length by omega)
    have cl : (FN I n F O).count (tx I n (fNm m), fMs m) ≤ 100 := Nat.le_trans List.count_le_length (Nat.le_trans (FN_len h.2.2.2.2) (by decide))
    rw [m_namesTwice_L147, gd_pos (by omega), hC.2.2.2.1, gd_pos (by omega), if_neg (by omega), show (j : Int) + 1 = ((j + 1 : Nat) : Int) by omega]
    rcases hf with ⟨e, hA⟩ | ⟨e, hA⟩
    · subst e
      rw [gd_pos (by omega), gd_pos (by exact fun _ => by constructor <;> omega), Int.toNat_natCast, a3, a5, sm, gd_pos (by exact fun _ => ok_some _), vv_s, gd_pos (by exact fun _ => by omega)]
      by_cases q : 1 < (FN I n F O).count (tx I n (fNm m), fMs m)
      · rw [if_neg (by omega), bind_some']
        obtain ⟨v, v1, v2⟩ := ih 1 (A ∨ ∃ m, F[j]? = some m ∧ 1 < (FN I n F O).count (tx I n (fNm m), fMs m)) (Or.inr ⟨rfl, Or.inr ⟨m, hm, q⟩⟩)
        exact ⟨v, v1, v2.cg st⟩
      · rw [if_pos (by omega), bind_some']
        obtain ⟨v, v1, v2⟩ := ih 0 (A ∨ ∃ m, F[j]? = some m ∧ 1 < (FN I n F O).count (tx I n (fNm m), fMs m)) (Or.inl ⟨rfl, fun h => by
          rcases h with h | ⟨m', h1, h2⟩
          · exact hA h
          · rw [hm] at h1
            have e := Option.some.inj h1
            subst e
            exact q h2⟩)
        exact ⟨v, v1, v2.cg st⟩
    · subst e
      rw [gd_pos (by omega), gd_pos (by exact fun h => by cases h), gd_pos (by exact fun h => by cases h), gd_pos (by exact fun h => by cases h), if_neg (fun h => by cases h.1), bind_some']
      obtain ⟨v, v1, v2⟩ := ih 1 (A ∨ ∃ m, F[j]? = some m ∧ 1 < (FN I n F O).count (tx I n (fNm m), fMs m)) (Or.inr ⟨rfl, Or.inl hA⟩)
      exact ⟨v, v1, v2.cg st⟩
theorem twO (h : RF I n K τ M E V F O R N) : ∀ (c N j : Nat) (f : Int) (A : Prop), Fg f A → j + c = O.length → c < N → ∃ v, m_namesTwice_L193 τ N f (j : Int) = some v ∧ Fg v (A ∨ ∃ x, j ≤ x ∧ x < O.length ∧ ∃ m, O[x]? = some m ∧ 1 < (FN I n F O).count (tx I n (m.2.1), m.2.2))
  | c, 0, j, f, A, _, _, h => by omega
  | 0, N + 1, j, f, A, hf, hj, _ => by
    have hl := h.2.2.2.2.1
    have hC := h.2.2.2.1.1
    exact ⟨f, by rw [m_namesTwice_L193, gd_pos (by omega), hC.2.2.2.2.1, gd_pos (by omega), if_pos (by omega), gd_pos hf.rgv.2], hf.cg (ex_no (by omega)).symm⟩
  | c + 1, N + 1, j, f, A, hf, hj, hN => by
    have hl := h.2.2.2.2.1
    have hC := h.2.2.2.1.1
    obtain ⟨m, hm, hmem, -⟩ := drop_at (show j < O.length by omega)
    obtain ⟨a1, a2⟩ := h.2.2.2.1.2.2.2.2.2.1 j m hm
    have w := h.2.2.2.2.2.2.2.2.2.1 m hmem
    have sm := m_fnamed_eq h (t := m.2.1) (p := m.2.2) w.2.1 (by omega)
    have ih := fun f' A' hf' => twO h c N (j + 1) f' A' hf' (by omega) (by omega)
    have st := ex_st (A := A) (H := fun x => ∃ m, O[x]? = some m ∧ 1 < (FN I n F O).count (tx I n (m.2.1), m.2.2)) (show j < O.length by omega)
    have cl : (FN I n F O).count (tx I n (m.2.1), m.2.2) ≤ 100 := Nat.le_trans List.count_le_length (Nat.le_trans (FN_len h.2.2.2.2) (by decide))
    rw [m_namesTwice_L193, gd_pos (by omega), hC.2.2.2.2.1, gd_pos (by omega), if_neg (by omega), show (j : Int) + 1 = ((j + 1 : Nat) : Int) by omega]
    rcases hf with ⟨e, hA⟩ | ⟨e, hA⟩
    · subst e
      rw [gd_pos (by omega), gd_pos (by exact fun _ => by constructor <;> omega), Int.toNat_natCast, a1, a2, sm, gd_pos (by exact fun _ => ok_some _), vv_s, gd_pos (by exact fun _ => by omega)]
      by_cases q : 1 < (FN I n F O).count (tx I n (m.2.1), m.2.2)
      · rw [if_neg (by omega), bind_some']
        obtain ⟨v, v1, v2⟩ := ih 1 (A ∨ ∃ m, O[j]? = some m ∧ 1 < (FN I n F O).count (tx I n (m.2.1), m.2.2)) (Or.inr ⟨rfl, Or.inr ⟨m, hm, q⟩⟩)
        exact ⟨v, v1, v2.cg st⟩
      · rw [if_pos (by omega), bind_some']
        obtain ⟨v, v1, v2⟩ := ih 0 (A ∨ ∃ m, O[j]? = some m ∧ 1 < (FN I n F O).count (tx I n (m.2.1), m.2.2)) (Or.inl ⟨rfl, fun h => by
          rcases h with h | ⟨m', h1, h2⟩
          · exact hA h
          · rw [hm] at h1
            have e := Option.some.inj h1
            subst e
            exact q h2⟩)
        exact ⟨v, v1, v2.cg st⟩
    · subst e
      rw [gd_pos (by omega), gd_pos (by exact fun h => by cases h), gd_pos (by exact fun h => by cases h), gd_pos (by exact fun h => by cases h), if_neg (fun h => by cases h.1), bind_some']
      obtain ⟨v, v1, v2⟩ := ih 1 (A ∨ ∃ m, O[j]? = some m ∧ 1 < (FN I n F O).count (tx I n (m.2.1), m.2.2)) (Or.inr ⟨rfl, Or.inl hA⟩)
      exact ⟨v, v1, v2.cg st⟩
theorem ex_mem {α β : Type} {l : List α} {f : α → β} {P : β → Prop} : (∃ x, 0 ≤ x ∧ x < l.length ∧ ∃ m, l[x]? = some m ∧ P (f m)) ↔ ∃ z, z ∈ l.map f ∧ P z := by
  constructor
  · intro ⟨x, _, hx, m, h1, h2⟩
    exact ⟨f m, List.mem_map.mpr ⟨m, List.mem_of_getElem? h1, rfl⟩, h2⟩
  · intro ⟨z, h1, h2⟩
    obtain ⟨m, m1, m2⟩ := List.mem_map.mp h1
    obtain ⟨x, hx⟩ := List.getElem?_of_mem m1
    exact ⟨x, Nat.zero_le _, gq_lt hx, m, hx, by rw [m2]; exact h2⟩
theorem ex_app {β : Type} {l k : List β} {P : β → Prop} : (∃ z, z ∈ l ++ k ∧ P z) ↔ ((∃ z, z ∈ l ∧ P z) ∨ ∃ z, z ∈ k ∧ P z) := by
  constructor
  · intro ⟨z, h1, h2⟩
    rcases List.mem_append.mp h1 with h | h
    · exact Or.inl ⟨z, h, h2⟩
    · exact Or.inr ⟨z, h, h2⟩
  · intro h
    rcases h with ⟨z, h1, h2⟩ | ⟨z, h1, h2⟩
    · exact ⟨z, List.mem_append_left _ h1, h2⟩
    · exact ⟨z, List.mem_append_right _ h1, h2⟩
theorem m_namesTwice_eq (h : RF I n K τ M E V F O R N) : ∃ v, m_namesTwice τ = some v ∧ Fg v (¬ (NL I n M E V).Nodup ∨ ¬ (FN I n F O).Nodup) := by
  have hl := h.2.2.2.2.1
  obtain ⟨v1, e1, f1⟩ := twM h M.length FU 0 0 False (Or.inl ⟨rfl, fun h => h⟩) (by omega) (FU_gt (by omega))
  obtain ⟨v2, e2, f2⟩ := twE h E.length FU 0 v1 _ f1 (by omega) (FU_gt (by omega))
  obtain ⟨v3, e3, f3⟩ := twV h V.length FU 0 v2 _ f2 (by omega) (FU_gt (by omega))
  obtain ⟨v4, e4, f4⟩ := twF h F.length FU 0 v3 _ f3 (by omega) (FU_gt (by omega))
  obtain ⟨v5, e5, f5⟩ := twO h O.length FU 0 v4 _ f4 (by omega) (FU_gt (by omega))
  have e1 : m_namesTwice_L4 τ FU 0 0 = some v1 := e1
  have e2 : m_namesTwice_L50 τ FU v1 0 = some v2 := e2
  have e3 : m_namesTwice_L96 τ FU v2 0 = some v3 := e3
  have e4 : m_namesTwice_L147 τ FU v3 0 = some v4 := e4
  have e5 : m_namesTwice_L193 τ FU v4 0 = some v5 := e5
  refine ⟨v5, by unfold m_namesTwice; rw [e1, bind_some', e2, bind_some', e3, bind_some', e4, bind_some', e5], f5.cg ?_⟩
  have kM := ex_mem (l := M) (f := fun m => (tx I n m.2.2.1, m.2.2.2)) (P := fun z => 1 < (NL I n M E V).count z)
  have kE := ex_mem (l := E) (f := fun m => (tx I n m.2.1, m.2.2)) (P := fun z => 1 < (NL I n M E V).count z)
  have kV := ex_mem (l := V) (f := fun m => (tx I n m.2.1, ePa E m.2.2.2)) (P := fun z => 1 < (NL I n M E V).count z)
  have kF := ex_mem (l := F) (f := fun m => (tx I n (fNm m), fMs m)) (P := fun z => 1 < (FN I n F O).count z)
  have kO := ex_mem (l := O) (f := fun m => (tx I n m.2.1, m.2.2)) (P := fun z => 1 < (FN I n F O).count z)
  rw [nd_cnt, nd_cnt, kM, kE, kV, kF, kO]
  have a1 : (∃ z, z ∈ NL I n M E V ∧ 1 < (NL I n M E V).count z) ↔ ((∃ z, z ∈ M.map (fun m => (tx I n m.2.2.1, m.2.2.2)) ∧ 1 < (NL I n M E V).count z) ∨ ((∃ z, z ∈ E.map (fun m => (tx I n m.2.1, m.2.2)) ∧ 1 < (NL I n M E V).count z) ∨ ∃ z, z ∈ V.map (fun m => (tx I n m.2.1, ePa E m.2.2.2)) ∧ 1 < (NL I n M E V).count z)) := by
    rw [← ex_app, ← ex_app]; rfl
  have a2 : (∃ z, z ∈ FN I n F O ∧ 1 < (FN I n F O).count z) ↔ ((∃ z, z ∈ F.map (fun m => (tx I n (fNm m), fMs m)) ∧ 1 < (FN I n F O).count z) ∨ ∃ z, z ∈ O.map (fun m => (tx I n m.2.1, m.2.2)) ∧ 1 < (FN I n F O).count z) := by
    rw [← ex_app]; rfl
  rw [a1, a2, false_or]
  simp only [or_assoc]
end Sw
