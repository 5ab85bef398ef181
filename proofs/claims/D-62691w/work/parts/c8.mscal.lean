set_option maxRecDepth 100000
/-! SCHEMAS, CHECKED: scalar types, by the reference -/
section S8
variable {I : Nat → Nat} {n K : Nat} {τ : TT} {M : List TyM} {E : List TyE} {V : List TyV} {F : List TyF} {O : List TyO} {R : List TyR} {N : List TyN}
theorem sl23 : slen 23 = 74 := by decide +kernel
theorem scl_skip {t : Int} {s i : Int} {e : Nat} (he : e < slen 23) : ∀ (c N q : Nat), q + c = e → (∀ x, q ≤ x → x < e → sch 23 x ≠ 32) → m_scalarOf_L11 t τ (N + c) s i (q : Int) = m_scalarOf_L11 t τ N s i (e : Int)
  | 0, N, q, hq, _ => by rw [show q = e by omega]; rfl
  | c + 1, N, q, hq, h => by
    have l := sl23
    have h1 := h q (Nat.le_refl _) (by omega)
    rw [show N + (c + 1) = (N + c) + 1 by omega, m_scalarOf_L11, gd_pos (by omega), if_neg (by omega), gd_pos (by constructor <;> omega), Int.toNat_natCast, if_neg (by omega), bind_some', show (q : Int) + 1 = ((q + 1 : Nat) : Int) by omega]
    exact scl_skip he c N (q + 1) (by omega) (fun x h2 h3 => h x (by omega) h3)
theorem scl_L57 (h : RF I n K τ M E V F O R N) {t s e : Nat} {i : Int} (ht : t ≤ K) (he : e < slen 23) (hl : (tkn I n t).2.2 - (tkn I n t).2.1 = e - s) (hs : s ≤ e) : ∀ (c N1 q : Nat), q + c = e → s ≤ q → c + 1 < N1 → (∀ x, s + x < q → I ((tkn I n t).2.1 + x) = sch 23 (s + x)) → m_scalarOf_L57 (t : Int) (s : Int) i (e : Int) τ N1 1 (q : Int) = some (if ∀ x, x < e - s → I ((tkn I n t).2.1 + x) = sch 23 (s + x) then 1 else 0)
  | c, 0, q, _, _, h, _ => by omega
  | 0, N1 + 1, q, hq, _, _, hp => by
    have l := sl23
    rw [m_scalarOf_L57, gd_pos (by omega), gd_pos (by exact fun _ => by omega), gd_pos (by exact fun _ => by omega), if_pos (Or.inr (by omega)), if_pos (fun x hx => hp x (by omega))]
  | c + 1, N1 + 1, q, hq, hsq, hN, hp => by
    have l := sl23
    have hK := h.1.1
    have hn := h.2.1.2.1
    have bd := tkn_bd I n t
    obtain ⟨-, b2, b3⟩ := h.2.2.1 t ht
    have e8 : tA τ 8 ((tkn I n t).2.1 + (q - s)) = (I ((tkn I n t).2.1 + (q - s)) : Int) := h.2.1.2.2.1 _ (by omega)
    have i8 := h.2.1.2.2.2 ((tkn I n t).2.1 + (q - s))
    have ex : ((((tkn I n t).2.1 : Int) + (q : Int)) - (s : Int)).toNat = (tkn I n t).2.1 + (q - s) := by omega
    rw [m_scalarOf_L57, gd_pos (by omega), gd_pos (by exact fun _ => by omega), gd_pos (by exact fun _ => by omega), if_neg (by omega), gd_pos (by constructor <;> omega), gd_pos (by constructor <;> omega), Int.toNat_natCast, b2, gd_pos (by constructor <;> omega), ex, e8, gd_pos (by omega), Int.toNat_natCast, show (q : Int) + 1 = ((q + 1 : Nat) : Int) by omega]
    by_cases c1 : I ((tkn I n t).2.1 + (q - s)) = sch 23 q
    · rw [if_pos (by omega), bind_some']
      exact scl_L57 h ht he hl hs c N1 (q + 1) (by omega) (by omega) (by omega) (fun x hx => by
        by_cases ee : s + x = q
        · rw [ee, ← c1, show q - s = x by omega]
        · exact hp x (by omega))
    · obtain ⟨N1, rfl⟩ : ∃ N', N1 = N' + 1 := ⟨N1 - 1, by omega⟩
      rw [if_neg (by omega), bind_some', m_scalarOf_L57, gd_pos (by omega), gd_pos (by exact fun _ => by omega), gd_pos (by exact fun _ => by omega), if_pos (Or.inl rfl), if_neg (fun w => c1 (by
        have := w (q - s) (by omega)
        rw [this, show s + (q - s) = q by omega]))]
theorem scl_word (h : RF I n K τ M E V F O R N) {t s e u : Nat} {i : Nat} (ht : t ≤ K) (he : e < slen 23) (hs : s ≤ e) (hi : i < 100) (h1 : slen u = e - s) (h2 : ∀ x, x < e - s → sch u x = sch 23 (s + x)) (h3 : sch 23 e = 32) (h4 : ∀ x, s ≤ x → x < e → sch 23 x ≠ 32) (N1 : Nat) : m_scalarOf_L11 (t : Int) τ ((N1 + 1) + (e - s)) (s : Int) (i : Int) (s : Int) = if wis (tx I n t) u then some (i : Int) else m_scalarOf_L11 (t : Int) τ N1 ((e + 1 : Nat) : Int) ((i + 1 : Nat) : Int) ((e + 1 : Nat) : Int) := by
  have l := sl23
  have hK := h.1.1
  have hn := h.2.1.2.1
  have bd := tkn_bd I n t
  obtain ⟨-, b2, b3⟩ := h.2.2.1 t ht
  have el : (tx I n t).length = (tkn I n t).2.2 - (tkn I n t).2.1 := by unfold tx tkX; rw [cut_len]
  rw [scl_skip he (e - s) (N1 + 1) s (by omega) h4, m_scalarOf_L11, gd_pos (by omega), if_neg (by omega), gd_pos (by constructor <;> omega), Int.toNat_natCast, h3, if_pos (show ((32 : Nat) : Int) = 32 from rfl), gd_pos (by constructor <;> omega), Int.toNat_natCast, b3, gd_pos (by omega), gd_pos (by omega)]
  by_cases c : (tkn I n t).2.2 - (tkn I n t).2.1 = e - s
  · have wi : wis (tx I n t) u ↔ ∀ x, x < e - s → I ((tkn I n t).2.1 + x) = sch 23 (s + x) := by
      constructor
      · intro w x hx
        have := w.2 x (by omega)
        unfold tx tkX at this
        rw [cut_at h.2.1.2.2.2 (by omega)] at this
        rw [this, h2 x hx]
      · intro w
        refine ⟨by omega, fun x hx => ?_⟩
        unfold tx tkX
        rw [cut_at h.2.1.2.2.2 (by omega), w x (by omega), h2 x (by omega)]
    rw [if_pos (by omega), bind_some', scl_L57 h ht he c hs (e - s) FU s (by omega) (Nat.le_refl _) (FU_gt (by omega)) (fun x hx => by omega), bind_some']
    by_cases q : wis (tx I n t) u
    · rw [if_pos q, if_pos (wi.mp q), gd_pos (by omega), if_neg (by omega), bind_some']; rfl
    · rw [if_neg q, if_neg (fun w => q (wi.mpr w)), gd_pos (by omega), if_pos rfl, nm_eq, bind_some']
      show m_scalarOf_L11 (t : Int) τ N1 ((e : Int) + 1) ((i : Int) + 1) ((e : Int) + 1) = _
      rw [show (e : Int) + 1 = ((e + 1 : Nat) : Int) by omega, show (i : Int) + 1 = ((i + 1 : Nat) : Int) by omega]
  · have q : ¬ wis (tx I n t) u := fun w => by
      have := w.1
      omega
    rw [if_neg (by omega), bind_some', if_neg q, show FU = 999999 + 1 from rfl, m_scalarOf_L57, gd_pos (by omega), gd_pos (by exact fun w => absurd rfl w), gd_pos (by exact fun w => absurd rfl w), if_pos (Or.inl rfl), bind_some', gd_pos (by omega), if_pos rfl, nm_eq, bind_some']
    show m_scalarOf_L11 (t : Int) τ N1 ((e : Int) + 1) ((i : Int) + 1) ((e : Int) + 1) = _
    rw [show (e : Int) + 1 = ((e + 1 : Nat) : Int) by omega, show (i : Int) + 1 = ((i + 1 : Nat) : Int) by omega]
theorem scw0 : 5 < slen 23 ∧ slen 36 = 5 - 0 ∧ (∀ x, x < 5 - 0 → sch 36 x = sch 23 (0 + x)) ∧ sch 23 5 = 32 ∧ ∀ x, x < 5 → 0 ≤ x → sch 23 x ≠ 32 := by decide +kernel
theorem scw1 : 11 < slen 23 ∧ slen 37 = 11 - 6 ∧ (∀ x, x < 11 - 6 → sch 37 x = sch 23 (6 + x)) ∧ sch 23 11 = 32 ∧ ∀ x, x < 11 → 6 ≤ x → sch 23 x ≠ 32 := by decide +kernel
theorem scw2 : 18 < slen 23 ∧ slen 38 = 18 - 12 ∧ (∀ x, x < 18 - 12 → sch 38 x = sch 23 (12 + x)) ∧ sch 23 18 = 32 ∧ ∀ x, x < 18 → 12 ≤ x → sch 23 x ≠ 32 := by decide +kernel
theorem scw3 : 25 < slen 23 ∧ slen 39 = 25 - 19 ∧ (∀ x, x < 25 - 19 → sch 39 x = sch 23 (19 + x)) ∧ sch 23 25 = 32 ∧ ∀ x, x < 25 → 19 ≤ x → sch 23 x ≠ 32 := by decide +kernel
theorem scw4 : 32 < slen 23 ∧ slen 40 = 32 - 26 ∧ (∀ x, x < 32 - 26 → sch 40 x = sch 23 (26 + x)) ∧ sch 23 32 = 32 ∧ ∀ x, x < 32 → 26 ≤ x → sch 23 x ≠ 32 := by decide +kernel
theorem scw5 : 39 < slen 23 ∧ slen 41 = 39 - 33 ∧ (∀ x, x < 39 - 33 → sch 41 x = sch 23 (33 + x)) ∧ sch 23 39 = 32 ∧ ∀ x, x < 39 → 33 ≤ x → sch 23 x ≠ 32 := by decide +kernel
theorem scw6 : 47 < slen 23 ∧ slen 42 = 47 - 40 ∧ (∀ x, x < 47 - 40 → sch 42 x = sch 23 (40 + x)) ∧ sch 23 47 = 32 ∧ ∀ x, x < 47 → 40 ≤ x → sch 23 x ≠ 32 := by decide +kernel
theorem scw7 : 55 < slen 23 ∧ slen 43 = 55 - 48 ∧ (∀ x, x < 55 - 48 → sch 43 x = sch 23 (48 + x)) ∧ sch 23 55 = 32 ∧ ∀ x, x < 55 → 48 ≤ x → sch 23 x ≠ 32 := by decide +kernel
theorem scw8 : 60 < slen 23 ∧ slen 44 = 60 - 56 ∧ (∀ x, x < 60 - 56 → sch 44 x = sch 23 (56 + x)) ∧ sch 23 60 = 32 ∧ ∀ x, x < 60 → 56 ≤ x → sch 23 x ≠ 32 := by decide +kernel
theorem scw9 : 67 < slen 23 ∧ slen 45 = 67 - 61 ∧ (∀ x, x < 67 - 61 → sch 45 x = sch 23 (61 + x)) ∧ sch 23 67 = 32 ∧ ∀ x, x < 67 → 61 ≤ x → sch 23 x ≠ 32 := by decide +kernel
theorem scw10 : 73 < slen 23 ∧ slen 46 = 73 - 68 ∧ (∀ x, x < 73 - 68 → sch 46 x = sch 23 (68 + x)) ∧ sch 23 73 = 32 ∧ ∀ x, x < 73 → 68 ≤ x → sch 23 x ≠ 32 := by decide +kernel
theorem m_scalar_eq (h : RF I n K τ M E V F O R N) {t : Nat} (ht : t ≤ K) : m_scalarOf (t : Int) τ = some (scK (tx I n t)) := by
  unfold m_scalarOf
  have w0 := scl_word h (s := 0) (e := 5) (u := 36) (i := 0) ht scw0.1 (by decide) (by decide) scw0.2.1 scw0.2.2.1 scw0.2.2.2.1 (fun x h1 h2 => scw0.2.2.2.2 x h2 h1) 999994
  have w0 : m_scalarOf_L11 (t : Int) τ FU 0 0 0 = if wis (tx I n t) 36 then some 0 else m_scalarOf_L11 (t : Int) τ 999994 6 1 6 := w0
  have w1 := scl_word h (s := 6) (e := 11) (u := 37) (i := 1) ht scw1.1 (by decide) (by decide) scw1.2.1 scw1.2.2.1 scw1.2.2.2.1 (fun x h1 h2 => scw1.2.2.2.2 x h2 h1) 999988
  have w1 : m_scalarOf_L11 (t : Int) τ 999994 6 1 6 = if wis (tx I n t) 37 then some 1 else m_scalarOf_L11 (t : Int) τ 999988 12 2 12 := w1
  have w2 := scl_word h (s := 12) (e := 18) (u := 38) (i := 2) ht scw2.1 (by decide) (by decide) scw2.2.1 scw2.2.2.1 scw2.2.2.2.1 (fun x h1 h2 => scw2.2.2.2.2 x h2 h1) 999981
  have w2 : m_scalarOf_L11 (t : Int) τ 999988 12 2 12 = if wis (tx I n t) 38 then some 2 else m_scalarOf_L11 (t : Int) τ 999981 19 3 19 := w2
  have w3 := scl_word h (s := 19) (e := 25) (u := 39) (i := 3) ht scw3.1 (by decide) (by decide) scw3.2.1 scw3.2.2.1 scw3.2.2.2.1 (fun x h1 h2 => scw3.2.2.2.2 x h2 h1) 999974
  have w3 : m_scalarOf_L11 (t : Int) τ 999981 19 3 19 = if wis (tx I n t) 39 then some 3 else m_scalarOf_L11 (t : Int) τ 999974 26 4 26 := w3
  have w4 := scl_word h (s := 26) (e := 32) (u := 40) (i := 4) ht scw4.1 (by decide) (by decide) scw4.2.1 scw4.2.2.1 scw4.2.2.2.1 (fun x h1 h2 => scw4.2.2.2.2 x h2 h1) 999967
  have w4 : m_scalarOf_L11 (t : Int) τ 999974 26 4 26 = if wis (tx I n t) 40 then some 4 else m_scalarOf_L11 (t : Int) τ 999967 33 5 33 := w4
  have w5 := scl_word h (s := 33) (e := 39) (u := 41) (i := 5) ht scw5.1 (by decide) (by decide) scw5.2.1 scw5.2.2.1 scw5.2.2.2.1 (fun x h1 h2 => scw5.2.2.2.2 x h2 h1) 999960
  have w5 : m_scalarOf_L11 (t : Int) τ 999967 33 5 33 = if wis (tx I n t) 41 then some 5 else m_scalarOf_L11 (t : Int) τ 999960 40 6 40 := w5
  have w6 := scl_word h (s := 40) (e := 47) (u := 42) (i := 6) ht scw6.1 (by decide) (by decide) scw6.2.1 scw6.2.2.1 scw6.2.2.2.1 (fun x h1 h2 => scw6.2.2.2.2 x h2 h1) 999952
  have w6 : m_scalarOf_L11 (t : Int) τ 999960 40 6 40 = if wis (tx I n t) 42 then some 6 else m_scalarOf_L11 (t : Int) τ 999952 48 7 48 := w6
  have w7 := scl_word h (s := 48) (e := 55) (u := 43) (i := 7) ht scw7.1 (by decide) (by decide) scw7.2.1 scw7.2.2.1 scw7.2.2.2.1 (fun x h1 h2 => scw7.2.2.2.2 x h2 h1) 999944
  have w7 : m_scalarOf_L11 (t : Int) τ 999952 48 7 48 = if wis (tx I n t) 43 then some 7 else m_scalarOf_L11 (t : Int) τ 999944 56 8 56 := w7
  have w8 := scl_word h (s := 56) (e := 60) (u := 44) (i := 8) ht scw8.1 (by decide) (by decide) scw8.2.1 scw8.2.2.1 scw8.2.2.2.1 (fun x h1 h2 => scw8.2.2.2.2 x h2 h1) 999939
  have w8 : m_scalarOf_L11 (t : Int) τ 999944 56 8 56 = if wis (tx I n t) 44 then some 8 else m_scalarOf_L11 (t : Int) τ 999939 61 9 61 := w8
  have w9 := scl_word h (s := 61) (e := 67) (u := 45) (i := 9) ht scw9.1 (by decide) (by decide) scw9.2.1 scw9.2.2.1 scw9.2.2.2.1 (fun x h1 h2 => scw9.2.2.2.2 x h2 h1) 999932
  have w9 : m_scalarOf_L11 (t : Int) τ 999939 61 9 61 = if wis (tx I n t) 45 then some 9 else m_scalarOf_L11 (t : Int) τ 999932 68 10 68 := w9
  have w10 := scl_word h (s := 68) (e := 73) (u := 46) (i := 10) ht scw10.1 (by decide) (by decide) scw10.2.1 scw10.2.2.1 scw10.2.2.2.1 (fun x h1 h2 => scw10.2.2.2.2 x h2 h1) 999926
  have w10 : m_scalarOf_L11 (t : Int) τ 999932 68 10 68 = if wis (tx I n t) 46 then some 10 else m_scalarOf_L11 (t : Int) τ 999926 74 11 74 := w10
  have w11 : m_scalarOf_L11 (t : Int) τ 999926 74 11 74 = some (-1) := by
    rw [show (999926 : Nat) = 999925 + 1 from rfl, m_scalarOf_L11, sl23, gd_pos (by omega), if_pos (by decide)]
  by_cases h0 : wis (tx I n t) 36
  · rw [w0, if_pos h0, scK_0 h0]
  by_cases h1 : wis (tx I n t) 37
  · rw [w0, if_neg h0, w1, if_pos h1, scK_1 h1]
  by_cases h2 : wis (tx I n t) 38
  · rw [w0, if_neg h0, w1, if_neg h1, w2, if_pos h2, scK_2 h2]
  by_cases h3 : wis (tx I n t) 39
  · rw [w0, if_neg h0, w1, if_neg h1, w2, if_neg h2, w3, if_pos h3, scK_3 h3]
  by_cases h4 : wis (tx I n t) 40
  · rw [w0, if_neg h0, w1, if_neg h1, w2, if_neg h2, w3, if_neg h3, w4, if_pos h4, scK_4 h4]
  by_cases h5 : wis (tx I n t) 41
  · rw [w0, if_neg h0, w1, if_neg h1, w2, if_neg h2, w3, if_neg h3, w4, if_neg h4, w5, if_pos h5, scK_5 h5]
  by_cases h6 : wis (tx I n t) 42
  · rw [w0, if_neg h0, w1, if_neg h1, w2, if_neg h2, w3, if_neg h3, w4, if_neg h4, w5, if_neg h5, w6, if_pos h6, scK_6 h6]
  by_cases h7 : wis (tx I n t) 43
  · rw [w0, if_neg h0, w1, if_neg h1, w2, if_neg h2, w3, if_neg h3, w4, if_neg h4, w5, if_neg h5, w6, if_neg h6, w7, if_pos h7, scK_7 h7]
  by_cases h8 : wis (tx I n t) 44
  · rw [w0, if_neg h0, w1, if_neg h1, w2, if_neg h2, w3, if_neg h3, w4, if_neg h4, w5, if_neg h5, w6, if_neg h6, w7, if_neg h7, w8, if_pos h8, scK_8 h8]
  by_cases h9 : wis (tx I n t) 45
  · rw [w0, if_neg h0, w1, if_neg h1, w2, if_neg h2, w3, if_neg h3, w4, if_neg h4, w5, if_neg h5, w6, if_neg h6, w7, if_neg h7, w8, if_neg h8, w9, if_pos h9, scK_9 h9]
  by_cases h10 : wis (tx I n t) 46
  · rw [w0, if_neg h0, w1, if_neg h1, w2, if_neg h2, w3, if_neg h3, w4, if_neg h4, w5, if_neg h5, w6, if_neg h6, w7, if_neg h7, w8, if_neg h8, w9, if_neg h9, w10, if_pos h10, scK_10 h10]
  rw [w0, if_neg h0, w1, if_neg h1, w2, if_neg h2, w3, if_neg h3, w4, if_neg h4, w5, if_neg h5, w6, if_neg h6, w7, if_neg h7, w8, if_neg h8, w9, if_neg h9, w10, if_neg h10, w11, scK_n (fun u hu => by
    simp only [List.mem_cons, List.not_mem_nil, or_false] at hu
    rcases hu with e | e | e | e | e | e | e | e | e | e | e <;> subst e <;> assumption)]
end S8
