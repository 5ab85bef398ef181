set_option maxRecDepth 100000
/-! SCHEMAS, READ: reserved numbers, as the reference reads them; how its arrays grow -/
section Tf
variable {I : Nat → Nat} {n i K : Nat} {σ σ' : ST} {τ τ0 τ1 τ2 τ' : TT} {M : List TyM} {E : List TyE} {V : List TyV} {F : List TyF} {O : List TyO} {R : List TyR}
theorem m_res_eq (hD : KD I n K) (h : MRd τ I n K i) {u : Int} {N : Nat} {nc : Nat} (hF : tI τ 40 = (nc : Int)) (hf : nc ≤ 30) :
    ((tkn I n i).1 = 2 → nc < 30 → ∃ τ1, m_readReserved_L10 u (N + 1) τ = (Option.bind (m_takes 20 τ1) fun y28 => gd (rg y28.1) (if y28.1 = 0 then (some (Sum.inr y28.2)) else (m_readReserved_L10 u N y28.2))) ∧ MRd τ1 I n K (i + 1) ∧ UHd 40 33 34 nc (tkN I (tkn I n i)) u τ τ1) ∧
    ((tkn I n i).1 ≠ 2 ∨ nc = 30 → ∃ τ', m_readReserved_L10 u (N + 1) τ = some (Sum.inl τ') ∧ BAD τ τ') := by
  rw [m_readReserved_L10]
  by_cases q1 : (tkn I n i).1 = 2
  case neg =>
    refine ⟨fun q => absurd q q1, fun _ => ?_⟩
    obtain ⟨τ3, e3, b3⟩ := mKn h q1
    refine ⟨uI τ3 14 1, ?_, b3.u⟩
    rw [e3, bind_some']
    dsimp only
    rw [b3.1, gd_pos (by omega), gd_pos (by exact fun q => by cases q), if_neg (fun q => by cases q.1), bind_some', gd_pos (by decide), nm_eq, b3.u.1, gd_pos (by omega), if_neg (by omega)]
  obtain ⟨τ3, e3, h3, F3⟩ := mK hD h q1
  have f14 : tI τ3 14 = 0 := h3.2.2.2.2.2
  have fC : tI τ3 40 = (nc : Int) := by rw [(F3 40 (by decide)).1]; exact hF
  rw [e3, bind_some']
  dsimp only
  rw [f14, fC, gd_pos (by omega), gd_pos (by exact fun _ => by omega)]
  by_cases qf : nc = 30
  · refine ⟨fun _ hv => by omega, fun _ => ?_⟩
    have B : BAD τ (uI τ3 14 1) := BAD.i0 F3
    refine ⟨uI τ3 14 1, ?_, B⟩
    rw [if_neg (fun q => q.2 (by omega)), bind_some', gd_pos (by decide), nm_eq, B.1, gd_pos (by omega), if_neg (by omega)]
  · refine ⟨fun _ hf2 => ?_, fun q => ?_⟩
    · rw [if_pos ⟨rfl, by omega⟩, bind_some', gd_pos (by decide), nm_eq]
      obtain ⟨X, hX⟩ : ∃ X, X = uI τ3 14 0 := ⟨_, rfl⟩
      rw [← hX]
      have x14 : tI X 14 = 0 := by rw [hX, tI_uI, if_pos rfl]
      have xC : tI X 40 = (nc : Int) := by rw [hX, tI_uI, if_neg (by decide)]; exact fC
      have FX : TF [13, 14] τ X := by rw [hX]; exact F3.uI (by decide) _
      have hib : ib (nc : Int) 30 := by constructor <;> omega
      have h4 : MRd X I n K (i + 1) := by
        rw [hX]; exact ⟨h3.1, h3.2.1, h3.2.2.1, h3.2.2.2.1, by rw [tI_uI, if_neg (by decide)]; exact h3.2.2.2.2.1, by rw [tI_uI, if_pos rfl]⟩
      rw [x14, gd_pos (by omega), if_pos rfl]
      simp only [tI_uA, nm_eq, xC, gd_pos hib, Int.toNat_natCast]
      obtain ⟨X3, hX3⟩ : ∃ X3, X3 = uI (uA (uA X 33 nc (tkN I (tkn I n i) : Int)) 34 nc u) 40 ((nc : Int) + 1) := ⟨_, rfl⟩
      rw [← hX3]
      have T3 : TA [40] [33, 34] nc X X3 := by
        rw [hX3]
        refine ⟨fun k hk => ?_, fun k q hk hq => ?_, fun k hk => by rw [tJ_uI, tJ_uA, tJ_uA]⟩
        · rw [tI_uI, if_neg (by intro e; rw [e] at hk; exact hk (by decide)), tI_uA, tI_uA]
        · have ng : ∀ k0, k0 ∈ [33, 34] → ¬ (k = k0 ∧ q = nc) := fun k0 h0 e => by
            rcases hq with hq | hq
            · exact hq e.2
            · exact hq (by rw [e.1]; exact h0)
          rw [tA_uI, tA_uA, if_neg (ng _ (by decide)), tA_uA, if_neg (ng _ (by decide))]
      have h5 : MRd X3 I n K (i + 1) := h4.ta T3 (by decide) (by decide) (by decide) (by decide) (by decide) (by rw [T3.1 13 (by decide)]; exact h4.2.2.2.2.1) (by rw [T3.1 14 (by decide)]; exact x14)
      have T4 : TA [13, 14, 40] [33, 34] nc τ X3 := TA.tf FX ⟨fun k hk => T3.1 k (fun q => hk (by rw [List.mem_singleton.mp q]; decide)), T3.2.1, T3.2.2⟩ (by decide) (by decide)
      refine ⟨X3, rfl, h5, T4, ?_, ?_, ?_⟩
      · rw [hX3, tI_uI, if_pos rfl]; omega
      · rw [hX3, tA_uI, tA_uA, if_neg (by omega), tA_uA, if_pos ⟨rfl, rfl⟩]
      · rw [hX3, tA_uI, tA_uA, if_pos ⟨rfl, rfl⟩]
    · rcases q with q | q
      · exact absurd q1 q
      · exact absurd q qf
theorem gq_app {α : Type} {l : List α} {a m : α} {j : Nat} (h : (l ++ [a])[j]? = some m) : (j < l.length ∧ l[j]? = some m) ∨ (j = l.length ∧ m = a) := by
  by_cases c : j < l.length
  · rw [List.getElem?_append_left c] at h; exact Or.inl ⟨c, h⟩
  · have hl := (List.getElem?_eq_some_iff.mp h).1
    rw [List.length_append] at hl
    have hj : j = l.length := by simp at hl; omega
    subst hj
    rw [List.getElem?_append_right (Nat.le_refl _)] at h
    simp at h
    exact Or.inr ⟨rfl, h.symm⟩
theorem gq_lt {α : Type} {l : List α} {m : α} {j : Nat} (h : l[j]? = some m) : j < l.length := (List.getElem?_eq_some_iff.mp h).1
theorem gq_old {α : Type} {l k : List α} {m : α} {j : Nat} (h : l[j]? = some m) : (l ++ k)[j]? = some m := by rw [List.getElem?_append_left (gq_lt h)]; exact h
theorem gq_new {α : Type} (l : List α) (a : α) : (l ++ [a])[l.length]? = some a := by simp
theorem TPS.addM (h : TPS τ M E V F O R) {t : Nat} {p : Int} (u : UHd 35 15 16 M.length t p τ τ') (x s : Nat) : TPS τ' (M ++ [(x, s, t, p)]) E V F O R := by
  obtain ⟨⟨c1, c2, c3, c4, c5, c6⟩, hM, hE, hV, hF, hO, hR⟩ := h
  obtain ⟨⟨t1, t2, -⟩, u1, u2, u3⟩ := u
  refine ⟨⟨by rw [u1, List.length_append]; rfl, by rw [t1 36 (by decide)]; exact c2, by rw [t1 37 (by decide)]; exact c3, by rw [t1 38 (by decide)]; exact c4, by rw [t1 39 (by decide)]; exact c5, by rw [t1 40 (by decide)]; exact c6⟩, ?_, ?_, ?_, ?_, ?_, ?_⟩
  · intro j m hm
    rcases gq_app hm with ⟨hj, hm2⟩ | ⟨hj, hm2⟩
    · obtain ⟨a0, a1⟩ := hM j m hm2
      exact ⟨by rw [t2 15 j (by decide) (Or.inl (by omega))]; exact a0, by rw [t2 16 j (by decide) (Or.inl (by omega))]; exact a1⟩
    · subst hj hm2
      exact ⟨u2, u3⟩
  · intro j m hm
    obtain ⟨a0, a1⟩ := hE j m hm
    exact ⟨by rw [t2 17 j (by decide) (Or.inr (by decide))]; exact a0, by rw [t2 18 j (by decide) (Or.inr (by decide))]; exact a1⟩
  · intro j m hm
    obtain ⟨a0, a1, a2⟩ := hV j m hm
    exact ⟨by rw [t2 19 j (by decide) (Or.inr (by decide))]; exact a0, by rw [t2 20 j (by decide) (Or.inr (by decide))]; exact a1, by rw [t2 21 j (by decide) (Or.inr (by decide))]; exact a2⟩
  · intro j m hm
    obtain ⟨a0, a1, a2, a3, a4, a5, a6, a7⟩ := hF j m hm
    exact ⟨by rw [t2 25 j (by decide) (Or.inr (by decide))]; exact a0, by rw [t2 26 j (by decide) (Or.inr (by decide))]; exact a1, by rw [t2 22 j (by decide) (Or.inr (by decide))]; exact a2, by rw [t2 24 j (by decide) (Or.inr (by decide))]; exact a3, by rw [t2 23 j (by decide) (Or.inr (by decide))]; exact a4, by rw [t2 27 j (by decide) (Or.inr (by decide))]; exact a5, by rw [t2 29 j (by decide) (Or.inr (by decide))]; exact a6, by rw [t2 30 j (by decide) (Or.inr (by decide))]; exact a7⟩
  · intro j m hm
    obtain ⟨a0, a1⟩ := hO j m hm
    exact ⟨by rw [t2 31 j (by decide) (Or.inr (by decide))]; exact a0, by rw [t2 32 j (by decide) (Or.inr (by decide))]; exact a1⟩
  · intro j m hm
    obtain ⟨a0, a1⟩ := hR j m hm
    exact ⟨by rw [t2 33 j (by decide) (Or.inr (by decide))]; exact a0, by rw [t2 34 j (by decide) (Or.inr (by decide))]; exact a1⟩
theorem TPS.addE (h : TPS τ M E V F O R) {t : Nat} {p : Int} (u : UHd 36 17 18 E.length t p τ τ') (x : Nat) : TPS τ' M (E ++ [(x, t, p)]) V F O R := by
  obtain ⟨⟨c1, c2, c3, c4, c5, c6⟩, hM, hE, hV, hF, hO, hR⟩ := h
  obtain ⟨⟨t1, t2, -⟩, u1, u2, u3⟩ := u
  refine ⟨⟨by rw [t1 35 (by decide)]; exact c1, by rw [u1, List.length_append]; rfl, by rw [t1 37 (by decide)]; exact c3, by rw [t1 38 (by decide)]; exact c4, by rw [t1 39 (by decide)]; exact c5, by rw [t1 40 (by decide)]; exact c6⟩, ?_, ?_, ?_, ?_, ?_, ?_⟩
  · intro j m hm
    obtain ⟨a0, a1⟩ := hM j m hm
    exact ⟨by rw [t2 15 j (by decide) (Or.inr (by decide))]; exact a0, by rw [t2 16 j (by decide) (Or.inr (by decide))]; exact a1⟩
  · intro j m hm
    rcases gq_app hm with ⟨hj, hm2⟩ | ⟨hj, hm2⟩
    · obtain ⟨a0, a1⟩ := hE j m hm2
      exact ⟨by rw [t2 17 j (by decide) (Or.inl (by omega))]; exact a0, by rw [t2 18 j (by decide) (Or.inl (by omega))]; exact a1⟩
    · subst hj hm2
      exact ⟨u2, u3⟩
  · intro j m hm
    obtain ⟨a0, a1, a2⟩ := hV j m hm
    exact ⟨by rw [t2 19 j (by decide) (Or.inr (by decide))]; exact a0, by rw [t2 20 j (by decide) (Or.inr (by decide))]; exact a1, by rw [t2 21 j (by decide) (Or.inr (by decide))]; exact a2⟩
  · intro j m hm
    obtain ⟨a0, a1, a2, a3, a4, a5, a6, a7⟩ := hF j m hm
    exact ⟨by rw [t2 25 j (by decide) (Or.inr (by decide))]; exact a0, by rw [t2 26 j (by decide) (Or.inr (by decide))]; exact a1, by rw [t2 22 j (by decide) (Or.inr (by decide))]; exact a2, by rw [t2 24 j (by decide) (Or.inr (by decide))]; exact a3, by rw [t2 23 j (by decide) (Or.inr (by decide))]; exact a4, by rw [t2 27 j (by decide) (Or.inr (by decide))]; exact a5, by rw [t2 29 j (by decide) (Or.inr (by decide))]; exact a6, by rw [t2 30 j (by decide) (Or.inr (by decide))]; exact a7⟩
  · intro j m hm
    obtain ⟨a0, a1⟩ := hO j m hm
    exact ⟨by rw [t2 31 j (by decide) (Or.inr (by decide))]; exact a0, by rw [t2 32 j (by decide) (Or.inr (by decide))]; exact a1⟩
  · intro j m hm
    obtain ⟨a0, a1⟩ := hR j m hm
    exact ⟨by rw [t2 33 j (by decide) (Or.inr (by decide))]; exact a0, by rw [t2 34 j (by decide) (Or.inr (by decide))]; exact a1⟩
theorem TPS.addV (h : TPS τ M E V F O R) {e t num : Nat} (u : UVl e t V.length num τ τ') (x : Nat) : TPS τ' M E (V ++ [(x, t, num, e)]) F O R := by
  obtain ⟨⟨c1, c2, c3, c4, c5, c6⟩, hM, hE, hV, hF, hO, hR⟩ := h
  obtain ⟨⟨t1, t2, -⟩, u1, u2, u3, u4⟩ := u
  refine ⟨⟨by rw [t1 35 (by decide)]; exact c1, by rw [t1 36 (by decide)]; exact c2, by rw [u1, List.length_append]; rfl, by rw [t1 38 (by decide)]; exact c4, by rw [t1 39 (by decide)]; exact c5, by rw [t1 40 (by decide)]; exact c6⟩, ?_, ?_, ?_, ?_, ?_, ?_⟩
  · intro j m hm
    obtain ⟨a0, a1⟩ := hM j m hm
    exact ⟨by rw [t2 15 j (by decide) (Or.inr (by decide))]; exact a0, by rw [t2 16 j (by decide) (Or.inr (by decide))]; exact a1⟩
  · intro j m hm
    obtain ⟨a0, a1⟩ := hE j m hm
    exact ⟨by rw [t2 17 j (by decide) (Or.inr (by decide))]; exact a0, by rw [t2 18 j (by decide) (Or.inr (by decide))]; exact a1⟩
  · intro j m hm
    rcases gq_app hm with ⟨hj, hm2⟩ | ⟨hj, hm2⟩
    · obtain ⟨a0, a1, a2⟩ := hV j m hm2
      exact ⟨by rw [t2 19 j (by decide) (Or.inl (by omega))]; exact a0, by rw [t2 20 j (by decide) (Or.inl (by omega))]; exact a1, by rw [t2 21 j (by decide) (Or.inl (by omega))]; exact a2⟩
    · subst hj hm2
      exact ⟨u2, u3, u4⟩
  · intro j m hm
    obtain ⟨a0, a1, a2, a3, a4, a5, a6, a7⟩ := hF j m hm
    exact ⟨by rw [t2 25 j (by decide) (Or.inr (by decide))]; exact a0, by rw [t2 26 j (by decide) (Or.inr (by decide))]; exact a1, by rw [t2 22 j (by decide) (Or.inr (by decide))]; exact a2, by rw [t2 24 j (by decide) (Or.inr (by decide))]; exact a3, by rw [t2 23 j (by decide) (Or.inr (by decide))]; exact a4, by rw [t2 27 j (by decide) (Or.inr (by decide))]; exact a5, by rw [t2 29 j (by decide) (Or.inr (by decide))]; exact a6, by rw [t2 30 j (by decide) (Or.inr (by decide))]; exact a7⟩
  · intro j m hm
    obtain ⟨a0, a1⟩ := hO j m hm
    exact ⟨by rw [t2 31 j (by decide) (Or.inr (by decide))]; exact a0, by rw [t2 32 j (by decide) (Or.inr (by decide))]; exact a1⟩
  · intro j m hm
    obtain ⟨a0, a1⟩ := hR j m hm
    exact ⟨by rw [t2 33 j (by decide) (Or.inr (by decide))]; exact a0, by rw [t2 34 j (by decide) (Or.inr (by decide))]; exact a1⟩
theorem TPS.addF (h : TPS τ M E V F O R) {ms t w num : Nat} {on re pr : Int} (u : UFd (ms : Int) on re pr t w F.length num τ τ') (x : Nat) : TPS τ' M E V (F ++ [(x, t, 1 + w, t + 1 + 2 * w, num, ms, on, re, pr)]) O R := by
  obtain ⟨⟨c1, c2, c3, c4, c5, c6⟩, hM, hE, hV, hF, hO, hR⟩ := h
  obtain ⟨⟨t1, t2, -⟩, u1, u2, u3, u4, u5, u6, u7, u8, u9⟩ := u
  refine ⟨⟨by rw [t1 35 (by decide)]; exact c1, by rw [t1 36 (by decide)]; exact c2, by rw [t1 37 (by decide)]; exact c3, by rw [u1, List.length_append]; rfl, by rw [t1 39 (by decide)]; exact c5, by rw [t1 40 (by decide)]; exact c6⟩, ?_, ?_, ?_, ?_, ?_, ?_⟩
  · intro j m hm
    obtain ⟨a0, a1⟩ := hM j m hm
    exact ⟨by rw [t2 15 j (by decide) (Or.inr (by decide))]; exact a0, by rw [t2 16 j (by decide) (Or.inr (by decide))]; exact a1⟩
  · intro j m hm
    obtain ⟨a0, a1⟩ := hE j m hm
    exact ⟨by rw [t2 17 j (by decide) (Or.inr (by decide))]; exact a0, by rw [t2 18 j (by decide) (Or.inr (by decide))]; exact a1⟩
  · intro j m hm
    obtain ⟨a0, a1, a2⟩ := hV j m hm
    exact ⟨by rw [t2 19 j (by decide) (Or.inr (by decide))]; exact a0, by rw [t2 20 j (by decide) (Or.inr (by decide))]; exact a1, by rw [t2 21 j (by decide) (Or.inr (by decide))]; exact a2⟩
  · intro j m hm
    rcases gq_app hm with ⟨hj, hm2⟩ | ⟨hj, hm2⟩
    · obtain ⟨a0, a1, a2, a3, a4, a5, a6, a7⟩ := hF j m hm2
      exact ⟨by rw [t2 25 j (by decide) (Or.inl (by omega))]; exact a0, by rw [t2 26 j (by decide) (Or.inl (by omega))]; exact a1, by rw [t2 22 j (by decide) (Or.inl (by omega))]; exact a2, by rw [t2 24 j (by decide) (Or.inl (by omega))]; exact a3, by rw [t2 23 j (by decide) (Or.inl (by omega))]; exact a4, by rw [t2 27 j (by decide) (Or.inl (by omega))]; exact a5, by rw [t2 29 j (by decide) (Or.inl (by omega))]; exact a6, by rw [t2 30 j (by decide) (Or.inl (by omega))]; exact a7⟩
    · subst hj hm2
      exact ⟨u2, u3, u4, u5, u6, u7, u8, u9⟩
  · intro j m hm
    obtain ⟨a0, a1⟩ := hO j m hm
    exact ⟨by rw [t2 31 j (by decide) (Or.inr (by decide))]; exact a0, by rw [t2 32 j (by decide) (Or.inr (by decide))]; exact a1⟩
  · intro j m hm
    obtain ⟨a0, a1⟩ := hR j m hm
    exact ⟨by rw [t2 33 j (by decide) (Or.inr (by decide))]; exact a0, by rw [t2 34 j (by decide) (Or.inr (by decide))]; exact a1⟩
theorem TPS.addO (h : TPS τ M E V F O R) {t ms : Nat} (u : UHd 39 31 32 O.length t (ms : Int) τ τ') (x : Nat) : TPS τ' M E V F (O ++ [(x, t, ms)]) R := by
  obtain ⟨⟨c1, c2, c3, c4, c5, c6⟩, hM, hE, hV, hF, hO, hR⟩ := h
  obtain ⟨⟨t1, t2, -⟩, u1, u2, u3⟩ := u
  refine ⟨⟨by rw [t1 35 (by decide)]; exact c1, by rw [t1 36 (by decide)]; exact c2, by rw [t1 37 (by decide)]; exact c3, by rw [t1 38 (by decide)]; exact c4, by rw [u1, List.length_append]; rfl, by rw [t1 40 (by decide)]; exact c6⟩, ?_, ?_, ?_, ?_, ?_, ?_⟩
  · intro j m hm
    obtain ⟨a0, a1⟩ := hM j m hm
    exact ⟨by rw [t2 15 j (by decide) (Or.inr (by decide))]; exact a0, by rw [t2 16 j (by decide) (Or.inr (by decide))]; exact a1⟩
  · intro j m hm
    obtain ⟨a0, a1⟩ := hE j m hm
    exact ⟨by rw [t2 17 j (by decide) (Or.inr (by decide))]; exact a0, by rw [t2 18 j (by decide) (Or.inr (by decide))]; exact a1⟩
  · intro j m hm
    obtain ⟨a0, a1, a2⟩ := hV j m hm
    exact ⟨by rw [t2 19 j (by decide) (Or.inr (by decide))]; exact a0, by rw [t2 20 j (by decide) (Or.inr (by decide))]; exact a1, by rw [t2 21 j (by decide) (Or.inr (by decide))]; exact a2⟩
  · intro j m hm
    obtain ⟨a0, a1, a2, a3, a4, a5, a6, a7⟩ := hF j m hm
    exact ⟨by rw [t2 25 j (by decide) (Or.inr (by decide))]; exact a0, by rw [t2 26 j (by decide) (Or.inr (by decide))]; exact a1, by rw [t2 22 j (by decide) (Or.inr (by decide))]; exact a2, by rw [t2 24 j (by decide) (Or.inr (by decide))]; exact a3, by rw [t2 23 j (by decide) (Or.inr (by decide))]; exact a4, by rw [t2 27 j (by decide) (Or.inr (by decide))]; exact a5, by rw [t2 29 j (by decide) (Or.inr (by decide))]; exact a6, by rw [t2 30 j (by decide) (Or.inr (by decide))]; exact a7⟩
  · intro j m hm
    rcases gq_app hm with ⟨hj, hm2⟩ | ⟨hj, hm2⟩
    · obtain ⟨a0, a1⟩ := hO j m hm2
      exact ⟨by rw [t2 31 j (by decide) (Or.inl (by omega))]; exact a0, by rw [t2 32 j (by decide) (Or.inl (by omega))]; exact a1⟩
    · subst hj hm2
      exact ⟨u2, u3⟩
  · intro j m hm
    obtain ⟨a0, a1⟩ := hR j m hm
    exact ⟨by rw [t2 33 j (by decide) (Or.inr (by decide))]; exact a0, by rw [t2 34 j (by decide) (Or.inr (by decide))]; exact a1⟩
theorem TPS.addR (h : TPS τ M E V F O R) {num ms : Nat} (u : UHd 40 33 34 R.length num (ms : Int) τ τ') : TPS τ' M E V F O (R ++ [(num, ms)]) := by
  obtain ⟨⟨c1, c2, c3, c4, c5, c6⟩, hM, hE, hV, hF, hO, hR⟩ := h
  obtain ⟨⟨t1, t2, -⟩, u1, u2, u3⟩ := u
  refine ⟨⟨by rw [t1 35 (by decide)]; exact c1, by rw [t1 36 (by decide)]; exact c2, by rw [t1 37 (by decide)]; exact c3, by rw [t1 38 (by decide)]; exact c4, by rw [t1 39 (by decide)]; exact c5, by rw [u1, List.length_append]; rfl⟩, ?_, ?_, ?_, ?_, ?_, ?_⟩
  · intro j m hm
    obtain ⟨a0, a1⟩ := hM j m hm
    exact ⟨by rw [t2 15 j (by decide) (Or.inr (by decide))]; exact a0, by rw [t2 16 j (by decide) (Or.inr (by decide))]; exact a1⟩
  · intro j m hm
    obtain ⟨a0, a1⟩ := hE j m hm
    exact ⟨by rw [t2 17 j (by decide) (Or.inr (by decide))]; exact a0, by rw [t2 18 j (by decide) (Or.inr (by decide))]; exact a1⟩
  · intro j m hm
    obtain ⟨a0, a1, a2⟩ := hV j m hm
    exact ⟨by rw [t2 19 j (by decide) (Or.inr (by decide))]; exact a0, by rw [t2 20 j (by decide) (Or.inr (by decide))]; exact a1, by rw [t2 21 j (by decide) (Or.inr (by decide))]; exact a2⟩
  · intro j m hm
    obtain ⟨a0, a1, a2, a3, a4, a5, a6, a7⟩ := hF j m hm
    exact ⟨by rw [t2 25 j (by decide) (Or.inr (by decide))]; exact a0, by rw [t2 26 j (by decide) (Or.inr (by decide))]; exact a1, by rw [t2 22 j (by decide) (Or.inr (by decide))]; exact a2, by rw [t2 24 j (by decide) (Or.inr (by decide))]; exact a3, by rw [t2 23 j (by decide) (Or.inr (by decide))]; exact a4, by rw [t2 27 j (by decide) (Or.inr (by decide))]; exact a5, by rw [t2 29 j (by decide) (Or.inr (by decide))]; exact a6, by rw [t2 30 j (by decide) (Or.inr (by decide))]; exact a7⟩
  · intro j m hm
    obtain ⟨a0, a1⟩ := hO j m hm
    exact ⟨by rw [t2 31 j (by decide) (Or.inr (by decide))]; exact a0, by rw [t2 32 j (by decide) (Or.inr (by decide))]; exact a1⟩
  · intro j m hm
    rcases gq_app hm with ⟨hj, hm2⟩ | ⟨hj, hm2⟩
    · obtain ⟨a0, a1⟩ := hR j m hm2
      exact ⟨by rw [t2 33 j (by decide) (Or.inl (by omega))]; exact a0, by rw [t2 34 j (by decide) (Or.inl (by omega))]; exact a1⟩
    · subst hj hm2
      exact ⟨u2, u3⟩
end Tf
