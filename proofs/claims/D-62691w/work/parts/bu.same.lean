set_option maxRecDepth 100000
/-! SCHEMAS, CHECKED: names that are the same -/
section Su
variable {I : Nat → Nat} {n : Nat} {τ : TT} {σ : ST}
/-- the text of token t -/
def tx (I : Nat → Nat) (n t : Nat) : List UInt8 := tkX I (tkn I n t)
theorem cut_eq (hI : ∀ k, I k < 256) {s1 e1 s2 e2 : Nat} : cut I s1 e1 = cut I s2 e2 ↔ (e1 - s1 = e2 - s2 ∧ ∀ j, j < e1 - s1 → I (s1 + j) = I (s2 + j)) := by
  unfold cut
  constructor
  · intro h
    have hl := congrArg List.length h
    simp only [List.length_map, List.length_range] at hl
    refine ⟨hl, fun j hj => ?_⟩
    have h2 : ((List.range (e1 - s1)).map (fun j => UInt8.ofNat (I (s1 + j))))[j]? = ((List.range (e2 - s2)).map (fun j => UInt8.ofNat (I (s2 + j))))[j]? := by rw [h]
    rw [List.getElem?_map, List.getElem?_map, List.getElem?_range hj, List.getElem?_range (by omega)] at h2
    have h3 := congrArg UInt8.toNat (Option.some.inj h2)
    have i1 := hI (s1 + j)
    have i2 := hI (s2 + j)
    rw [UInt8.toNat_ofNat', UInt8.toNat_ofNat', Nat.mod_eq_of_lt i1, Nat.mod_eq_of_lt i2] at h3
    exact h3
  · intro ⟨h1, h2⟩
    rw [← h1]
    exact List.map_congr_left (fun j hj => by rw [h2 j (List.mem_range.mp hj)])
theorem m_same_L (h8 : T8 τ I n) {t1 t2 : Nat} (h1 : TTk I n τ t1) (h2 : TTk I n τ t2) (l1 : t1 ≤ 1000) (l2 : t2 ≤ 1000) (hl : (tkn I n t1).2.2 - (tkn I n t1).2.1 = (tkn I n t2).2.2 - (tkn I n t2).2.1) : ∀ (c N j : Nat), j + c = (tkn I n t1).2.2 - (tkn I n t1).2.1 → c + 1 < N → (∀ x, x < j → I ((tkn I n t1).2.1 + x) = I ((tkn I n t2).2.1 + x)) → m_same_L24 (t1 : Int) (t2 : Int) τ N 1 (j : Int) = some (if (∀ x, x < (tkn I n t1).2.2 - (tkn I n t1).2.1 → I ((tkn I n t1).2.1 + x) = I ((tkn I n t2).2.1 + x)) then 1 else 0)
  | c, 0, j, _, h, _ => by omega
  | 0, N + 1, j, hj, _, hp => by
    have b1 := tkn_bd I n t1
    have hn := h8.2.1
    rw [m_same_L24, gd_pos (by omega), gd_pos (by exact fun _ => by constructor <;> omega), gd_pos (by exact fun _ => by omega), Int.toNat_natCast, h1.2.2, gd_pos (by exact fun _ => by omega), if_pos (Or.inr (by omega)), gd_pos (by decide), if_pos (fun x hx => hp x (by omega))]
  | c + 1, N + 1, j, hj, hN, hp => by
    have b1 := tkn_bd I n t1
    have b2 := tkn_bd I n t2
    have hn := h8.2.1
    have i1 := h8.2.2.2 ((tkn I n t1).2.1 + j)
    have i2 := h8.2.2.2 ((tkn I n t2).2.1 + j)
    have e1 : tA τ 8 ((tkn I n t1).2.1 + j) = (I ((tkn I n t1).2.1 + j) : Int) := h8.2.2.1 _ (by omega)
    have e2 : tA τ 8 ((tkn I n t2).2.1 + j) = (I ((tkn I n t2).2.1 + j) : Int) := h8.2.2.1 _ (by omega)
    have x1 : (((tkn I n t1).2.1 : Int) + (j : Int)).toNat = (tkn I n t1).2.1 + j := by omega
    have x2 : (((tkn I n t2).2.1 : Int) + (j : Int)).toNat = (tkn I n t2).2.1 + j := by omega
    rw [m_same_L24, gd_pos (by omega), gd_pos (by exact fun _ => by constructor <;> omega), gd_pos (by exact fun _ => by omega), Int.toNat_natCast, h1.2.2, gd_pos (by exact fun _ => by omega), if_neg (by omega), gd_pos (by constructor <;> omega), h1.2.1, gd_pos (by constructor <;> omega), Int.toNat_natCast, gd_pos (by constructor <;> omega), h2.2.1, gd_pos (by constructor <;> omega), x1, x2, e1, e2, gd_pos (by omega), gd_pos (by omega), show (j : Int) + 1 = ((j + 1 : Nat) : Int) by omega]
    by_cases c1 : I ((tkn I n t1).2.1 + j) = I ((tkn I n t2).2.1 + j)
    · rw [if_pos (show ((I ((tkn I n t1).2.1 + j) : Nat) : Int) = ((I ((tkn I n t2).2.1 + j) : Nat) : Int) by rw [c1]), bind_some']
      exact m_same_L h8 h1 h2 l1 l2 hl c N (j + 1) (by omega) (by omega) (fun x hx => by
        by_cases e : x = j
        · rw [e]; exact c1
        · exact hp x (by omega))
    · obtain ⟨N, rfl⟩ : ∃ N', N = N' + 1 := ⟨N - 1, by omega⟩
      rw [if_neg (show ¬ ((I ((tkn I n t1).2.1 + j) : Nat) : Int) = ((I ((tkn I n t2).2.1 + j) : Nat) : Int) by omega), bind_some', m_same_L24, gd_pos (by omega), gd_pos (by exact fun q => absurd rfl q), gd_pos (by exact fun q => absurd rfl q), gd_pos (by exact fun q => absurd rfl q), if_pos (Or.inl rfl), gd_pos (by decide), if_neg (fun q => c1 (q j (by omega)))]
theorem m_same_eq (h8 : T8 τ I n) {t1 t2 : Nat} (h1 : TTk I n τ t1) (h2 : TTk I n τ t2) (l1 : t1 ≤ 1000) (l2 : t2 ≤ 1000) {x1 x2 : Int} (hx1 : x1 = (t1 : Int)) (hx2 : x2 = (t2 : Int)) : m_same x1 x2 τ = some (if tx I n t1 = tx I n t2 then 1 else 0) := by
  subst hx1 hx2
  have b1 := tkn_bd I n t1
  have b2 := tkn_bd I n t2
  have hn := h8.2.1
  have ce := cut_eq h8.2.2.2 (s1 := (tkn I n t1).2.1) (e1 := (tkn I n t1).2.2) (s2 := (tkn I n t2).2.1) (e2 := (tkn I n t2).2.2)
  unfold m_same
  rw [gd_pos (by constructor <;> omega), gd_pos (by constructor <;> omega), Int.toNat_natCast, Int.toNat_natCast, h1.2.2, h2.2.2, gd_pos (by omega), gd_pos (by omega)]
  by_cases c : (tkn I n t1).2.2 - (tkn I n t1).2.1 = (tkn I n t2).2.2 - (tkn I n t2).2.1
  · rw [if_pos (by omega), bind_some']
    have h := m_same_L h8 h1 h2 l1 l2 c _ FU 0 (Nat.zero_add _) (FU_gt (by omega)) (fun x hx => by omega)
    have h' : m_same_L24 (t1 : Int) (t2 : Int) τ FU 1 0 = _ := h
    rw [h']
    by_cases q : ∀ x, x < (tkn I n t1).2.2 - (tkn I n t1).2.1 → I ((tkn I n t1).2.1 + x) = I ((tkn I n t2).2.1 + x)
    · rw [if_pos q, if_pos (show tx I n t1 = tx I n t2 from ce.mpr ⟨c, q⟩)]
    · rw [if_neg q, if_neg (show ¬ tx I n t1 = tx I n t2 from fun w => q (ce.mp w).2)]
  · rw [if_neg (by omega), bind_some', show FU = 999999 + 1 from rfl, m_same_L24, gd_pos (by omega), gd_pos (by exact fun q => absurd rfl q), gd_pos (by exact fun q => absurd rfl q), gd_pos (by exact fun q => absurd rfl q), if_pos (Or.inl rfl), gd_pos (by decide), if_neg (show ¬ tx I n t1 = tx I n t2 from fun w => c (ce.mp w).1)]
/-! the system: a list of rows has one twice -/
theorem l_gt {l : Nat} {i : Nat} (h : sc σ l = 16) (hi : i < (sA σ l).length) {x : Int} (hx : x = (i : Int)) : l_get l x σ = some (some ((sA σ l).getD i 0)) := by
  subst hx
  unfold l_get
  rw [gd_pos ⟨h, by constructor <;> omega⟩, Int.toNat_natCast]
theorem r_sm {a b : Nat} (ha : sc σ a = 4) (hb : sc σ b = 4) : r_same a (some b) σ = some (if sW σ a = sW σ b then (1 : Int) else 0) := by
  unfold r_same
  show gd _ _ = _
  rw [gd_pos ⟨ha, hb⟩]
/-- the texts of a list of rows -/
def rtx (σ : ST) (w : List Nat) : List (List UInt8) := w.map (fun r => sW σ r)
/-- a flag says P -/
def Fg (v : Int) (P : Prop) : Prop := (v = 0 ∧ ¬ P) ∨ (v = 1 ∧ P)
theorem Fg.cg {v : Int} {P Q : Prop} (h : Fg v P) (e : P ↔ Q) : Fg v Q := by
  rcases h with ⟨h1, h2⟩ | ⟨h1, h2⟩
  · exact Or.inl ⟨h1, fun q => h2 (e.mpr q)⟩
  · exact Or.inr ⟨h1, e.mp h2⟩
theorem Fg.rgv {v : Int} {P : Prop} (h : Fg v P) : rg v ∧ zb v := by
  rcases h with ⟨h1, -⟩ | ⟨h1, -⟩ <;> subst h1
  · exact ⟨by omega, by decide⟩
  · exact ⟨by omega, by decide⟩
theorem ex_st {A : Prop} {H : Nat → Prop} {j u : Nat} (h : j < u) : ((A ∨ H j) ∨ ∃ x, j + 1 ≤ x ∧ x < u ∧ H x) ↔ (A ∨ ∃ x, j ≤ x ∧ x < u ∧ H x) := by
  constructor
  · intro q
    rcases q with (q | q) | ⟨x, h1, h2, h3⟩
    · exact Or.inl q
    · exact Or.inr ⟨j, Nat.le_refl _, h, q⟩
    · exact Or.inr ⟨x, by omega, h2, h3⟩
  · intro q
    rcases q with q | ⟨x, h1, h2, h3⟩
    · exact Or.inl (Or.inl q)
    · by_cases e : x = j
      · rw [e] at h3; exact Or.inl (Or.inr h3)
      · exact Or.inr ⟨x, by omega, h2, h3⟩
theorem ex_no {A : Prop} {H : Nat → Prop} {j u : Nat} (h : u ≤ j) : (A ∨ ∃ x, j ≤ x ∧ x < u ∧ H x) ↔ A := by
  constructor
  · intro q
    rcases q with q | ⟨x, h1, h2, -⟩
    · exact q
    · omega
  · exact Or.inl
theorem ex_0 {H : Nat → Prop} {u : Nat} : (False ∨ ∃ x, 0 ≤ x ∧ x < u ∧ H x) ↔ ∃ x, x < u ∧ H x := by
  constructor
  · intro q
    rcases q with q | ⟨x, -, h2, h3⟩
    · cases q
    · exact ⟨x, h2, h3⟩
  · intro ⟨x, h2, h3⟩
    exact Or.inr ⟨x, Nat.zero_le _, h2, h3⟩
theorem mem_gd {w : List Nat} {x : Nat} (hx : x < w.length) : w.getD x 0 ∈ w := by
  rw [List.getD_eq_getElem?_getD, List.getElem?_eq_getElem hx]; exact List.getElem_mem hx
theorem twice_L14 {l u : Nat} {w : List Nat} (hl : sc σ l = 16) (hw : sA σ l = w) (hr : ∀ r, r ∈ w → sc σ r = 4) (hu : u < w.length) (h1000 : w.length ≤ 1000) : ∀ (c N j : Nat) (f : Int) (A : Prop), Fg f A → j + c = u → c < N → ∃ v, ck_isTwice_L14 (some l) (u : Int) σ N f (j : Int) = some v ∧ Fg v (A ∨ ∃ x, j ≤ x ∧ x < u ∧ sW σ (w.getD u 0) = sW σ (w.getD x 0))
  | c, 0, j, f, A, _, _, h => by omega
  | 0, N + 1, j, f, A, hf, hj, _ => ⟨f, by rw [ck_isTwice_L14, gd_pos (by omega), gd_pos (by omega), if_pos (by omega)], hf.cg (ex_no (by omega)).symm⟩
  | c + 1, N + 1, j, f, A, hf, hj, hN => by
    have g1 := l_gt hl (i := u) (by rw [hw]; exact hu) rfl
    have g2 := l_gt hl (i := j) (by rw [hw]; omega) rfl
    rw [hw] at g1 g2
    have k1 := hr _ (mem_gd hu)
    have k2 := hr _ (mem_gd (show j < w.length by omega))
    have rs := r_sm k1 k2
    have ih := fun f' A' hf' => twice_L14 hl hw hr hu h1000 c N (j + 1) f' A' hf' (by omega) (by omega)
    rw [ck_isTwice_L14, gd_pos (by omega), gd_pos (by omega), if_neg (by omega), show (j : Int) + 1 = ((j + 1 : Nat) : Int) by omega]
    have st := ex_st (A := A) (H := fun x => sW σ (w.getD u 0) = sW σ (w.getD x 0)) (show j < u by omega)
    rcases hf with ⟨e, hA⟩ | ⟨e, hA⟩
    · subst e
      rw [gd_pos (by omega), gd_pos (by exact fun _ h => by cases h), show ad (some l) = l from rfl, gd_pos (by exact fun _ => hl), g1, gd_pos (by exact fun _ => ok_some _), vo_s, gd_pos (by exact fun _ h => by cases h), show ad (some (w.getD u 0)) = w.getD u 0 from rfl, gd_pos (by exact fun _ => k1), g2, gd_pos (by exact fun _ => ok_some _), vo_s, gd_pos (by exact fun _ h => by cases h), show ad (some (w.getD j 0)) = w.getD j 0 from rfl, gd_pos (by exact fun _ => k2), rs, gd_pos (by exact fun _ => ok_some _), vv_s, gd_pos (by exact fun _ => by split <;> omega)]
      by_cases q : sW σ (w.getD u 0) = sW σ (w.getD j 0)
      · rw [if_pos q, if_neg (fun h => by cases h.2), bind_some']
        obtain ⟨v, v1, v2⟩ := ih 1 (A ∨ sW σ (w.getD u 0) = sW σ (w.getD j 0)) (Or.inr ⟨rfl, Or.inr q⟩)
        exact ⟨v, v1, v2.cg st⟩
      · rw [if_neg q, if_pos ⟨rfl, rfl⟩, bind_some']
        obtain ⟨v, v1, v2⟩ := ih 0 (A ∨ sW σ (w.getD u 0) = sW σ (w.getD j 0)) (Or.inl ⟨rfl, fun h => by
          rcases h with h | h
          · exact hA h
          · exact q h⟩)
        exact ⟨v, v1, v2.cg st⟩
    · subst e
      rw [gd_pos (by omega), gd_pos (by exact fun h => by cases h), gd_pos (by exact fun h => by cases h), gd_pos (by exact fun h => by cases h), gd_pos (by exact fun h => by cases h), gd_pos (by exact fun h => by cases h), gd_pos (by exact fun h => by cases h), gd_pos (by exact fun h => by cases h), gd_pos (by exact fun h => by cases h), gd_pos (by exact fun h => by cases h), gd_pos (by exact fun h => by cases h), if_neg (fun h => by cases h.1), bind_some']
      obtain ⟨v, v1, v2⟩ := ih 1 (A ∨ sW σ (w.getD u 0) = sW σ (w.getD j 0)) (Or.inr ⟨rfl, Or.inl hA⟩)
      exact ⟨v, v1, v2.cg st⟩
theorem twice_L4 {l : Nat} {w : List Nat} (hl : sc σ l = 16) (hw : sA σ l = w) (hr : ∀ r, r ∈ w → sc σ r = 4) (h1000 : w.length ≤ 1000) : ∀ (c N j : Nat) (f : Int) (A : Prop), Fg f A → j + c = w.length → c < N → ∃ v, ck_isTwice_L4 (some l) σ N f (j : Int) = some v ∧ Fg v (A ∨ ∃ u, j ≤ u ∧ u < w.length ∧ ∃ x, x < u ∧ sW σ (w.getD u 0) = sW σ (w.getD x 0))
  | c, 0, j, f, A, _, _, h => by omega
  | 0, N + 1, j, f, A, hf, hj, _ => ⟨f, by rw [ck_isTwice_L4, bind_some', gd_pos hl, l_sz hl, bind_some', hw, gd_pos (by omega), gd_pos (by omega), if_pos (by omega), gd_pos hf.rgv.2], hf.cg (ex_no (by omega)).symm⟩
  | c + 1, N + 1, j, f, A, hf, hj, hN => by
    obtain ⟨v, v1, v2⟩ := twice_L14 hl hw hr (u := j) (by omega) h1000 j FU 0 f A hf (by omega) (FU_gt (by omega))
    have v1' : ck_isTwice_L14 (some l) (j : Int) σ FU f 0 = some v := v1
    obtain ⟨v', w1, w2⟩ := twice_L4 hl hw hr h1000 c N (j + 1) v _ v2 (by omega) (by omega)
    refine ⟨v', by rw [ck_isTwice_L4, bind_some', gd_pos hl, l_sz hl, bind_some', hw, gd_pos (by omega), gd_pos (by omega), if_neg (by omega), v1', bind_some', show (j : Int) + 1 = ((j + 1 : Nat) : Int) by omega]; exact w1, w2.cg ?_⟩
    rw [← ex_st (A := A) (H := fun u => ∃ x, x < u ∧ sW σ (w.getD u 0) = sW σ (w.getD x 0)) (show j < w.length by omega)]
    have e : (A ∨ ∃ x, 0 ≤ x ∧ x < j ∧ sW σ (w.getD j 0) = sW σ (w.getD x 0)) ↔ (A ∨ ∃ x, x < j ∧ sW σ (w.getD j 0) = sW σ (w.getD x 0)) := by
      constructor
      · intro q
        rcases q with q | ⟨x, -, h2, h3⟩
        · exact Or.inl q
        · exact Or.inr ⟨x, h2, h3⟩
      · intro q
        rcases q with q | ⟨x, h2, h3⟩
        · exact Or.inl q
        · exact Or.inr ⟨x, Nat.zero_le _, h2, h3⟩
    rw [e]
theorem nd_iff {w : List Nat} : (∃ u, u < w.length ∧ ∃ x, x < u ∧ sW σ (w.getD u 0) = sW σ (w.getD x 0)) ↔ ¬ (rtx σ w).Nodup := by
  unfold rtx List.Nodup
  rw [List.pairwise_iff_getElem]
  have gd' : ∀ x (hx : x < w.length), w.getD x 0 = w[x] := fun x hx => by rw [List.getD_eq_getElem?_getD, List.getElem?_eq_getElem hx]; rfl
  constructor
  · intro ⟨u, hu, x, hx, e⟩ h
    have := h x u (by rw [List.length_map]; omega) (by rw [List.length_map]; exact hu) hx
    rw [List.getElem_map, List.getElem_map] at this
    rw [gd' u hu, gd' x (by omega)] at e
    exact this e.symm
  · intro h
    apply Classical.byContradiction
    intro q
    apply h
    intro i j hi hj hij e
    rw [List.length_map] at hi hj
    rw [List.getElem_map, List.getElem_map] at e
    exact q ⟨j, hj, i, hij, by rw [gd' j hj, gd' i hi]; exact e.symm⟩
theorem isTwice_eq {l : Nat} {w : List Nat} (hl : sc σ l = 16) (hw : sA σ l = w) (hr : ∀ r, r ∈ w → sc σ r = 4) (h1000 : w.length ≤ 1000) : ∃ v, ck_isTwice (some l) σ = some v ∧ Fg v (¬ (rtx σ w).Nodup) := by
  obtain ⟨v, v1, v2⟩ := twice_L4 hl hw hr h1000 w.length FU 0 0 False (Or.inl ⟨rfl, fun h => h⟩) (by omega) (FU_gt (by omega))
  exact ⟨v, v1, v2.cg (ex_0.trans nd_iff)⟩
end Su
