set_option maxRecDepth 100000
/-! SCHEMAS, CHECKED: looking for a name in a scope, on both sides -/
/-- the message, the enum of a name in a scope -/
def fM (I : Nat → Nat) (n : Nat) (M : List TyM) (p : Int) (w : List UInt8) : Option TyM := M.find? (fun m => decide (m.2.2.2 = p ∧ tx I n m.2.2.1 = w))
def fE (I : Nat → Nat) (n : Nat) (E : List TyE) (p : Int) (w : List UInt8) : Option TyE := E.find? (fun e => decide (e.2.2 = p ∧ tx I n e.2.1 = w))
/-- what a name is in a scope: 16 + message, 32 + enum, -1 -/
def WKv (I : Nat → Nat) (n : Nat) (M : List TyM) (E : List TyE) (p : Int) (w : List UInt8) (v : Int) : Prop := (∃ (j : Nat) (m : TyM), fM I n M p w = some m ∧ M[j]? = some m ∧ v = 16 + (j : Int)) ∨ (fM I n M p w = none ∧ ∃ (k : Nat) (e : TyE), fE I n E p w = some e ∧ E[k]? = some e ∧ v = 32 + (k : Int)) ∨ (fM I n M p w = none ∧ fE I n E p w = none ∧ v = -1)
section S9
variable {y n K sd root a0 : Nat} {I : Nat → Nat} {σ : ST} {τ : TT} {ob : Nat → Prop} {L : Nat → Nat → List Nat} {M : List TyM} {E : List TyE} {V : List TyV} {F : List TyF} {O : List TyO} {R : List TyR} {N : List TyN}
theorem with_M (h : RF I n K τ M E V F O R N) {t : Nat} {p : Int} (ht : (tkn I n t).1 = 1) (hp : rg p) : ∀ (c N1 j : Nat), j + c = M.length → c < N1 → (((M.drop j).find? (fun m => decide (m.2.2.2 = p ∧ tx I n (m.2.2.1) = tx I n t)) = none ∧ m_within_L2 p (t : Int) τ N1 (j : Int) = some (Sum.inl (Sum.inr ()))) ∨ ∃ (k : Nat) (m : TyM), (M.drop j).find? (fun m => decide (m.2.2.2 = p ∧ tx I n (m.2.2.1) = tx I n t)) = some m ∧ M[k]? = some m ∧ m_within_L2 p (t : Int) τ N1 (j : Int) = some (Sum.inr (k : Int)))
  | c, 0, j, _, h => by omega
  | 0, N1 + 1, j, hj, _ => by
    have hl := h.2.2.2.2.1
    have hC := h.2.2.2.1.1
    refine Or.inl ⟨by rw [List.drop_of_length_le (by omega)]; rfl, ?_⟩
    rw [m_within_L2, gd_pos (by omega), hC.1, gd_pos (by omega), if_pos (by omega)]
  | c + 1, N1 + 1, j, hj, hN => by
    have hl := h.2.2.2.2.1
    have hC := h.2.2.2.1.1
    obtain ⟨m, hm, hmem, hd⟩ := drop_at (show j < M.length by omega)
    obtain ⟨a1, a2⟩ := h.2.2.2.1.2.1 j m hm
    have w := h.2.2.2.2.2.1 j m hm
    have sm := h.same (t1 := m.2.2.1) (t2 := t) w.2.2.1 ht
    rw [hd, m_within_L2, gd_pos (by omega), hC.1, gd_pos (by omega), if_neg (by omega), gd_pos (by constructor <;> omega), Int.toNat_natCast, a2, a1, gd_pos (by have := gq_lt hm; omega), gd_pos hp, sm, gd_pos (by exact fun _ => ok_some _), vv_s, gd_pos (by exact fun _ => by split <;> omega), show (j : Int) + 1 = ((j + 1 : Nat) : Int) by omega]
    by_cases q : m.2.2.2 = p ∧ tx I n (m.2.2.1) = tx I n t
    · refine Or.inr ⟨j, m, by rw [List.find?_cons_of_pos (by exact decide_eq_true q)], hm, ?_⟩
      rw [if_pos (show _ ∧ _ from ⟨q.1, tis_i.mpr q.2⟩)]
    · rw [if_neg (fun h => q ⟨h.1, tis_i.mp h.2⟩), List.find?_cons_of_neg (by simpa using q)]
      exact with_M h ht hp c N1 (j + 1) (by omega) (by omega)
theorem with_E (h : RF I n K τ M E V F O R N) {t : Nat} {p : Int} (ht : (tkn I n t).1 = 1) (hp : rg p) : ∀ (c N1 j : Nat), j + c = E.length → c < N1 → (((E.drop j).find? (fun m => decide (m.2.2 = p ∧ tx I n (m.2.1) = tx I n t)) = none ∧ m_within_L47 p (t : Int) τ N1 (j : Int) = some (Sum.inl (-1))) ∨ ∃ (k : Nat) (m : TyE), (E.drop j).find? (fun m => decide (m.2.2 = p ∧ tx I n (m.2.1) = tx I n t)) = some m ∧ E[k]? = some m ∧ m_within_L47 p (t : Int) τ N1 (j : Int) = some (Sum.inr (k : Int)))
  | c, 0, j, _, h => by omega
  | 0, N1 + 1, j, hj, _ => by
    have hl := h.2.2.2.2.1
    have hC := h.2.2.2.1.1
    refine Or.inl ⟨by rw [List.drop_of_length_le (by omega)]; rfl, ?_⟩
    rw [m_within_L47, gd_pos (by omega), hC.2.1, gd_pos (by omega), if_pos (by omega)]
  | c + 1, N1 + 1, j, hj, hN => by
    have hl := h.2.2.2.2.1
    have hC := h.2.2.2.1.1
    obtain ⟨m, hm, hmem, hd⟩ := drop_at (show j < E.length by omega)
    obtain ⟨a1, a2⟩ := h.2.2.2.1.2.2.1 j m hm
    have w := h.2.2.2.2.2.2.1 m hmem
    have sm := h.same (t1 := m.2.1) (t2 := t) w.2.2.1 ht
    rw [hd, m_within_L47, gd_pos (by omega), hC.2.1, gd_pos (by omega), if_neg (by omega), gd_pos (by constructor <;> omega), Int.toNat_natCast, a2, a1, gd_pos (by omega), gd_pos hp, sm, gd_pos (by exact fun _ => ok_some _), vv_s, gd_pos (by exact fun _ => by split <;> omega), show (j : Int) + 1 = ((j + 1 : Nat) : Int) by omega]
    by_cases q : m.2.2 = p ∧ tx I n (m.2.1) = tx I n t
    · refine Or.inr ⟨j, m, by rw [List.find?_cons_of_pos (by exact decide_eq_true q)], hm, ?_⟩
      rw [if_pos (show _ ∧ _ from ⟨q.1, tis_i.mpr q.2⟩)]
    · rw [if_neg (fun h => q ⟨h.1, tis_i.mp h.2⟩), List.find?_cons_of_neg (by simpa using q)]
      exact with_E h ht hp c N1 (j + 1) (by omega) (by omega)
theorem m_within_eq (h : RF I n K τ M E V F O R N) {t : Nat} {p : Int} (ht : (tkn I n t).1 = 1) (hp : rg p) : ∃ v, m_within p (t : Int) τ = some v ∧ WKv I n M E p (tx I n t) v := by
  have hl := h.2.2.2.2.1
  have e1 := with_M h ht hp M.length FU 0 (Nat.zero_add _) (FU_gt (by omega))
  have e2 := with_E h ht hp E.length FU 0 (Nat.zero_add _) (FU_gt (by omega))
  rw [List.drop_zero] at e1 e2
  unfold m_within
  rcases e1 with ⟨f1, e1⟩ | ⟨j, m, f1, f2, e1⟩
  · have e1 : m_within_L2 p (t : Int) τ FU 0 = some (Sum.inl (Sum.inr ())) := e1
    rcases e2 with ⟨g1, e2⟩ | ⟨k, e, g1, g2, e2⟩
    · have e2 : m_within_L47 p (t : Int) τ FU 0 = some (Sum.inl (-1)) := e2
      refine ⟨-1, ?_, Or.inr (Or.inr ⟨f1, g1, rfl⟩)⟩
      rw [e1, e2]; rfl
    · have e2 : m_within_L47 p (t : Int) τ FU 0 = some (Sum.inr (k : Int)) := e2
      refine ⟨32 + (k : Int), ?_, Or.inr (Or.inl ⟨f1, k, e, g1, g2, rfl⟩)⟩
      rw [e1, e2]; rfl
  · have e1 : m_within_L2 p (t : Int) τ FU 0 = some (Sum.inr (j : Int)) := e1
    refine ⟨16 + (j : Int), ?_, Or.inl ⟨j, m, f1, f2, rfl⟩⟩
    rw [e1]; rfl
/-! the system -/
theorem scpm_L2 {s l r : Nat} {fl : List TyM} {w : List UInt8} (h1 : sc σ s = 3) (h2 : sR σ 33 s = some l) (h3 : sc σ l = 16) (h4 : sA σ l = fl.map (fun m => m.1)) (hr : sc σ r = 4) (hw : sW σ r = w) (h5 : ∀ m, m ∈ fl → sc σ m.1 = 7 ∧ ∃ q, sR σ 97 m.1 = some q ∧ sc σ q = 4 ∧ sW σ q = tx I n m.2.2.1) (hl : fl.length ≤ 1000) : ∀ (c N1 k : Nat), k + c = fl.length → c < N1 → (((fl.drop k).find? (fun m => decide (tx I n m.2.2.1 = w)) = none ∧ scp_message_L2 s (some r) σ N1 (k : Int) = some (Sum.inl none)) ∨ ∃ (j : Nat) (m : TyM), (fl.drop k).find? (fun m => decide (tx I n m.2.2.1 = w)) = some m ∧ fl[j]? = some m ∧ scp_message_L2 s (some r) σ N1 (k : Int) = some (Sum.inr (j : Int)))
  | c, 0, k, _, h => by omega
  | 0, N1 + 1, k, hk, _ => by
    refine Or.inl ⟨by rw [List.drop_of_length_le (by omega)]; rfl, ?_⟩
    rw [scp_message_L2, gd_pos h1, h2, bind_some', gd_pos h3, l_sz h3, bind_some', h4, List.length_map, gd_pos (by omega), gd_pos (by omega), if_pos (by omega)]
  | c + 1, N1 + 1, k, hk, hN => by
    obtain ⟨m, hm, hmem, hd⟩ := drop_at (show k < fl.length by omega)
    obtain ⟨m7, q, q1, q2, q3⟩ := h5 m hmem
    have eg : l_get l (k : Int) σ = some (some m.1) := by
      rw [l_gt h3 (i := k) (by rw [h4, List.length_map]; omega) rfl, h4, List.getD_eq_getElem?_getD, List.getElem?_map, hm]; rfl
    have rs := r_sm (σ := σ) q2 hr
    rw [q3, hw] at rs
    rw [hd, scp_message_L2, gd_pos h1, h2, bind_some', gd_pos h3, l_sz h3, bind_some', h4, List.length_map, gd_pos (by omega), gd_pos (by omega), if_neg (by omega), eg, bind_some', bind_some', gd_pos m7, q1, bind_some', gd_pos q2, rs, bind_some', gd_pos (by split <;> omega), show (k : Int) + 1 = ((k + 1 : Nat) : Int) by omega]
    by_cases e : tx I n m.2.2.1 = w
    · refine Or.inr ⟨k, m, by rw [List.find?_cons_of_pos (by exact decide_eq_true e)], hm, ?_⟩
      rw [if_pos e, if_neg (by omega)]
    · rw [if_neg e, if_pos rfl, List.find?_cons_of_neg (by simpa using e)]
      exact scpm_L2 h1 h2 h3 h4 hr hw h5 hl c N1 (k + 1) (by omega) (by omega)
theorem scpe_L2 {s l r : Nat} {fl : List TyE} {w : List UInt8} (h1 : sc σ s = 3) (h2 : sR σ 34 s = some l) (h3 : sc σ l = 16) (h4 : sA σ l = fl.map (fun m => m.1)) (hr : sc σ r = 4) (hw : sW σ r = w) (h5 : ∀ m, m ∈ fl → sc σ m.1 = 8 ∧ ∃ q, sR σ 113 m.1 = some q ∧ sc σ q = 4 ∧ sW σ q = tx I n m.2.1) (hl : fl.length ≤ 1000) : ∀ (c N1 k : Nat), k + c = fl.length → c < N1 → (((fl.drop k).find? (fun m => decide (tx I n m.2.1 = w)) = none ∧ scp_enumOf_L2 s (some r) σ N1 (k : Int) = some (Sum.inl none)) ∨ ∃ (j : Nat) (m : TyE), (fl.drop k).find? (fun m => decide (tx I n m.2.1 = w)) = some m ∧ fl[j]? = some m ∧ scp_enumOf_L2 s (some r) σ N1 (k : Int) = some (Sum.inr (j : Int)))
  | c, 0, k, _, h => by omega
  | 0, N1 + 1, k, hk, _ => by
    refine Or.inl ⟨by rw [List.drop_of_length_le (by omega)]; rfl, ?_⟩
    rw [scp_enumOf_L2, gd_pos h1, h2, bind_some', gd_pos h3, l_sz h3, bind_some', h4, List.length_map, gd_pos (by omega), gd_pos (by omega), if_pos (by omega)]
  | c + 1, N1 + 1, k, hk, hN => by
    obtain ⟨m, hm, hmem, hd⟩ := drop_at (show k < fl.length by omega)
    obtain ⟨m7, q, q1, q2, q3⟩ := h5 m hmem
    have eg : l_get l (k : Int) σ = some (some m.1) := by
      rw [l_gt h3 (i := k) (by rw [h4, List.length_map]; omega) rfl, h4, List.getD_eq_getElem?_getD, List.getElem?_map, hm]; rfl
    have rs := r_sm (σ := σ) q2 hr
    rw [q3, hw] at rs
    rw [hd, scp_enumOf_L2, gd_pos h1, h2, bind_some', gd_pos h3, l_sz h3, bind_some', h4, List.length_map, gd_pos (by omega), gd_pos (by omega), if_neg (by omega), eg, bind_some', bind_some', gd_pos m7, q1, bind_some', gd_pos q2, rs, bind_some', gd_pos (by split <;> omega), show (k : Int) + 1 = ((k + 1 : Nat) : Int) by omega]
    by_cases e : tx I n m.2.1 = w
    · refine Or.inr ⟨k, m, by rw [List.find?_cons_of_pos (by exact decide_eq_true e)], hm, ?_⟩
      rw [if_pos e, if_neg (by omega)]
    · rw [if_neg e, if_pos rfl, List.find?_cons_of_neg (by simpa using e)]
      exact scpe_L2 h1 h2 h3 h4 hr hw h5 hl c N1 (k + 1) (by omega) (by omega)
theorem find_fil {α : Type} {P T : α → Prop} [DecidablePred P] [DecidablePred T] : ∀ (l : List α), (l.filter (fun a => decide (P a))).find? (fun a => decide (T a)) = l.find? (fun a => decide (P a ∧ T a))
  | [] => rfl
  | a :: l => by
    have ih := find_fil (P := P) (T := T) l
    by_cases p : P a
    · rw [List.filter_cons_of_pos (by simp [p])]
      by_cases t : T a
      · rw [List.find?_cons_of_pos (by simp [t]), List.find?_cons_of_pos (by simp [p, t])]
      · rw [List.find?_cons_of_neg (by simp [t]), List.find?_cons_of_neg (by simp [t]), ih]
    · rw [List.filter_cons_of_neg (by simp [p]), List.find?_cons_of_neg (by simp [p]), ih]
theorem OBS0.sc3 {p : Int} {s : Nat} (B : OBS0 y σ I n ob L sd root M E V F O N) (h : scA M root p = some s) : ob s ∧ sc σ s = 3 := by
  rcases scA_cases h with ⟨e1, e2⟩ | ⟨j, m, e1, e2, e3⟩
  · rw [e2]; exact ⟨B.1.2.1, B.1.2.2.2.2.1⟩
  · obtain ⟨-, b2, -, -, -, -, b7, -⟩ := B.2.1 j m e2
    rw [← e3]; exact ⟨b2, b7⟩
theorem scpm_eq (h : SFr y σ I n ob L sd root M E V F O R N a0) {p : Int} {s r : Nat} {w : List UInt8} (hs : scA M root p = some s) (hr : sc σ r = 4) (hw : sW σ r = w) : scp_message s (some r) σ = some ((fM I n M p w).map (fun m => m.1)) := by
  obtain ⟨H, Q, B, W, -, -⟩ := h
  obtain ⟨os, os3⟩ := B.sc3 hs
  obtain ⟨l, l1, l2, l3, l4, l5, -⟩ := H.get (k := 33) os (by decide) os3
  have l4 : sc σ l = 16 := l4
  have l5 := l5 rfl
  have q := (Q.2.1 p s hs).1
  rw [q] at l5
  have hl := W.1
  have fll : (M.filter (fun m => decide (m.2.2.2 = p))).length ≤ 1000 := Nat.le_trans (List.length_filter_le _ _) (by omega)
  have key := scpm_L2 (I := I) (n := n) (w := w) os3 l1 l4 l5.1 hr hw (fun m hm => by
    obtain ⟨j, hj⟩ := List.getElem?_of_mem (List.mem_filter.mp hm).1
    obtain ⟨-, -, m7, -, ⟨x, x1, x2⟩, -⟩ := B.2.1 j m hj
    exact ⟨m7, x, x1, x2.2.2.1, x2.2.2.2⟩) fll _ FU 0 (Nat.zero_add _) (FU_gt (by omega))
  rw [List.drop_zero] at key
  have ff : (M.filter (fun m => decide (m.2.2.2 = p))).find? (fun m => decide (tx I n m.2.2.1 = w)) = fM I n M p w := find_fil (P := fun m : TyM => m.2.2.2 = p) (T := fun m : TyM => tx I n m.2.2.1 = w) M
  rw [ff] at key
  unfold scp_message
  rcases key with ⟨f1, e1⟩ | ⟨j, m, f1, f2, e1⟩
  · have e1 : scp_message_L2 s (some r) σ FU 0 = _ := e1
    rw [e1, f1]; rfl
  · have e1 : scp_message_L2 s (some r) σ FU 0 = _ := e1
    have jl := gq_lt f2
    obtain ⟨j', hj'⟩ := List.getElem?_of_mem (List.mem_filter.mp (List.mem_of_getElem? f2)).1
    obtain ⟨-, -, m7, -⟩ := B.2.1 j' m hj'
    have eg : l_get l (j : Int) σ = some (some m.1) := by
      rw [l_gt l4 (i := j) (by rw [l5.1, List.length_map]; exact jl) rfl, l5.1, List.getD_eq_getElem?_getD, List.getElem?_map, f2]; rfl
    rw [e1, f1, bind_some', elim_r, gd_pos os3, l1, bind_some', gd_pos l4, eg, bind_some', bind_some', gd_pos m7]; rfl
theorem scpe_eq (h : SFr y σ I n ob L sd root M E V F O R N a0) {p : Int} {s r : Nat} {w : List UInt8} (hs : scA M root p = some s) (hr : sc σ r = 4) (hw : sW σ r = w) : scp_enumOf s (some r) σ = some ((fE I n E p w).map (fun m => m.1)) := by
  obtain ⟨H, Q, B, W, -, -⟩ := h
  obtain ⟨os, os3⟩ := B.sc3 hs
  obtain ⟨l, l1, l2, l3, l4, l5, -⟩ := H.get (k := 34) os (by decide) os3
  have l4 : sc σ l = 16 := l4
  have l5 := l5 rfl
  have q := (Q.2.1 p s hs).2.1
  rw [q] at l5
  have hl := W.1
  have fll : (E.filter (fun m => decide (m.2.2 = p))).length ≤ 1000 := Nat.le_trans (List.length_filter_le _ _) (by omega)
  have key := scpe_L2 (I := I) (n := n) (w := w) os3 l1 l4 l5.1 hr hw (fun m hm => by
    obtain ⟨j, hj⟩ := List.getElem?_of_mem (List.mem_filter.mp hm).1
    obtain ⟨-, m7, -, x, x1, x2⟩ := B.2.2.1 j m hj
    exact ⟨m7, x, x1, x2.2.2.1, x2.2.2.2⟩) fll _ FU 0 (Nat.zero_add _) (FU_gt (by omega))
  rw [List.drop_zero] at key
  have ff : (E.filter (fun m => decide (m.2.2 = p))).find? (fun m => decide (tx I n m.2.1 = w)) = fE I n E p w := find_fil (P := fun m : TyE => m.2.2 = p) (T := fun m : TyE => tx I n m.2.1 = w) E
  rw [ff] at key
  unfold scp_enumOf
  rcases key with ⟨f1, e1⟩ | ⟨j, m, f1, f2, e1⟩
  · have e1 : scp_enumOf_L2 s (some r) σ FU 0 = _ := e1
    rw [e1, f1]; rfl
  · have e1 : scp_enumOf_L2 s (some r) σ FU 0 = _ := e1
    have jl := gq_lt f2
    obtain ⟨j', hj'⟩ := List.getElem?_of_mem (List.mem_filter.mp (List.mem_of_getElem? f2)).1
    obtain ⟨-, m7, -⟩ := B.2.2.1 j' m hj'
    have eg : l_get l (j : Int) σ = some (some m.1) := by
      rw [l_gt l4 (i := j) (by rw [l5.1, List.length_map]; exact jl) rfl, l5.1, List.getD_eq_getElem?_getD, List.getElem?_map, f2]; rfl
    rw [e1, f1, bind_some', elim_r, gd_pos os3, l1, bind_some', gd_pos l4, eg, bind_some', bind_some', gd_pos m7]; rfl
end S9
