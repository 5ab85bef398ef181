set_option maxRecDepth 100000
/-! SCHEMAS, CHECKED: names, by the reference -/
section Sv
variable {I : Nat → Nat} {n K : Nat} {τ : TT} {M : List TyM} {E : List TyE} {V : List TyV} {F : List TyF} {O : List TyO} {R : List TyR} {N : List TyN}
theorem tkn_nx {j : Nat} (h : (tkn I n j).1 = 0) : (tkn I n (j + 1)).1 = 0 := by
  have h2 : n ≤ (tkn I n j).2.2 := by
    unfold tkn tkT at h ⊢
    by_cases c : n ≤ rnF bch I n (tkP I n j)
    · rw [if_pos c]; exact c
    · rw [if_neg c] at h
      exfalso
      change (tkA I n (rnF bch I n (tkP I n j))).1 = 0 at h
      unfold tkA at h
      split at h
      · change (if _ then 1 else 4) = 0 at h; split at h <;> omega
      · split at h
        · change (if _ then 2 else 4) = 0 at h; split at h <;> omega
        · change (if _ then 3 else 4) = 0 at h; split at h <;> omega
  have e : tkP I n (j + 1) = (tkn I n j).2.2 := rfl
  unfold tkn tkT
  rw [rnF_end (by rw [e]; exact h2), if_pos (by rw [e]; exact h2)]
theorem tkn_end (hD : KD I n K) : ∀ c, (tkn I n (K + c)).1 = 0
  | 0 => hD.2.1
  | c + 1 => tkn_nx (tkn_end hD c)
theorem tk_lt (hD : KD I n K) {t : Nat} (h : (tkn I n t).1 ≠ 0) : t < K := by
  by_cases c : t < K
  · exact c
  · have := tkn_end hD (t - K)
    rw [show K + (t - K) = t by omega] at this
    exact absurd this h
/-- what the reference has after reading -/
def RF (I : Nat → Nat) (n K : Nat) (τ : TT) (M : List TyM) (E : List TyE) (V : List TyV) (F : List TyF) (O : List TyO) (R : List TyR) (N : List TyN) : Prop := KD I n K ∧ T8 τ I n ∧ (∀ j, j ≤ K → TTk I n τ j) ∧ TPS τ M E V F O R ∧ PW I n M E V F O R N
theorem RF.same (h : RF I n K τ M E V F O R N) {t1 t2 : Nat} (h1 : (tkn I n t1).1 = 1) (h2 : (tkn I n t2).1 = 1) : m_same (t1 : Int) (t2 : Int) τ = some (if tx I n t1 = tx I n t2 then 1 else 0) := by
  have l1 := tk_lt h.1 (t := t1) (by omega)
  have l2 := tk_lt h.1 (t := t2) (by omega)
  have := h.1.1
  have := h.2.1.2.1
  exact m_same_eq h.2.1 (h.2.2.1 t1 (by omega)) (h.2.2.1 t2 (by omega)) (by omega) (by omega) rfl rfl
/-- names and where they stand -/
def NL (I : Nat → Nat) (n : Nat) (M : List TyM) (E : List TyE) (V : List TyV) : List (List UInt8 × Int) := M.map (fun m => (tx I n m.2.2.1, m.2.2.2)) ++ (E.map (fun e => (tx I n e.2.1, e.2.2)) ++ V.map (fun v => (tx I n v.2.1, ePa E v.2.2.2)))
def FN (I : Nat → Nat) (n : Nat) (F : List TyF) (O : List TyO) : List (List UInt8 × Nat) := F.map (fun f => (tx I n (fNm f), fMs f)) ++ O.map (fun o => (tx I n o.2.1, o.2.2))
theorem drop_at {α : Type} {l : List α} {j : Nat} (h : j < l.length) : ∃ m, l[j]? = some m ∧ m ∈ l ∧ l.drop j = m :: l.drop (j + 1) := ⟨l[j], List.getElem?_eq_getElem h, List.getElem_mem h, List.drop_eq_getElem_cons h⟩
theorem named_M (h : RF I n K τ M E V F O R N) {t : Nat} {p : Int} (ht : (tkn I n t).1 = 1) (hp : rg p) : ∀ (c N j a : Nat), j + c = M.length → c < N → m_named_L5 (t : Int) p τ N (a : Int) (j : Int) = some ((a + (M.drop j).countP (fun m => decide (m.2.2.2 = p ∧ tx I n (m.2.2.1) = tx I n t)) : Nat) : Int)
  | c, 0, j, a, _, h => by omega
  | 0, N + 1, j, a, hj, _ => by
    have hl := h.2.2.2.2.1
    have hC := h.2.2.2.1.1
    rw [m_named_L5, gd_pos (by omega), hC.1, gd_pos (by omega), if_pos (by omega), List.drop_of_length_le (by omega)]; rfl
  | c + 1, N + 1, j, a, hj, hN => by
    have hl := h.2.2.2.2.1
    have hC := h.2.2.2.1.1
    obtain ⟨m, hm, hmem, hd⟩ := drop_at (show j < M.length by omega)
    obtain ⟨a1, a2⟩ := h.2.2.2.1.2.1 j m hm
    have w := h.2.2.2.2.2.1 j m hm
    have sm := h.same (t1 := m.2.2.1) (t2 := t) (w.2.2.1) ht
    have ih := fun a => named_M h ht hp c N (j + 1) a (by omega) (by omega)
    rw [m_named_L5, gd_pos (by omega), hC.1, gd_pos (by omega), if_neg (by omega), gd_pos (by constructor <;> omega), Int.toNat_natCast, a2, a1, gd_pos (by have := gq_lt hm; omega), gd_pos hp, sm, gd_pos (by exact fun _ => ok_some _), vv_s, gd_pos (by exact fun _ => by split <;> omega), show (j : Int) + 1 = ((j + 1 : Nat) : Int) by omega, hd]
    by_cases q : m.2.2.2 = p ∧ tx I n (m.2.2.1) = tx I n t
    · rw [if_pos (show _ ∧ _ from ⟨q.1, tis_i.mpr q.2⟩), bind_some', nm_eq, show (a : Int) + 1 = ((a + 1 : Nat) : Int) by omega, ih, List.countP_cons_of_pos (by exact decide_eq_true q)]
      congr 2; omega
    · rw [if_neg (fun h => q ⟨h.1, tis_i.mp h.2⟩), bind_some', nm_eq, show (a : Int) + 0 = ((a : Nat) : Int) by omega, ih, List.countP_cons_of_neg (by simpa using q)]
theorem named_E (h : RF I n K τ M E V F O R N) {t : Nat} {p : Int} (ht : (tkn I n t).1 = 1) (hp : rg p) : ∀ (c N j a : Nat), j + c = E.length → c < N → m_named_L57 (t : Int) p τ N (a : Int) (j : Int) = some ((a + (E.drop j).countP (fun m => decide (m.2.2 = p ∧ tx I n (m.2.1) = tx I n t)) : Nat) : Int)
  | c, 0, j, a, _, h => by omega
  | 0, N + 1, j, a, hj, _ => by
    have hl := h.2.2.2.2.1
    have hC := h.2.2.2.1.1
    rw [m_named_L57, gd_pos (by omega), hC.2.1, gd_pos (by omega), if_pos (by omega), List.drop_of_length_le (by omega)]; rfl
  | c + 1, N + 1, j, a, hj, hN => by
    have hl := h.2.2.2.2.1
    have hC := h.2.2.2.1.1
    obtain ⟨m, hm, hmem, hd⟩ := drop_at (show j < E.length by omega)
    obtain ⟨a1, a2⟩ := h.2.2.2.1.2.2.1 j m hm
    have w := h.2.2.2.2.2.2.1 m hmem
    have sm := h.same (t1 := m.2.1) (t2 := t) (w.2.2.1) ht
    have ih := fun a => named_E h ht hp c N (j + 1) a (by omega) (by omega)
    rw [m_named_L57, gd_pos (by omega), hC.2.1, gd_pos (by omega), if_neg (by omega), gd_pos (by constructor <;> omega), Int.toNat_natCast, a2, a1, gd_pos (by omega), gd_pos hp, sm, gd_pos (by exact fun _ => ok_some _), vv_s, gd_pos (by exact fun _ => by split <;> omega), show (j : Int) + 1 = ((j + 1 : Nat) : Int) by omega, hd]
    by_cases q : m.2.2 = p ∧ tx I n (m.2.1) = tx I n t
    · rw [if_pos (show _ ∧ _ from ⟨q.1, tis_i.mpr q.2⟩), bind_some', nm_eq, show (a : Int) + 1 = ((a + 1 : Nat) : Int) by omega, ih, List.countP_cons_of_pos (by exact decide_eq_true q)]
      congr 2; omega
    · rw [if_neg (fun h => q ⟨h.1, tis_i.mp h.2⟩), bind_some', nm_eq, show (a : Int) + 0 = ((a : Nat) : Int) by omega, ih, List.countP_cons_of_neg (by simpa using q)]
theorem named_V (h : RF I n K τ M E V F O R N) {t : Nat} {p : Int} (ht : (tkn I n t).1 = 1) (hp : rg p) : ∀ (c N j a : Nat), j + c = V.length → c < N → m_named_L109 (t : Int) p τ N (a : Int) (j : Int) = some ((a + (V.drop j).countP (fun m => decide (ePa E m.2.2.2 = p ∧ tx I n (m.2.1) = tx I n t)) : Nat) : Int)
  | c, 0, j, a, _, h => by omega
  | 0, N + 1, j, a, hj, _ => by
    have hl := h.2.2.2.2.1
    have hC := h.2.2.2.1.1
    rw [m_named_L109, gd_pos (by omega), hC.2.2.1, gd_pos (by omega), if_pos (by omega), List.drop_of_length_le (by omega)]; rfl
  | c + 1, N + 1, j, a, hj, hN => by
    have hl := h.2.2.2.2.1
    have hC := h.2.2.2.1.1
    obtain ⟨m, hm, hmem, hd⟩ := drop_at (show j < V.length by omega)
    obtain ⟨a1, a2, a3⟩ := h.2.2.2.1.2.2.2.1 j m hm
    have w := h.2.2.2.2.2.2.2.1 m hmem
    have sm := h.same (t1 := m.2.1) (t2 := t) (w.2.2.1) ht
    have ih := fun a => named_V h ht hp c N (j + 1) a (by omega) (by omega)
    obtain ⟨e, he, hem, -⟩ := drop_at w.1
    have e18 := (h.2.2.2.1.2.2.1 _ _ he).2
    have we := h.2.2.2.2.2.2.1 e hem
    have ep : ePa E m.2.2.2 = e.2.2 := by unfold ePa; rw [he]; rfl
    rw [m_named_L109, gd_pos (by omega), hC.2.2.1, gd_pos (by omega), if_neg (by omega), gd_pos (by constructor <;> omega), Int.toNat_natCast, a3, gd_pos (by constructor <;> omega), Int.toNat_natCast, e18, ← ep, a1, gd_pos (by rw [ep]; omega), gd_pos hp, sm, gd_pos (by exact fun _ => ok_some _), vv_s, gd_pos (by exact fun _ => by split <;> omega), show (j : Int) + 1 = ((j + 1 : Nat) : Int) by omega, hd]
    by_cases q : ePa E m.2.2.2 = p ∧ tx I n (m.2.1) = tx I n t
    · rw [if_pos (show _ ∧ _ from ⟨q.1, tis_i.mpr q.2⟩), bind_some', nm_eq, show (a : Int) + 1 = ((a + 1 : Nat) : Int) by omega, ih, List.countP_cons_of_pos (by exact decide_eq_true q)]
      congr 2; omega
    · rw [if_neg (fun h => q ⟨h.1, tis_i.mp h.2⟩), bind_some', nm_eq, show (a : Int) + 0 = ((a : Nat) : Int) by omega, ih, List.countP_cons_of_neg (by simpa using q)]
theorem fnamed_F (h : RF I n K τ M E V F O R N) {t : Nat} {p : Nat} (ht : (tkn I n t).1 = 1) (hp : rg (p : Int)) : ∀ (c N j a : Nat), j + c = F.length → c < N → m_fieldsNamed_L5 (t : Int) (p : Int) τ N (a : Int) (j : Int) = some ((a + (F.drop j).countP (fun m => decide (fMs m = p ∧ tx I n (fNm m) = tx I n t)) : Nat) : Int)
  | c, 0, j, a, _, h => by omega
  | 0, N + 1, j, a, hj, _ => by
    have hl := h.2.2.2.2.1
    have hC := h.2.2.2.1.1
    rw [m_fieldsNamed_L5, gd_pos (by omega), hC.2.2.2.1, gd_pos (by omega), if_pos (by omega), List.drop_of_length_le (by omega)]; rfl
  | c + 1, N + 1, j, a, hj, hN => by
    have hl := h.2.2.2.2.1
    have hC := h.2.2.2.1.1
    obtain ⟨m, hm, hmem, hd⟩ := drop_at (show j < F.length by omega)
    obtain ⟨a1, a2, a3, a4, a5, -⟩ := h.2.2.2.1.2.2.2.2.1 j m hm
    have w := h.2.2.2.2.2.2.2.2.1 m hmem
    have sm := h.same (t1 := fNm m) (t2 := t) (w.2.2.1) ht
    have ih := fun a => fnamed_F h ht hp c N (j + 1) a (by omega) (by omega)
    rw [m_fieldsNamed_L5, gd_pos (by omega), hC.2.2.2.1, gd_pos (by omega), if_neg (by omega), gd_pos (by constructor <;> omega), Int.toNat_natCast, a5, a3, gd_pos (by omega), gd_pos hp, sm, gd_pos (by exact fun _ => ok_some _), vv_s, gd_pos (by exact fun _ => by split <;> omega), show (j : Int) + 1 = ((j + 1 : Nat) : Int) by omega, hd]
    by_cases q : fMs m = p ∧ tx I n (fNm m) = tx I n t
    · rw [if_pos (show _ ∧ _ from ⟨by rw [q.1], tis_i.mpr q.2⟩), bind_some', nm_eq, show (a : Int) + 1 = ((a + 1 : Nat) : Int) by omega, ih, List.countP_cons_of_pos (by exact decide_eq_true q)]
      congr 2; omega
    · rw [if_neg (fun h => q ⟨by have := h.1; omega, tis_i.mp h.2⟩), bind_some', nm_eq, show (a : Int) + 0 = ((a : Nat) : Int) by omega, ih, List.countP_cons_of_neg (by simpa using q)]
theorem fnamed_O (h : RF I n K τ M E V F O R N) {t : Nat} {p : Nat} (ht : (tkn I n t).1 = 1) (hp : rg (p : Int)) : ∀ (c N j a : Nat), j + c = O.length → c < N → m_fieldsNamed_L57 (t : Int) (p : Int) τ N (a : Int) (j : Int) = some ((a + (O.drop j).countP (fun m => decide (m.2.2 = p ∧ tx I n (m.2.1) = tx I n t)) : Nat) : Int)
  | c, 0, j, a, _, h => by omega
  | 0, N + 1, j, a, hj, _ => by
    have hl := h.2.2.2.2.1
    have hC := h.2.2.2.1.1
    rw [m_fieldsNamed_L57, gd_pos (by omega), hC.2.2.2.2.1, gd_pos (by omega), if_pos (by omega), List.drop_of_length_le (by omega)]; rfl
  | c + 1, N + 1, j, a, hj, hN => by
    have hl := h.2.2.2.2.1
    have hC := h.2.2.2.1.1
    obtain ⟨m, hm, hmem, hd⟩ := drop_at (show j < O.length by omega)
    obtain ⟨a1, a2⟩ := h.2.2.2.1.2.2.2.2.2.1 j m hm
    have w := h.2.2.2.2.2.2.2.2.2.1 m hmem
    have sm := h.same (t1 := m.2.1) (t2 := t) (w.2.1) ht
    have ih := fun a => fnamed_O h ht hp c N (j + 1) a (by omega) (by omega)
    rw [m_fieldsNamed_L57, gd_pos (by omega), hC.2.2.2.2.1, gd_pos (by omega), if_neg (by omega), gd_pos (by constructor <;> omega), Int.toNat_natCast, a2, a1, gd_pos (by omega), gd_pos hp, sm, gd_pos (by exact fun _ => ok_some _), vv_s, gd_pos (by exact fun _ => by split <;> omega), show (j : Int) + 1 = ((j + 1 : Nat) : Int) by omega, hd]
    by_cases q : m.2.2 = p ∧ tx I n (m.2.1) = tx I n t
    · rw [if_pos (show _ ∧ _ from ⟨by rw [q.1], tis_i.mpr q.2⟩), bind_some', nm_eq, show (a : Int) + 1 = ((a + 1 : Nat) : Int) by omega, ih, List.countP_cons_of_pos (by exact decide_eq_true q)]
      congr 2; omega
    · rw [if_neg (fun h => q ⟨by have := h.1; omega, tis_i.mp h.2⟩), bind_some', nm_eq, show (a : Int) + 0 = ((a : Nat) : Int) by omega, ih, List.countP_cons_of_neg (by simpa using q)]
theorem cnt_mp {α : Type} {β : Type} [DecidableEq β] {l : List α} {f : α → List UInt8} {g : α → β} {w : List UInt8} {p : β} : (l.map (fun a => (f a, g a))).count (w, p) = l.countP (fun a => decide (g a = p ∧ f a = w)) := by
  rw [List.count, List.countP_map]
  refine List.countP_congr (fun a _ => ?_)
  simp [and_comm]
theorem m_named_eq (h : RF I n K τ M E V F O R N) {t : Nat} {p : Int} (ht : (tkn I n t).1 = 1) (hp : rg p) : m_named (t : Int) p τ = some (((NL I n M E V).count (tx I n t, p) : Nat) : Int) := by
  have hl := h.2.2.2.2.1
  have e1 := named_M h ht hp M.length FU 0 0 (by omega) (FU_gt (by omega))
  have e1 : m_named_L5 (t : Int) p τ FU 0 0 = some _ := e1
  have e2 := fun a => named_E h ht hp E.length FU 0 a (by omega) (FU_gt (by omega))
  have e3 := fun a => named_V h ht hp V.length FU 0 a (by omega) (FU_gt (by omega))
  unfold m_named
  rw [e1, bind_some']
  have e2' : m_named_L57 (t : Int) p τ FU _ 0 = some _ := e2 (0 + (M.drop 0).countP (fun m => decide (m.2.2.2 = p ∧ tx I n m.2.2.1 = tx I n t)))
  rw [e2', bind_some']
  have e3' : m_named_L109 (t : Int) p τ FU _ 0 = some _ := e3 (0 + (M.drop 0).countP (fun m => decide (m.2.2.2 = p ∧ tx I n m.2.2.1 = tx I n t)) + (E.drop 0).countP (fun m => decide (m.2.2 = p ∧ tx I n m.2.1 = tx I n t)))
  rw [e3']
  unfold NL
  rw [List.count_append, List.count_append, cnt_mp, cnt_mp, cnt_mp, List.drop_zero, List.drop_zero, List.drop_zero]
  congr 2; omega
theorem m_fnamed_eq (h : RF I n K τ M E V F O R N) {t p : Nat} (ht : (tkn I n t).1 = 1) (hp : p < 1000) : m_fieldsNamed (t : Int) (p : Int) τ = some (((FN I n F O).count (tx I n t, p) : Nat) : Int) := by
  have hl := h.2.2.2.2.1
  have e1 := fnamed_F h ht (p := p) (by omega) F.length FU 0 0 (by omega) (FU_gt (by omega))
  have e1 : m_fieldsNamed_L5 (t : Int) (p : Int) τ FU 0 0 = some _ := e1
  have e2 := fun a => fnamed_O h ht (p := p) (by omega) O.length FU 0 a (by omega) (FU_gt (by omega))
  unfold m_fieldsNamed
  rw [e1, bind_some']
  have e2' : m_fieldsNamed_L57 (t : Int) (p : Int) τ FU _ 0 = some _ := e2 (0 + (F.drop 0).countP (fun m => decide (fMs m = p ∧ tx I n (fNm m) = tx I n t)))
  rw [e2']
  unfold FN
  rw [List.count_append, cnt_mp, cnt_mp, List.drop_zero, List.drop_zero]
  congr 2; omega
end Sv
