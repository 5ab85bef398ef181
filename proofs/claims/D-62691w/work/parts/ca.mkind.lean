set_option maxRecDepth 100000
/-! SCHEMAS, CHECKED: types of fields, by the reference -/
/-- the scope where a name is found, looking outwards -/
def upQ (I : Nat → Nat) (n : Nat) (M : List TyM) (E : List TyE) (w : List UInt8) : Nat → Int → Option Int
  | 0, _ => none
  | c + 1, p => if (fM I n M p w).isSome = true ∨ (fE I n E p w).isSome = true then some p else if p = -1 then none else upQ I n M E w c (((M[p.toNat]?).map (fun m => m.2.2.2)).getD (-1))
/-- further parts of a type's name -/
def PTk (I : Nat → Nat) (n : Nat) (M : List TyM) (E : List TyE) : List (List UInt8) → Int → Int → Prop
  | [], v, v' => v' = v
  | w :: ws, v, v' => ((v = -1 ∨ 32 ≤ v) ∧ v' = -1) ∨ ∃ j : Nat, v = 16 + (j : Int) ∧ j < M.length ∧ ∃ v2, WKv I n M E (j : Int) w v2 ∧ PTk I n M E ws v2 v'
/-- the parts of a field's type -/
def fTx (I : Nat → Nat) (n : Nat) (f : TyF) : List (List UInt8) := (List.range (fPa f)).map (fun q => tx I n (fTy f + 2 * q))
/-- the kind of a field -/
def KOf (I : Nat → Nat) (n : Nat) (M : List TyM) (E : List TyE) (f : TyF) (v : Int) : Prop := (fPa f = 1 ∧ scK (tx I n (fTy f)) ≠ -1 ∧ v = scK (tx I n (fTy f))) ∨ (¬ (fPa f = 1 ∧ scK (tx I n (fTy f)) ≠ -1) ∧ ∃ v0, ((∃ p, upQ I n M E (tx I n (fTy f)) 11 (fMs f : Int) = some p ∧ WKv I n M E p (tx I n (fTy f)) v0) ∨ (upQ I n M E (tx I n (fTy f)) 11 (fMs f : Int) = none ∧ v0 = -1)) ∧ PTk I n M E ((fTx I n f).drop 1) v0 v)
section Sa
variable {n K : Nat} {I : Nat → Nat} {τ : TT} {M : List TyM} {E : List TyE} {V : List TyV} {F : List TyF} {O : List TyO} {R : List TyR} {N : List TyN}
theorem scK_rg (w : List UInt8) : -1 ≤ scK w ∧ scK w ≤ 10 := by
  unfold scK
  repeat' split
  all_goals omega
theorem WKv.rgv (h : PW I n M E V F O R N) {p : Int} {w : List UInt8} {v : Int} (k : WKv I n M E p w v) : -1 ≤ v ∧ v < 1000 := by
  have hl := h.1
  rcases k with ⟨j, m, -, h2, e⟩ | ⟨-, j, m, -, h2, e⟩ | ⟨-, -, e⟩
  · have := gq_lt h2; omega
  · have := gq_lt h2; omega
  · omega
theorem WKv.ne {p : Int} {w : List UInt8} {v : Int} (k : WKv I n M E p w v) : v ≠ -1 ↔ ((fM I n M p w).isSome = true ∨ (fE I n E p w).isSome = true) := by
  rcases k with ⟨j, m, h1, h2, e⟩ | ⟨h0, j, m, h1, h2, e⟩ | ⟨h0, h1, e⟩
  · rw [h1]
    exact ⟨fun _ => Or.inl rfl, fun _ => by omega⟩
  · rw [h0, h1]
    exact ⟨fun _ => Or.inr rfl, fun _ => by omega⟩
  · rw [h0, h1]
    refine ⟨fun q => absurd e q, fun q => ?_⟩
    rcases q with q | q <;> cases q
theorem kind_L47 (h : RF I n K τ M E V F O R N) {a : Int} {t : Nat} (ht : (tkn I n t).1 = 1) : ∀ (c N1 : Nat) (p y : Int), WKv I n M E p (tx I n t) y → -1 ≤ p → p < (c : Int) → p < (M.length : Int) → c + 1 < N1 → ∃ v, m_kindOf_L47 a (t : Int) τ N1 p y = some v ∧ ((∃ p', upQ I n M E (tx I n t) (c + 1) p = some p' ∧ WKv I n M E p' (tx I n t) v) ∨ (upQ I n M E (tx I n t) (c + 1) p = none ∧ v = -1))
  | c, 0, p, y, _, _, _, _, h => by omega
  | c, N1 + 1, p, y, hy, hp, hpc, hpm, hN => by
    have hl := h.2.2.2.2.1
    have ry := hy.rgv h.2.2.2.2
    have hn := hy.ne
    rw [m_kindOf_L47, gd_pos (by omega), gd_pos (by exact fun _ => by omega)]
    by_cases q : y = -1
    · have nh : ¬ ((fM I n M p (tx I n t)).isSome = true ∨ (fE I n E p (tx I n t)).isSome = true) := fun w => (hn.mpr w) q
      by_cases q2 : p = -1
      · rw [if_neg (fun w => w.2 q2)]
        exact ⟨y, rfl, Or.inr ⟨by rw [upQ, if_neg nh, if_pos q2], q⟩⟩
      · obtain ⟨j, rfl⟩ : ∃ j : Nat, p = (j : Int) := ⟨p.toNat, by omega⟩
        obtain ⟨m, hm, hmem, -⟩ := drop_at (show j < M.length by omega)
        obtain ⟨-, a16⟩ := h.2.2.2.1.2.1 j m hm
        have wm := h.2.2.2.2.2.1 j m hm
        obtain ⟨y', e', k'⟩ := m_within_eq h ht (p := m.2.2.2) (by omega)
        obtain ⟨c, rfl⟩ : ∃ c', c = c' + 1 := ⟨c - 1, by omega⟩
        obtain ⟨v, v1, v2⟩ := kind_L47 h (a := a) ht c N1 m.2.2.2 y' k' wm.1 (by omega) (by omega) (by omega)
        refine ⟨v, by rw [if_pos ⟨q, q2⟩, gd_pos (by constructor <;> omega), Int.toNat_natCast, a16, nm_eq, e', bind_some']; exact v1, ?_⟩
        have e : upQ I n M E (tx I n t) (c + 1 + 1) (j : Int) = upQ I n M E (tx I n t) (c + 1) m.2.2.2 := by
          rw [upQ, if_neg nh, if_neg q2, Int.toNat_natCast, hm]; rfl
        rw [e]; exact v2
    · rw [if_neg (fun w => q w.1)]
      exact ⟨y, rfl, Or.inl ⟨p, by rw [upQ, if_pos (hn.mp q)], hy⟩⟩
/-- a code of a message, an enum or nothing -/
def CVk (M : List TyM) (v : Int) : Prop := v = -1 ∨ (∃ j : Nat, v = 16 + (j : Int) ∧ j < M.length ∧ M.length ≤ 10) ∨ (32 ≤ v ∧ v < 1000)
theorem WKv.cv (h : PW I n M E V F O R N) {p : Int} {w : List UInt8} {v : Int} (k : WKv I n M E p w v) : CVk M v := by
  have hl := h.1
  rcases k with ⟨j, m, -, h2, e⟩ | ⟨-, j, m, -, h2, e⟩ | ⟨-, -, e⟩
  · have := gq_lt h2
    exact Or.inr (Or.inl ⟨j, e, this, by omega⟩)
  · have := gq_lt h2
    exact Or.inr (Or.inr (by omega))
  · exact Or.inl e
theorem kind_L79 (h : RF I n K τ M E V F O R N) {x : Nat} {f : TyF} (hx : F[x]? = some f) : ∀ (c N1 k : Nat) (v : Int), CVk M v → k + c = fPa f → c + 1 < N1 → ∃ v', m_kindOf_L79 (x : Int) (fTy f : Int) τ N1 v (k : Int) = some v' ∧ PTk I n M E ((fTx I n f).drop k) v v'
  | c, 0, k, v, _, _, h => by omega
  | c, N1 + 1, k, v, hv, hk, hN => by
    have hl := h.2.2.2.2.1
    have lx := gq_lt hx
    obtain ⟨-, a26, -⟩ := h.2.2.2.1.2.2.2.2.1 x f hx
    have wf := h.2.2.2.2.2.2.2.2.1 f (List.mem_of_getElem? hx)
    have hn := h.2.1.2.1
    have bp : fPa f ≤ 1000 := by
      have := (wf.2.2.2.2.2.1 (fPa f - 1) (by have := wf.2.2.2.2.1; omega)).2
      omega
    have rv : -1 ≤ v ∧ v < 1000 := by
      rcases hv with e | ⟨j, e, e2, e3⟩ | e <;> omega
    have hlen : (fTx I n f).length = fPa f := by unfold fTx; rw [List.length_map, List.length_range]
    have hdr : m_kindOf_L79 (x : Int) (fTy f : Int) τ (N1 + 1) v (k : Int) = (if ((fPa f : Int) ≤ (k : Int)) ∨ (v = (-1)) then (some v) else (Option.bind (gd (rg v) (if 32 ≤ v then (some (((-1)))) else (Option.bind (m_within (v - 16) ((fTy f : Int) + (2 * (k : Int))) τ) fun y33 => some y33))) fun (v29 : Int) => m_kindOf_L79 (x : Int) (fTy f : Int) τ N1 v29 ((k : Int) + 1))) := by
      rw [m_kindOf_L79, gd_pos (by constructor <;> omega), gd_pos (by omega), Int.toNat_natCast, a26, gd_pos (by omega), gd_pos (by exact fun _ => by omega)]
    rw [hdr]
    cases c with
    | zero =>
      refine ⟨v, by rw [if_pos (Or.inl (by omega))], ?_⟩
      rw [List.drop_of_length_le (by omega)]; rfl
    | succ c =>
      have kt := wf.2.2.2.2.2.1 k (by omega)
      obtain ⟨tt, t1, -, hd⟩ := drop_at (show k < (fTx I n f).length by omega)
      have et : tt = tx I n (fTy f + 2 * k) := by
        unfold fTx at t1
        rw [List.getElem?_map, List.getElem?_range (by omega)] at t1
        exact (Option.some.inj t1).symm
      subst et
      rw [hd]
      by_cases q : v = -1
      · exact ⟨v, by rw [if_pos (Or.inr q)], Or.inl ⟨Or.inl q, q⟩⟩
      · rw [if_neg (by omega), gd_pos (by omega), show (k : Int) + 1 = ((k + 1 : Nat) : Int) by omega]
        rcases hv with e | ⟨j, e, e2, e3⟩ | e
        · exact absurd e q
        · obtain ⟨v2, w1, w2⟩ := m_within_eq h (t := fTy f + 2 * k) kt.1 (p := (j : Int)) (by omega)
          have w1 : m_within (v - 16) ((fTy f : Int) + (2 * (k : Int))) τ = some v2 := by
            rw [show v - 16 = (j : Int) by omega, show (fTy f : Int) + (2 * (k : Int)) = ((fTy f + 2 * k : Nat) : Int) by omega]; exact w1
          obtain ⟨v', u1, u2⟩ := kind_L79 h hx c N1 (k + 1) v2 (w2.cv h.2.2.2.2) (by omega) (by omega)
          refine ⟨v', by rw [if_neg (by omega), w1, bind_some', bind_some']; exact u1, Or.inr ⟨j, e, e2, v2, w2, u2⟩⟩
        · obtain ⟨N1, rfl⟩ : ∃ N', N1 = N' + 1 := ⟨N1 - 1, by omega⟩
          refine ⟨-1, ?_, Or.inl ⟨Or.inr e.1, rfl⟩⟩
          rw [if_pos e.1, bind_some', m_kindOf_L79, gd_pos (by constructor <;> omega), gd_pos (by omega), Int.toNat_natCast, a26, gd_pos (by omega), gd_pos (by exact fun _ => by omega), if_pos (Or.inr rfl)]
theorem m_kindOf_eq (h : RF I n K τ M E V F O R N) {x : Nat} {f : TyF} (hx : F[x]? = some f) : ∃ v, m_kindOf (x : Int) τ = some v ∧ KOf I n M E f v := by
  have hl := h.2.2.2.2.1
  have lx := gq_lt hx
  obtain ⟨a25, a26, -, -, a23, -⟩ := h.2.2.2.1.2.2.2.2.1 x f hx
  have wf := h.2.2.2.2.2.2.2.2.1 f (List.mem_of_getElem? hx)
  have hn := h.2.1.2.1
  have bp : fPa f ≤ 1000 := by
    have := (wf.2.2.2.2.2.1 (fPa f - 1) (by have := wf.2.2.2.2.1; omega)).2
    omega
  have kt : (tkn I n (fTy f)).1 = 1 := (wf.2.2.2.2.2.1 0 (by have := wf.2.2.2.2.1; omega)).1
  have tl := tk_lt h.1 (t := fTy f) (by omega)
  have sc := m_scalar_eq h (t := fTy f) (by omega)
  have sr := scK_rg (tx I n (fTy f))
  unfold m_kindOf
  rw [gd_pos (by constructor <;> omega), Int.toNat_natCast, a25, nm_eq, a26, gd_pos (by omega), sc, gd_pos (by exact fun _ => ok_some _), vv_s, gd_pos (by exact fun _ => by omega)]
  by_cases q : fPa f = 1 ∧ scK (tx I n (fTy f)) ≠ -1
  · exact ⟨_, by rw [if_pos (by omega), bind_some'], Or.inl ⟨q.1, q.2, rfl⟩⟩
  · rw [if_neg (by omega), a23, nm_eq]
    obtain ⟨y0, e0, k0⟩ := m_within_eq h kt (p := (fMs f : Int)) (by omega)
    obtain ⟨v0, e1, k1⟩ := kind_L47 h (a := (x : Int)) kt 10 FU (fMs f : Int) y0 k0 (by omega) (by omega) (by omega) (FU_gt (by decide))
    have cv0 : CVk M v0 := by
      rcases k1 with ⟨p, -, k⟩ | ⟨-, e⟩
      · exact k.cv h.2.2.2.2
      · exact Or.inl e
    obtain ⟨v, e2, k2⟩ := kind_L79 h hx (fPa f - 1) FU 1 v0 cv0 (by have := wf.2.2.2.2.1; omega) (FU_gt (by omega))
    have e2 : m_kindOf_L79 (x : Int) (fTy f : Int) τ FU v0 1 = some v := e2
    exact ⟨v, by rw [e0, bind_some', e1, bind_some', e2], Or.inr ⟨q, v0, k1, k2⟩⟩
end Sa
