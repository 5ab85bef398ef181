set_option maxRecDepth 100000
/-! SCHEMAS, CHECKED: enums, on both sides -/
/-- the numbers of an enum -/
def eNs (V : List TyV) (e : Nat) : List Nat := (V.filter (fun v => decide (v.2.2.2 = e))).map (fun v => v.2.2.1)
/-- an enum is wrong -/
def BEn (V : List TyV) (e : Nat) : Prop := (eNs V e).getD 0 0 ≠ 0 ∨ ¬ (eNs V e).Nodup
/-- a value is wrong, so says the reference -/
def BVx (V : List TyV) (x : Nat) (v : TyV) : Prop := ((∀ u, 0 < x → V[x - 1]? = some u → u.2.2.2 ≠ v.2.2.2) ∧ v.2.2.1 ≠ 0) ∨ ∃ z, z < x ∧ ∃ u, V[z]? = some u ∧ (u.2.2.2 = v.2.2.2 ∧ u.2.2.1 = v.2.2.1)
section S2
variable {y n K sd root a0 : Nat} {I : Nat → Nat} {σ σ' : ST} {τ : TT} {ob : Nat → Prop} {L : Nat → Nat → List Nat} {M : List TyM} {E : List TyE} {V : List TyV} {F : List TyF} {O : List TyO} {R : List TyR} {N : List TyN}
theorem right_L30 {ea lb u : Nat} {w : List Nat} (h1 : sc σ ea = 8) (h2 : sR σ 115 ea = some lb) (h3 : sc σ lb = 102) (h4 : w.length ≤ sN σ lb) (h5 : ∀ q v : Nat, w[q]? = some v → sE σ lb q = (v : Int)) (h6 : ∀ v, v ∈ w → v < 1000000000) (hu : u < w.length) (hw : w.length ≤ 1000) : ∀ (c N1 k : Nat) (f : Int) (A : Prop), Gd f A → k + c = u → c < N1 → ∃ v, et_isRight_L30 ea (u : Int) σ N1 f (k : Int) = some v ∧ Gd v (A ∨ ∃ x, k ≤ x ∧ x < u ∧ w.getD u 0 = w.getD x 0)
  | c, 0, k, f, A, _, _, h => by omega
  | 0, N1 + 1, k, f, A, hf, hk, _ => ⟨f, by rw [et_isRight_L30, gd_pos (by omega), gd_pos (by omega), if_pos (by omega)], hf.cg (ex_no (by omega)).symm⟩
  | c + 1, N1 + 1, k, f, A, hf, hk, hN => by
    obtain ⟨v, e1, e2, -⟩ := drop_at (show k < w.length by omega)
    obtain ⟨v', e1', e2', -⟩ := drop_at hu
    have e3 := h5 k v e1
    have e3' := h5 u v' e1'
    have e4 := h6 v e2
    have e4' := h6 v' e2'
    have eg : w.getD k 0 = v := by rw [List.getD_eq_getElem?_getD, e1]; rfl
    have eg' : w.getD u 0 = v' := by rw [List.getD_eq_getElem?_getD, e1']; rfl
    have ih := fun f' A' hf' => right_L30 h1 h2 h3 h4 h5 h6 hu hw c N1 (k + 1) f' A' hf' (by omega) (by omega)
    have st := ex_st (A := A) (H := fun x => w.getD u 0 = w.getD x 0) (show k < u by omega)
    rw [et_isRight_L30, gd_pos (by omega), gd_pos (by omega), if_neg (by omega), show (k : Int) + 1 = ((k + 1 : Nat) : Int) by omega]
    rcases hf with ⟨e, hA⟩ | ⟨e, hA⟩
    · subst e
      rw [gd_pos (by omega), gd_pos (by exact fun h => absurd rfl h), gd_pos (by exact fun h => absurd rfl h), gd_pos (by exact fun h => absurd rfl h), gd_pos (by exact fun h => absurd rfl h), gd_pos (by exact fun h => absurd rfl h), gd_pos (by exact fun h => absurd rfl h), gd_pos (by exact fun h => absurd rfl h), if_pos (Or.inl rfl), bind_some']
      obtain ⟨v', v1, v2⟩ := ih 0 (A ∨ w.getD u 0 = w.getD k 0) (Or.inl ⟨rfl, Or.inl hA⟩)
      exact ⟨v', v1, v2.cg st⟩
    · subst e
      rw [gd_pos (by omega), gd_pos (by exact fun _ => h1), h2, gd_pos (by exact fun _ h => by cases h), show ad (some lb) = lb from rfl, gd_pos (by exact fun _ => h3), gd_pos (by exact fun _ => by constructor <;> omega), gd_pos (by exact fun _ => by constructor <;> omega), Int.toNat_natCast, Int.toNat_natCast, e3, e3', gd_pos (by exact fun _ => by omega), gd_pos (by exact fun _ => by omega)]
      by_cases q : v' = v
      · rw [if_pos (Or.inr (by omega)), bind_some']
        obtain ⟨v', v1, v2⟩ := ih 0 (A ∨ w.getD u 0 = w.getD k 0) (Or.inl ⟨rfl, Or.inr (by rw [eg, eg']; exact q)⟩)
        exact ⟨v', v1, v2.cg st⟩
      · rw [if_neg (by omega), bind_some']
        obtain ⟨v', v1, v2⟩ := ih 1 (A ∨ w.getD u 0 = w.getD k 0) (Or.inr ⟨rfl, fun h => by
          rcases h with h | h
          · exact hA h
          · rw [eg, eg'] at h; exact q h⟩)
        exact ⟨v', v1, v2.cg st⟩
theorem right_L17 {ea lb la : Nat} {w : List Nat} (h1 : sc σ ea = 8) (h2 : sR σ 115 ea = some lb) (h3 : sc σ lb = 102) (h4 : w.length ≤ sN σ lb) (h5 : ∀ q v : Nat, w[q]? = some v → sE σ lb q = (v : Int)) (h6 : ∀ v, v ∈ w → v < 1000000000) (hw : w.length ≤ 1000) (h7 : sR σ 114 ea = some la) (h8 : sc σ la = 16) (h9 : (sA σ la).length = w.length) : ∀ (c N1 k : Nat) (f : Int) (A : Prop), Gd f A → k + c = w.length → c < N1 → ∃ v, et_isRight_L17 ea σ N1 f (k : Int) = some v ∧ Gd v (A ∨ ∃ u, k ≤ u ∧ u < w.length ∧ ∃ x, 0 ≤ x ∧ x < u ∧ w.getD u 0 = w.getD x 0)
  | c, 0, k, f, A, _, _, h => by omega
  | 0, N1 + 1, k, f, A, hf, hk, _ => ⟨f, by rw [et_isRight_L17, gd_pos h1, h7, bind_some', gd_pos h8, l_sz h8, bind_some', h9, gd_pos (by omega), gd_pos (by omega), if_pos (by omega), gd_pos hf.rgv.2], hf.cg (ex_no (by omega)).symm⟩
  | c + 1, N1 + 1, k, f, A, hf, hk, hN => by
    obtain ⟨v, v1, v2⟩ := right_L30 h1 h2 h3 h4 h5 h6 (show k < w.length by omega) hw k FU 0 f A hf (Nat.zero_add _) (FU_gt (by omega))
    have v1 : et_isRight_L30 ea (k : Int) σ FU f 0 = some v := v1
    obtain ⟨v', w1, w2⟩ := right_L17 h1 h2 h3 h4 h5 h6 hw h7 h8 h9 c N1 (k + 1) v _ v2 (by omega) (by omega)
    refine ⟨v', by rw [et_isRight_L17, gd_pos h1, h7, bind_some', gd_pos h8, l_sz h8, bind_some', h9, gd_pos (by omega), gd_pos (by omega), if_neg (by omega), v1, bind_some', show (k : Int) + 1 = ((k + 1 : Nat) : Int) by omega]; exact w1, w2.cg (ex_st (A := A) (H := fun u => ∃ x, 0 ≤ x ∧ x < u ∧ w.getD u 0 = w.getD x 0) (show k < w.length by omega))⟩
theorem nd_nat {w : List Nat} : (∃ u, 0 ≤ u ∧ u < w.length ∧ ∃ x, 0 ≤ x ∧ x < u ∧ w.getD u 0 = w.getD x 0) ↔ ¬ w.Nodup := by
  unfold List.Nodup
  rw [List.pairwise_iff_getElem]
  have gd' : ∀ x (hx : x < w.length), w.getD x 0 = w[x] := fun x hx => by rw [List.getD_eq_getElem?_getD, List.getElem?_eq_getElem hx]; rfl
  constructor
  · intro ⟨u, _, hu, x, _, hx, e⟩ h
    rw [gd' u hu, gd' x (by omega)] at e
    exact h x u (by omega) hu hx e.symm
  · intro h
    apply Classical.byContradiction
    intro q
    apply h
    intro i j hi hj hij e
    exact q ⟨j, Nat.zero_le _, hj, i, Nat.zero_le _, hij, by rw [gd' j hj, gd' i hi]; exact e.symm⟩
theorem isRight_eq (h : SFr y σ I n ob L sd root M E V F O R N a0) {j : Nat} {e : TyE} (he : E[j]? = some e) : ∃ v, et_isRight e.1 σ = some v ∧ Gd v (BEn V j) := by
  obtain ⟨H, Q, B, W, C, -⟩ := h
  obtain ⟨oe, e8, -⟩ := B.2.2.1 j e he
  obtain ⟨lb, lb1, lb2, lb3, lb4, -, lb5⟩ := H.get (k := 115) oe (by decide) e8
  obtain ⟨la, la1, la2, la3, la4, la5, -⟩ := H.get (k := 114) oe (by decide) e8
  have lb5 := lb5 rfl
  have la5 := la5 rfl
  obtain ⟨q114, q115⟩ := Q.2.2.2 j e he
  have hl := W.1
  have q115 : L 115 e.1 = eNs V j := q115
  have l115 : (eNs V j).length ≤ 40 := by
    unfold eNs
    rw [List.length_map]
    exact Nat.le_trans (List.length_filter_le _ _) (by omega)
  have hlt : ∀ v, v ∈ eNs V j → v < 1000000000 := fun v hv => by
    obtain ⟨r, r1, r2⟩ := List.mem_map.mp hv
    rw [← r2]; exact (W.2.2.2.1 r (List.mem_filter.mp r1).1).2.1
  rw [q115] at lb5
  have s0 : sE σ lb 0 = (((eNs V j).getD 0 0 : Nat) : Int) ∧ (eNs V j).getD 0 0 < 1000000000 := by
    cases c : eNs V j with
    | nil =>
      rw [c] at lb5
      exact ⟨lb5.2.2 0 (Nat.le_refl _), by decide⟩
    | cons v t =>
      refine ⟨lb5.2.1 0 v (by rw [c]; rfl), ?_⟩
      exact hlt v (by rw [c]; exact List.mem_cons_self)
  have la9 : (sA σ la).length = (eNs V j).length := by
    rw [la5.1, q114]
    unfold eNs
    rw [List.length_map, List.length_map]
  obtain ⟨v0, e0, g0⟩ : ∃ v0 : Int, (gd (rg (sE σ lb (0 : Int).toNat)) (if (sE σ lb (0 : Int).toNat) = 0 then (some 1) else (some 0))) = some v0 ∧ Gd v0 ((eNs V j).getD 0 0 ≠ 0) := by
    rw [show (0 : Int).toNat = 0 from rfl, s0.1, gd_pos (by omega)]
    by_cases c : (eNs V j).getD 0 0 = 0
    · exact ⟨1, if_pos (by rw [c]; rfl), Or.inr ⟨rfl, fun h => h c⟩⟩
    · exact ⟨0, if_neg (by omega), Or.inl ⟨rfl, c⟩⟩
  obtain ⟨v1, e1, g1⟩ := right_L17 (σ := σ) (ea := e.1) (lb := lb) (la := la) (w := eNs V j) e8 lb1 lb4 (by rw [lb5.1]; exact l115) lb5.2.1 hlt (by omega) la1 la4 la9 _ FU 0 v0 _ g0 (Nat.zero_add _) (FU_gt (by omega))
  have e1 : et_isRight_L17 e.1 σ FU v0 0 = some v1 := e1
  refine ⟨v1, ?_, g1.cg ?_⟩
  · unfold et_isRight
    have hib : ib 0 (sN σ lb) := by rw [lb5.1]; constructor <;> decide
    rw [gd_pos e8, lb1, bind_some', gd_pos (show sc σ lb = 102 from lb4), gd_pos hib, e0, bind_some', e1]
  · rw [nd_nat]; rfl
theorem enums_L (h : SFr y σ I n ob L sd root M E V F O R N a0) {bb : Nat × Nat} {u1 u2 : Int} : ∀ (c N1 j : Nat) (f : Int) (A : Prop), Gd f A → j + c = E.length → c < N1 → ∃ v, ck_fault_L104 bb a0 u1 u2 σ N1 f (j : Int) = some v ∧ Gd v (A ∨ ∃ x, j ≤ x ∧ x < E.length ∧ BEn V x)
  | c, 0, j, f, A, _, _, h => by omega
  | c, N1 + 1, j, f, A, hf, hj, hN => by
    obtain ⟨H, Q, B, W, C, k1, k2, k3⟩ := id h
    have hl := W.1
    have d2 : sc σ sd = 2 := B.1.2.2.1
    obtain ⟨l, l1, l2, l3, l4, l5, -⟩ := H.get (k := 18) B.1.1 (by decide) d2
    have l4 : sc σ l = 16 := l4
    have l5 := l5 rfl
    have eL : (L 18 sd).length = E.length := by rw [Q.1.2.1, List.length_map]
    cases c with
    | zero => exact ⟨f, by rw [ck_fault_L104, gd_pos k1, k2, bind_some', gd_pos d2, l1, bind_some', gd_pos l4, l_sz l4, bind_some', l5.1, eL, gd_pos (by omega), gd_pos (by omega), if_pos (by omega)], hf.cg (ex_no (by omega)).symm⟩
    | succ c =>
      obtain ⟨e, he, hmem, -⟩ := drop_at (show j < E.length by omega)
      obtain ⟨oe, e8, -⟩ := B.2.2.1 j e he
      have eg : l_get l (j : Int) σ = some (some e.1) := by
        rw [l_gt l4 (i := j) (by rw [l5.1, eL]; omega) rfl, l5.1, Q.1.2.1, List.getD_eq_getElem?_getD, List.getElem?_map, he]; rfl
      obtain ⟨vr, er, gr⟩ := isRight_eq h he
      have ih := fun f' A' hf' => enums_L h (bb := bb) (u1 := u1) (u2 := u2) c N1 (j + 1) f' A' hf' (by omega) (by omega)
      have st := ex_st (A := A) (H := fun x => BEn V x) (show j < E.length by omega)
      rw [ck_fault_L104, gd_pos k1, k2, bind_some', gd_pos d2, l1, bind_some', gd_pos l4, l_sz l4, bind_some', l5.1, eL, gd_pos (by omega), gd_pos (by omega), if_neg (by omega), show (j : Int) + 1 = ((j + 1 : Nat) : Int) by omega]
      rcases hf with ⟨q, hA⟩ | ⟨q, hA⟩
      · subst q
        rw [gd_pos (by omega), gd_pos (by exact fun h => absurd rfl h), gd_pos (by exact fun h => absurd rfl h), gd_pos (by exact fun h => absurd rfl h), gd_pos (by exact fun h => absurd rfl h), gd_pos (by exact fun h => absurd rfl h), if_pos (Or.inl rfl), bind_some']
        obtain ⟨v', v1, v2⟩ := ih 0 (A ∨ BEn V j) (Or.inl ⟨rfl, Or.inl hA⟩)
        exact ⟨v', v1, v2.cg st⟩
      · subst q
        rw [gd_pos (by omega), eg, gd_pos (by exact fun _ => ok_some _), vo_s, gd_pos (by exact fun _ h => by cases h), show ad (some e.1) = e.1 from rfl, gd_pos (by exact fun _ => e8), er, gd_pos (by exact fun _ => ok_some _), vv_s, gd_pos (by exact fun _ => gr.rgv.1)]
        rcases gr with ⟨q, hB⟩ | ⟨q, hB⟩
        · rw [if_pos (Or.inr q), bind_some']
          obtain ⟨v', v1, v2⟩ := ih 0 (A ∨ BEn V j) (Or.inl ⟨rfl, Or.inr hB⟩)
          exact ⟨v', v1, v2.cg st⟩
        · rw [if_neg (by omega), bind_some']
          obtain ⟨v', v1, v2⟩ := ih 1 (A ∨ BEn V j) (Or.inr ⟨rfl, fun h => by
            rcases h with h | h
            · exact hA h
            · exact hB h⟩)
          exact ⟨v', v1, v2.cg st⟩
/-! the reference -/
theorem wen_L65 (h : RF I n K τ M E V F O R N) {x : Nat} {f : TyV} (hx : V[x]? = some f) : ∀ (c N1 j : Nat) (v : Int) (A : Prop), Fg v A → j + c = x → c < N1 → ∃ v', m_hasWrongEnum_L65 (x : Int) τ N1 v (j : Int) = some v' ∧ Fg v' (A ∨ ∃ z, j ≤ z ∧ z < x ∧ ∃ u, V[z]? = some u ∧ (u.2.2.2 = f.2.2.2 ∧ u.2.2.1 = f.2.2.1))
  | c, 0, j, v, A, _, _, h => by omega
  | 0, N1 + 1, j, v, A, hf, hj, _ => by
    have hl := h.2.2.2.2.1
    have hxl := gq_lt hx
    exact ⟨v, by rw [m_hasWrongEnum_L65, gd_pos (by omega), gd_pos (by omega), if_pos (by omega)], hf.cg (ex_no (by omega)).symm⟩
  | c + 1, N1 + 1, j, v, A, hf, hj, hN => by
    have hl := h.2.2.2.2.1
    have hxl := gq_lt hx
    obtain ⟨g, hg, hmem, -⟩ := drop_at (show j < V.length by omega)
    obtain ⟨-, a4, a5⟩ := h.2.2.2.1.2.2.2.1 j g hg
    obtain ⟨-, b4, b5⟩ := h.2.2.2.1.2.2.2.1 x f hx
    have w := h.2.2.2.2.2.2.2.1 g hmem
    have wf := h.2.2.2.2.2.2.2.1 f (List.mem_of_getElem? hx)
    have ih := fun f' A' hf' => wen_L65 h hx c N1 (j + 1) f' A' hf' (by omega) (by omega)
    have st := ex_st (A := A) (H := fun z => ∃ u, V[z]? = some u ∧ (u.2.2.2 = f.2.2.2 ∧ u.2.2.1 = f.2.2.1)) (show j < x by omega)
    rw [m_hasWrongEnum_L65, gd_pos (by omega), gd_pos (by omega), if_neg (by omega), show (j : Int) + 1 = ((j + 1 : Nat) : Int) by omega]
    rcases hf with ⟨e, hA⟩ | ⟨e, hA⟩
    · subst e
      rw [gd_pos (by omega), if_pos rfl, gd_pos (by constructor <;> omega), gd_pos (by constructor <;> omega), Int.toNat_natCast, Int.toNat_natCast, a5, b5, a4, b4, gd_pos (by omega), gd_pos (by omega), gd_pos (by exact fun _ => by omega), gd_pos (by exact fun _ => by omega)]
      by_cases q : g.2.2.2 = f.2.2.2 ∧ g.2.2.1 = f.2.2.1
      · rw [if_pos (by omega), bind_some']
        obtain ⟨v', v1, v2⟩ := ih 1 (A ∨ ∃ u, V[j]? = some u ∧ (u.2.2.2 = f.2.2.2 ∧ u.2.2.1 = f.2.2.1)) (Or.inr ⟨rfl, Or.inr ⟨g, hg, q⟩⟩)
        exact ⟨v', v1, v2.cg st⟩
      · rw [if_neg (by omega), bind_some']
        obtain ⟨v', v1, v2⟩ := ih 0 (A ∨ ∃ u, V[j]? = some u ∧ (u.2.2.2 = f.2.2.2 ∧ u.2.2.1 = f.2.2.1)) (Or.inl ⟨rfl, fun w => by
          rcases w with w | ⟨r', w1, w2⟩
          · exact hA w
          · rw [hg] at w1
            have e := Option.some.inj w1
            subst e
            exact q w2⟩)
        exact ⟨v', v1, v2.cg st⟩
    · subst e
      rw [gd_pos (by omega), if_neg (by omega), bind_some']
      obtain ⟨v', v1, v2⟩ := ih 1 (A ∨ ∃ u, V[j]? = some u ∧ (u.2.2.2 = f.2.2.2 ∧ u.2.2.1 = f.2.2.1)) (Or.inr ⟨rfl, Or.inl hA⟩)
      exact ⟨v', v1, v2.cg st⟩
theorem wen_L4 (h : RF I n K τ M E V F O R N) : ∀ (c N1 j : Nat) (v : Int) (A : Prop), Fg v A → j + c = V.length → c < N1 → ∃ v', m_hasWrongEnum_L4 τ N1 v (j : Int) = some v' ∧ Fg v' (A ∨ ∃ x, j ≤ x ∧ x < V.length ∧ ∃ f, V[x]? = some f ∧ BVx V x f)
  | c, 0, j, v, A, _, _, h => by omega
  | 0, N1 + 1, j, v, A, hf, hj, _ => by
    have hC := h.2.2.2.1.1
    have hl := h.2.2.2.2.1
    exact ⟨v, by rw [m_hasWrongEnum_L4, gd_pos (by omega), hC.2.2.1, gd_pos (by omega), if_pos (by omega), gd_pos hf.rgv.2], hf.cg (ex_no (by omega)).symm⟩
  | c + 1, N1 + 1, j, v, A, hf, hj, hN => by
    have hC := h.2.2.2.1.1
    have hl := h.2.2.2.2.1
    obtain ⟨f, hx, hmem, -⟩ := drop_at (show j < V.length by omega)
    obtain ⟨-, b4, b5⟩ := h.2.2.2.1.2.2.2.1 j f hx
    have wf := h.2.2.2.2.2.2.2.1 f hmem
    obtain ⟨w0, d0, k0⟩ : ∃ w0 : Int, (gd (¬ ((j : Int) = 0) → ib ((j : Int) - 1) 40) (gd (¬ ((j : Int) = 0) → ib (j : Int) 40) (gd (¬ ((j : Int) = 0) → rg (tA τ 21 ((j : Int) - 1).toNat)) (gd (¬ ((j : Int) = 0) → rg (tA τ 21 (j : Int).toNat)) (if ((j : Int) = 0) ∨ (¬ ((tA τ 21 ((j : Int) - 1).toNat) = (tA τ 21 (j : Int).toNat))) then (some 1) else (some 0)))))) = some w0 ∧ Fg w0 (∀ u, 0 < j → V[j - 1]? = some u → u.2.2.2 ≠ f.2.2.2) := by
      rw [gd_pos (by exact fun _ => by constructor <;> omega), gd_pos (by exact fun _ => by constructor <;> omega), Int.toNat_natCast, b5]
      by_cases j0 : j = 0
      · subst j0
        rw [gd_pos (by exact fun h => absurd rfl h), gd_pos (by exact fun h => absurd rfl h)]
        exact ⟨1, if_pos (Or.inl rfl), Or.inr ⟨rfl, fun u h => by omega⟩⟩
      · obtain ⟨g, hg, hgm, -⟩ := drop_at (show j - 1 < V.length by omega)
        obtain ⟨-, -, a5⟩ := h.2.2.2.1.2.2.2.1 (j - 1) g hg
        have wg := h.2.2.2.2.2.2.2.1 g hgm
        rw [show ((j : Int) - 1).toNat = j - 1 by omega, a5, gd_pos (by exact fun _ => by omega), gd_pos (by exact fun _ => by omega)]
        by_cases q : g.2.2.2 = f.2.2.2
        · exact ⟨0, if_neg (by omega), Or.inl ⟨rfl, fun w => w g (by omega) hg q⟩⟩
        · refine ⟨1, if_pos (by omega), Or.inr ⟨rfl, fun u _ hu => ?_⟩⟩
          rw [hg] at hu
          have e := Option.some.inj hu
          subst e
          exact q
    obtain ⟨v0, e0, g0⟩ : ∃ v0 : Int, (gd (rg v) (if v = 0 then (gd (rg w0) (gd (¬ (w0 = 0) → ib (j : Int) 40) (gd (¬ (w0 = 0) → rg (tA τ 20 (j : Int).toNat)) (if (w0 = 0) ∨ ((tA τ 20 (j : Int).toNat) = 0) then (some 0) else (some 1))))) else (some 1))) = some v0 ∧ Fg v0 (A ∨ ((∀ u, 0 < j → V[j - 1]? = some u → u.2.2.2 ≠ f.2.2.2) ∧ f.2.2.1 ≠ 0)) := by
      rw [gd_pos hf.rgv.1, Int.toNat_natCast, b4]
      rcases hf with ⟨e, hA⟩ | ⟨e, hA⟩
      · subst e
        rw [if_pos rfl, gd_pos k0.rgv.1, gd_pos (by exact fun _ => by constructor <;> omega), gd_pos (by exact fun _ => by omega)]
        rcases k0 with ⟨e, hB⟩ | ⟨e, hB⟩
        · refine ⟨0, if_pos (Or.inl e), Or.inl ⟨rfl, fun q => ?_⟩⟩
          rcases q with q | q
          · exact hA q
          · exact hB q.1
        · by_cases q : f.2.2.1 = 0
          · refine ⟨0, if_pos (Or.inr (by omega)), Or.inl ⟨rfl, fun w => ?_⟩⟩
            rcases w with w | w
            · exact hA w
            · exact w.2 q
          · exact ⟨1, if_neg (by omega), Or.inr ⟨rfl, Or.inr ⟨hB, q⟩⟩⟩
      · subst e
        exact ⟨1, if_neg (by omega), Or.inr ⟨rfl, Or.inl hA⟩⟩
    obtain ⟨v1, e1, g1⟩ := wen_L65 h hx j FU 0 v0 _ g0 (Nat.zero_add _) (FU_gt (by omega))
    have e1 : m_hasWrongEnum_L65 (j : Int) τ FU v0 0 = some v1 := e1
    have g3 : Fg v1 (A ∨ ∃ f, V[j]? = some f ∧ BVx V j f) := g1.cg (by
      have k2 : (∃ z, 0 ≤ z ∧ z < j ∧ ∃ u, V[z]? = some u ∧ (u.2.2.2 = f.2.2.2 ∧ u.2.2.1 = f.2.2.1)) ↔ ∃ z, z < j ∧ ∃ u, V[z]? = some u ∧ (u.2.2.2 = f.2.2.2 ∧ u.2.2.1 = f.2.2.1) := by
        constructor
        · intro ⟨z, _, z1, z2⟩
          exact ⟨z, z1, z2⟩
        · intro ⟨z, z1, z2⟩
          exact ⟨z, Nat.zero_le _, z1, z2⟩
      have k3 : (∃ f, V[j]? = some f ∧ BVx V j f) ↔ BVx V j f := by
        constructor
        · intro ⟨f', q1, q2⟩
          rw [hx] at q1
          have e := Option.some.inj q1
          subst e
          exact q2
        · intro q
          exact ⟨f, hx, q⟩
      rw [k2, k3, or_assoc]; rfl)
    obtain ⟨v3, e3, g4⟩ := wen_L4 h c N1 (j + 1) v1 _ g3 (by omega) (by omega)
    refine ⟨v3, ?_, g4.cg (ex_st (A := A) (H := fun x => ∃ f, V[x]? = some f ∧ BVx V x f) (show j < V.length by omega))⟩
    rw [m_hasWrongEnum_L4, gd_pos (by omega), hC.2.2.1, gd_pos (by omega), if_neg (by omega), d0, bind_some', e0, bind_some', e1, bind_some', show (j : Int) + 1 = ((j + 1 : Nat) : Int) by omega]
    exact e3
end S2
