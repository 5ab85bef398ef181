set_option maxRecDepth 100000
/-! SCHEMAS, CHECKED: names in JSON, by the system -/
section S6
variable {y n sd root a0 : Nat} {I : Nat → Nat} {σ σ' : ST} {ob : Nat → Prop} {L : Nat → Nat → List Nat} {M : List TyM} {E : List TyE} {V : List TyV} {F : List TyF} {O : List TyO} {R : List TyR} {N : List TyN}
theorem SFr.minj (h : SFr y σ I n ob L sd root M E V F O R N a0) {j j' : Nat} {e e' : TyM} (h1 : M[j]? = some e) (h2 : M[j']? = some e') (q : e'.1 = e.1) : j' = j := by
  obtain ⟨-, -, -, b3, -⟩ := h.2.2.1.2.1 j e h1
  obtain ⟨-, -, -, c3, -⟩ := h.2.2.1.2.1 j' e' h2
  rw [q, b3] at c3
  omega
theorem SFr.flist (h : SFr y σ I n ob L sd root M E V F O R N a0) : ∃ l, sR σ 19 sd = some l ∧ sc σ l = 16 ∧ (sA σ l).length = F.length ∧ ∀ (x : Nat) (f : TyF), F[x]? = some f → l_get l (x : Int) σ = some (some f.1) := by
  obtain ⟨H, Q, B, W, C, k1, k2, k3⟩ := h
  obtain ⟨l, l1, l2, l3, l4, l5, -⟩ := H.get (k := 19) B.1.1 (by decide) B.1.2.2.1
  have l5 := l5 rfl
  have eL : (L 19 sd).length = F.length := by rw [Q.1.2.2, List.length_map]
  refine ⟨l, l1, l4, by rw [l5.1]; exact eL, fun x f hf => ?_⟩
  rw [l_gt l4 (i := x) (by rw [l5.1, eL]; exact gq_lt hf) rfl, l5.1, Q.1.2.2, List.getD_eq_getElem?_getD, List.getElem?_map, hf]; rfl
theorem sjson_L20 (h : SFr y σ I n ob L sd root M E V F O R N a0) {u : Nat} {f : TyF} (hu : F[u]? = some f) : ∀ (c N1 k : Nat) (v : Int) (A : Prop), Fg v A → k + c = u → c < N1 → ∃ v', ck_jsonClashes_L20 a0 (u : Int) σ N1 v (k : Int) = some v' ∧ Fg v' (A ∨ ∃ z, k ≤ z ∧ z < u ∧ JCx I n F u z)
  | c, 0, k, v, A, _, _, h => by omega
  | 0, N1 + 1, k, v, A, hf, hk, _ => by
    have hl := h.2.2.2.1.1
    have := gq_lt hu
    exact ⟨v, by rw [ck_jsonClashes_L20, gd_pos (by omega), gd_pos (by omega), if_pos (by omega)], hf.cg (ex_no (by omega)).symm⟩
  | c + 1, N1 + 1, k, v, A, hf, hk, hN => by
    have hl := h.2.2.2.1.1
    have lu := gq_lt hu
    obtain ⟨g, hg, gm, -⟩ := drop_at (show k < F.length by omega)
    have fm := List.mem_of_getElem? hu
    obtain ⟨l, l1, l4, l5, l6⟩ := h.flist
    have g1 := l6 u f hu
    have g2 := l6 k g hg
    obtain ⟨mf, mf1, mf2, -⟩ := h.ms fm
    obtain ⟨mg, mg1, mg2, -⟩ := h.ms gm
    have ih := fun f' A' hf' => sjson_L20 h hu c N1 (k + 1) f' A' hf' (by omega) (by omega)
    have st := ex_st (A := A) (H := fun z => JCx I n F u z) (show k < u by omega)
    have inj : mf.1 = mg.1 ↔ fMs f = fMs g := by
      constructor
      · intro e; exact h.minj mg1 mf1 e
      · intro e
        rw [e, mg1] at mf1
        have := Option.some.inj mf1
        rw [this]
    obtain ⟨H, Q, B, W, C, k1, k2, k3⟩ := h
    obtain ⟨-, f9, -, -, ⟨rf, rf1, rf2⟩, -⟩ := B.2.2.2.1 f fm
    obtain ⟨-, g9, -, -, ⟨rg', rg1, rg2⟩, -⟩ := B.2.2.2.1 g gm
    have d2 : sc σ sd = 2 := B.1.2.2.1
    have rs : r_same rf (some rg') σ = some (if jsn (tx I n (fNm f)) = jsn (tx I n (fNm g)) then (1 : Int) else 0) := by
      have rs := r_sm (σ := σ) rf2.2.2.1 rg2.2.2.1
      rw [rf2.2.2.2, rg2.2.2.2] at rs
      exact rs
    have hJ : JCx I n F u k ↔ (fMs f = fMs g ∧ jsn (tx I n (fNm f)) = jsn (tx I n (fNm g))) := by
      constructor
      · intro ⟨f', g', q1, q2, q3⟩
        rw [hu] at q1
        rw [hg] at q2
        have e1 := Option.some.inj q1
        have e2 := Option.some.inj q2
        subst e1 e2
        exact q3
      · intro q
        exact ⟨f, g, hu, hg, q⟩
    rw [ck_jsonClashes_L20, gd_pos (by omega), gd_pos (by omega), if_neg (by omega), show (k : Int) + 1 = ((k + 1 : Nat) : Int) by omega]
    rcases hf with ⟨e, hA⟩ | ⟨e, hA⟩
    · subst e
      rw [gd_pos (by omega), if_pos rfl, gd_pos k1, k2, bind_some', gd_pos d2, l1, bind_some', gd_pos l4, g1, bind_some', bind_some', gd_pos f9, g2, bind_some', bind_some', gd_pos g9, gd_pos (by exact fun _ => ok_some _), vo_s, gd_pos (by exact fun _ h => by cases h), show ad (some f.1) = f.1 from rfl, gd_pos (by exact fun _ => f9), gd_pos (by exact fun _ => ok_some _), vo_s, gd_pos (by exact fun _ h => by cases h), show ad (some g.1) = g.1 from rfl, gd_pos (by exact fun _ => g9), rf1, gd_pos (by exact fun _ h => by cases h), show ad (some rf) = rf from rfl, gd_pos (by exact fun _ => rf2.2.2.1), rg1, rs, gd_pos (by exact fun _ => ok_some _), vv_s, gd_pos (by exact fun _ => by split <;> omega), mf2, mg2]
      by_cases q : JCx I n F u k
      · have q' := hJ.mp q
        rw [if_pos (show some mf.1 = some mg.1 ∧ ¬ (if jsn (tx I n (fNm f)) = jsn (tx I n (fNm g)) then (1 : Int) else 0) = 0 from ⟨by rw [inj.mpr q'.1], tis_i.mpr q'.2⟩), bind_some']
        obtain ⟨v', v1, v2⟩ := ih 1 (A ∨ JCx I n F u k) (Or.inr ⟨rfl, Or.inr q⟩)
        exact ⟨v', v1, v2.cg st⟩
      · rw [if_neg (fun w => q (hJ.mpr ⟨inj.mp (Option.some.inj w.1), tis_i.mp w.2⟩)), bind_some']
        obtain ⟨v', v1, v2⟩ := ih 0 (A ∨ JCx I n F u k) (Or.inl ⟨rfl, fun w => by
          rcases w with w | w
          · exact hA w
          · exact q w⟩)
        exact ⟨v', v1, v2.cg st⟩
    · subst e
      rw [gd_pos (by omega), if_neg (by omega), bind_some']
      obtain ⟨v', v1, v2⟩ := ih 1 (A ∨ JCx I n F u k) (Or.inr ⟨rfl, Or.inl hA⟩)
      exact ⟨v', v1, v2.cg st⟩
theorem sjson_L4 (h : SFr y σ I n ob L sd root M E V F O R N a0) : ∀ (c N1 j : Nat) (v : Int) (A : Prop), Fg v A → j + c = F.length → c < N1 → ∃ v', ck_jsonClashes_L4 a0 σ N1 v (j : Int) = some v' ∧ Fg v' (A ∨ ∃ x, j ≤ x ∧ x < F.length ∧ ∃ z, 0 ≤ z ∧ z < x ∧ JCx I n F x z)
  | c, 0, j, v, A, _, _, h => by omega
  | c, N1 + 1, j, v, A, hf, hj, hN => by
    obtain ⟨l, l1, l4, l5, l6⟩ := h.flist
    obtain ⟨H, Q, B, W, C, k1, k2, k3⟩ := id h
    have hl := W.1
    have d2 : sc σ sd = 2 := B.1.2.2.1
    cases c with
    | zero => exact ⟨v, by rw [ck_jsonClashes_L4, gd_pos k1, k2, bind_some', gd_pos d2, l1, bind_some', gd_pos l4, l_sz l4, bind_some', l5, gd_pos (by omega), gd_pos (by omega), if_pos (by omega), gd_pos hf.rgv.2], hf.cg (ex_no (by omega)).symm⟩
    | succ c =>
      obtain ⟨f, hu, -, -⟩ := drop_at (show j < F.length by omega)
      obtain ⟨v1, e1, g1⟩ := sjson_L20 h hu j FU 0 v A hf (Nat.zero_add _) (FU_gt (by omega))
      have e1 : ck_jsonClashes_L20 a0 (j : Int) σ FU v 0 = some v1 := e1
      obtain ⟨v', w1, w2⟩ := sjson_L4 h c N1 (j + 1) v1 _ g1 (by omega) (by omega)
      refine ⟨v', by rw [ck_jsonClashes_L4, gd_pos k1, k2, bind_some', gd_pos d2, l1, bind_some', gd_pos l4, l_sz l4, bind_some', l5, gd_pos (by omega), gd_pos (by omega), if_neg (by omega), e1, bind_some', show (j : Int) + 1 = ((j + 1 : Nat) : Int) by omega]; exact w1, w2.cg (ex_st (A := A) (H := fun x => ∃ z, 0 ≤ z ∧ z < x ∧ JCx I n F x z) (show j < F.length by omega))⟩
theorem sjson_eq (h : SFr y σ I n ob L sd root M E V F O R N a0) : ∃ v, ck_jsonClashes a0 σ = some v ∧ Fg v (∃ x, x < F.length ∧ ∃ z, z < x ∧ JCx I n F x z) := by
  have hl := h.2.2.2.1.1
  obtain ⟨v, e, g⟩ := sjson_L4 h F.length FU 0 0 False (Or.inl ⟨rfl, fun h => h⟩) (Nat.zero_add _) (FU_gt (by omega))
  refine ⟨v, e, g.cg (ex_0.trans ?_)⟩
  constructor
  · intro ⟨x, x1, z, _, z1, z2⟩
    exact ⟨x, x1, z, z1, z2⟩
  · intro ⟨x, x1, z, z1, z2⟩
    exact ⟨x, x1, z, Nat.zero_le _, z1, z2⟩
end S6
