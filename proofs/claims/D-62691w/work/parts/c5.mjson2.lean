set_option maxRecDepth 100000
/-! SCHEMAS, CHECKED: names in JSON, by the reference -/
section S5
variable {I : Nat → Nat} {n K : Nat} {τ τ' : TT} {M : List TyM} {E : List TyE} {V : List TyV} {F : List TyF} {O : List TyO} {R : List TyR} {N : List TyN}
theorem wI_ext {a b : List UInt8} (hl : a.length = b.length) : a = b ↔ ∀ x, x < a.length → wI a x = wI b x := by
  constructor
  · intro e x _; rw [e]
  · intro h
    refine List.ext_getElem hl (fun i h1 h2 => ?_)
    have := h i h1
    unfold wI at this
    rw [List.getD_eq_getElem?_getD, List.getD_eq_getElem?_getD, List.getElem?_eq_getElem h1, List.getElem?_eq_getElem h2] at this
    exact UInt8.toNat_inj.mp this
theorem sj_L33 {a b : List UInt8} (ha : Arr τ 41 a) (hb : Arr τ 42 b) (hl : a.length = b.length) (h64 : a.length ≤ 24) : ∀ (c N j : Nat), j + c = a.length → c + 1 < N → (∀ x, x < j → wI a x = wI b x) → m_sameJson_L33 (a.length : Int) τ N 1 (j : Int) = some (if a = b then 1 else 0, τ)
  | c, 0, j, _, h, _ => by omega
  | 0, N + 1, j, hj, _, hp => by
    rw [m_sameJson_L33, gd_pos (by omega), gd_pos (by omega), gd_pos (by exact fun _ => by omega), if_pos (Or.inl (by omega)), gd_pos (by decide), if_pos ((wI_ext hl).mpr (fun x hx => hp x (by omega)))]
  | c + 1, N + 1, j, hj, hN, hp => by
    have i1 := wI_lt a j
    have i2 := wI_lt b j
    have e1 := ha j (by omega)
    have e2 := hb j (by omega)
    rw [m_sameJson_L33, gd_pos (by omega), gd_pos (by omega), gd_pos (by exact fun _ => by omega), if_neg (by omega), gd_pos (by constructor <;> omega), Int.toNat_natCast, e1, e2, gd_pos (by omega), gd_pos (by omega), show (j : Int) + 1 = ((j + 1 : Nat) : Int) by omega]
    by_cases c1 : wI a j = wI b j
    · rw [if_pos (by omega), bind_some']
      exact sj_L33 ha hb hl h64 c N (j + 1) (by omega) (by omega) (fun x hx => by
        by_cases e : x = j
        · rw [e]; exact c1
        · exact hp x (by omega))
    · obtain ⟨N, rfl⟩ : ∃ N', N = N' + 1 := ⟨N - 1, by omega⟩
      rw [if_neg (by omega), bind_some', m_sameJson_L33, gd_pos (by omega), gd_pos (by omega), gd_pos (by exact fun _ => by omega), if_pos (Or.inr rfl), gd_pos (by decide), if_neg (fun q => c1 ((wI_ext hl).mp q j (by omega)))]
theorem RF.tf (h : RF I n K τ M E V F O R N) (f : TF [28, 41, 42] τ τ') : RF I n K τ' M E V F O R N := by
  obtain ⟨h1, ⟨a1, a2, a3, a4⟩, h3, h4, h5⟩ := h
  have q : ∀ k, k ∉ [28, 41, 42] → tI τ' k = tI τ k ∧ tA τ' k = tA τ k := fun k hk => ⟨(f k hk).1, (f k hk).2.2⟩
  refine ⟨h1, ⟨by rw [(q 5 (by decide)).1]; exact a1, a2, fun k hk => by rw [(q 8 (by decide)).2]; exact a3 k hk, a4⟩, fun j hj => ?_, ?_, h5⟩
  · obtain ⟨b1, b2, b3⟩ := h3 j hj
    exact ⟨by rw [(q 9 (by decide)).2]; exact b1, by rw [(q 10 (by decide)).2]; exact b2, by rw [(q 11 (by decide)).2]; exact b3⟩
  · unfold TPS
    rw [(q 35 (by decide)).1, (q 36 (by decide)).1, (q 37 (by decide)).1, (q 38 (by decide)).1, (q 39 (by decide)).1, (q 40 (by decide)).1, (q 15 (by decide)).2, (q 16 (by decide)).2, (q 17 (by decide)).2, (q 18 (by decide)).2, (q 19 (by decide)).2, (q 20 (by decide)).2, (q 21 (by decide)).2, (q 22 (by decide)).2, (q 23 (by decide)).2, (q 24 (by decide)).2, (q 25 (by decide)).2, (q 26 (by decide)).2, (q 27 (by decide)).2, (q 29 (by decide)).2, (q 30 (by decide)).2, (q 31 (by decide)).2, (q 32 (by decide)).2, (q 33 (by decide)).2, (q 34 (by decide)).2]
    exact h4
theorem RF.tf2 (h : RF I n K τ M E V F O R N) (f : TF [41, 42] τ τ') : RF I n K τ' M E V F O R N := h.tf (f.mono (by decide))
theorem tx_len {t : Nat} (h : (tkn I n t).1 = 1) : (tx I n t).length ≤ 24 := by
  unfold tx tkX
  rw [cut_len]; exact word_len h
theorem RF.tok (h : RF I n K τ M E V F O R N) {t : Nat} (ht : (tkn I n t).1 = 1) : Tok τ (t : Int) (tx I n t) := by
  have l1 := tk_lt h.1 (t := t) (by omega)
  have hK := h.1.1
  have hn := h.2.1.2.1
  obtain ⟨-, b2, b3⟩ := h.2.2.1 t (by omega)
  have bd := tkn_bd I n t
  have el : (tx I n t).length = (tkn I n t).2.2 - (tkn I n t).2.1 := by unfold tx tkX; rw [cut_len]
  refine ⟨t, (tkn I n t).2.1, rfl, by omega, by rw [el]; exact b3, b2, by rw [el]; omega, fun j hj => ?_⟩
  rw [el] at hj
  rw [h.2.1.2.2.1 _ (by omega)]
  unfold tx tkX
  rw [cut_at h.2.1.2.2.2 hj]
theorem m_sameJson_eq (h : RF I n K τ M E V F O R N) {x z : Nat} {f g : TyF} (hx : F[x]? = some f) (hz : F[z]? = some g) : ∃ τ', m_sameJson (x : Int) (z : Int) τ = some (if jsn (tx I n (fNm f)) = jsn (tx I n (fNm g)) then 1 else 0, τ') ∧ TF [41, 42] τ τ' := by
  have hl := h.2.2.2.2.1
  have lx := gq_lt hx
  have lz := gq_lt hz
  have wf := h.2.2.2.2.2.2.2.2.1 f (List.mem_of_getElem? hx)
  have wg := h.2.2.2.2.2.2.2.2.1 g (List.mem_of_getElem? hz)
  obtain ⟨-, -, a22, -⟩ := h.2.2.2.1.2.2.2.2.1 x f hx
  have t1 : Tok τ (tA τ 22 x) (tx I n (fNm f)) := by rw [a22]; exact h.tok wf.2.2.1
  obtain ⟨τ1, F1, e1, A1⟩ := m_jsonName_t (Or.inl rfl) (by omega) (tx_len wf.2.2.1) t1 rfl
  have h1 := h.tf (F1.mono (by decide))
  obtain ⟨-, -, b22, -⟩ := h1.2.2.2.1.2.2.2.2.1 z g hz
  have t2 : Tok τ1 (tA τ1 22 z) (tx I n (fNm g)) := by rw [b22]; exact h1.tok wg.2.2.1
  obtain ⟨τ2, F2, e2, A2⟩ := m_jsonName_t (Or.inr rfl) (by omega) (tx_len wg.2.2.1) t2 rfl
  have A1' : Arr τ2 41 (jsn (tx I n (fNm f))) := fun j hj => by rw [(F2 41 (by decide)).2.2]; exact A1 j hj
  have l1 : (jsn (tx I n (fNm f))).length ≤ 24 := Nat.le_trans (jsL_len _ _) (tx_len wf.2.2.1)
  have l2 : (jsn (tx I n (fNm g))).length ≤ 24 := Nat.le_trans (jsL_len _ _) (tx_len wg.2.2.1)
  refine ⟨τ2, ?_, (F1.mono (by decide)).tr (F2.mono (l := [41, 42]) (by decide)) (fun _ u => u)⟩
  unfold m_sameJson
  rw [e1, bind_some']
  dsimp only
  rw [e2, bind_some']
  dsimp only
  rw [gd_pos (by omega), gd_pos (by omega)]
  by_cases c : (jsn (tx I n (fNm f))).length = (jsn (tx I n (fNm g))).length
  · rw [if_pos (by omega), bind_some']
    exact sj_L33 A1' A2 c l1 _ FU 0 (Nat.zero_add _) (FU_gt (by omega)) (fun x hx => by omega)
  · rw [if_neg (by omega), bind_some', show FU = 999999 + 1 from rfl, m_sameJson_L33, gd_pos (by omega), gd_pos (by omega), gd_pos (by exact fun _ => by omega), if_pos (Or.inr rfl), gd_pos (by decide), if_neg (fun q => c (by rw [q]))]
/-- two fields of a message have one name in JSON -/
def JCx (I : Nat → Nat) (n : Nat) (F : List TyF) (x z : Nat) : Prop := ∃ f g, F[x]? = some f ∧ F[z]? = some g ∧ fMs f = fMs g ∧ jsn (tx I n (fNm f)) = jsn (tx I n (fNm g))
theorem refl_L87 {x : Nat} : ∀ (c N1 j : Nat) (τ : TT), RF I n K τ M E V F O R N → x < F.length → j + c = x → c < N1 → ∃ τ', TF [41, 42] τ τ' ∧ (((∃ z, j ≤ z ∧ z < x ∧ JCx I n F x z) ∧ m_refusal_L87 (x : Int) N1 (j : Int) τ = some (Sum.inl (6, τ'))) ∨ ((¬ ∃ z, j ≤ z ∧ z < x ∧ JCx I n F x z) ∧ m_refusal_L87 (x : Int) N1 (j : Int) τ = some (Sum.inr τ')))
  | c, 0, j, τ, _, _, _, h => by omega
  | 0, N1 + 1, j, τ, h, hx, hj, _ => by
    have hl := h.2.2.2.2.1
    refine ⟨τ, TF.refl _ _, Or.inr ⟨fun ⟨z, z1, z2, _⟩ => by omega, ?_⟩⟩
    rw [m_refusal_L87, gd_pos (by omega), gd_pos (by omega), if_pos (by omega)]
  | c + 1, N1 + 1, j, τ, h, hx, hj, hN => by
    have hl := h.2.2.2.2.1
    obtain ⟨f, hf, fm, -⟩ := drop_at hx
    obtain ⟨g, hg, gm, -⟩ := drop_at (show j < F.length by omega)
    obtain ⟨-, -, -, -, a23, -⟩ := h.2.2.2.1.2.2.2.2.1 x f hf
    obtain ⟨-, -, -, -, b23, -⟩ := h.2.2.2.1.2.2.2.2.1 j g hg
    have wf := h.2.2.2.2.2.2.2.2.1 f fm
    have wg := h.2.2.2.2.2.2.2.2.1 g gm
    have hJ : JCx I n F x j ↔ (fMs f = fMs g ∧ jsn (tx I n (fNm f)) = jsn (tx I n (fNm g))) := by
      constructor
      · intro ⟨f', g', q1, q2, q3⟩
        rw [hf] at q1
        rw [hg] at q2
        have e1 := Option.some.inj q1
        have e2 := Option.some.inj q2
        subst e1 e2
        exact q3
      · intro q
        exact ⟨f, g, hf, hg, q⟩
    have nx : ∀ τ1, RF I n K τ1 M E V F O R N → TF [41, 42] τ τ1 → ¬ JCx I n F x j → m_refusal_L87 (x : Int) (N1 + 1) (j : Int) τ = m_refusal_L87 (x : Int) N1 ((j + 1 : Nat) : Int) τ1 → ∃ τ', TF [41, 42] τ τ' ∧ (((∃ z, j ≤ z ∧ z < x ∧ JCx I n F x z) ∧ m_refusal_L87 (x : Int) (N1 + 1) (j : Int) τ = some (Sum.inl (6, τ'))) ∨ ((¬ ∃ z, j ≤ z ∧ z < x ∧ JCx I n F x z) ∧ m_refusal_L87 (x : Int) (N1 + 1) (j : Int) τ = some (Sum.inr τ'))) := fun τ1 h1 F1 nJ e => by
      obtain ⟨τ', F2, q⟩ := refl_L87 c N1 (j + 1) τ1 h1 hx (by omega) (by omega)
      refine ⟨τ', F1.tr F2 (fun _ u => u), ?_⟩
      rw [e]
      rcases q with ⟨⟨z, z1, z2, z3⟩, q⟩ | ⟨q1, q2⟩
      · exact Or.inl ⟨⟨z, by omega, z2, z3⟩, q⟩
      · refine Or.inr ⟨fun ⟨z, z1, z2, z3⟩ => ?_, q2⟩
        by_cases e : z = j
        · rw [e] at z3; exact nJ z3
        · exact q1 ⟨z, by omega, z2, z3⟩
    by_cases c1 : fMs f = fMs g
    · obtain ⟨τ1, e1, F1⟩ := m_sameJson_eq h hf hg
      by_cases c2 : jsn (tx I n (fNm f)) = jsn (tx I n (fNm g))
      · refine ⟨τ1, F1, Or.inl ⟨⟨j, Nat.le_refl _, by omega, hJ.mpr ⟨c1, c2⟩⟩, ?_⟩⟩
        rw [m_refusal_L87, gd_pos (by omega), gd_pos (by omega), if_neg (by omega), gd_pos (by constructor <;> omega), gd_pos (by constructor <;> omega), Int.toNat_natCast, Int.toNat_natCast, a23, b23, gd_pos (by omega), gd_pos (by omega), if_pos (by omega), e1, if_pos c2, bind_some']
        dsimp only
        rw [gd_pos (by omega), if_neg (by omega), bind_some']; rfl
      · refine nx τ1 (h.tf2 F1) F1 (fun q => c2 (hJ.mp q).2) ?_
        rw [m_refusal_L87, gd_pos (by omega), gd_pos (by omega), if_neg (by omega), gd_pos (by constructor <;> omega), gd_pos (by constructor <;> omega), Int.toNat_natCast, Int.toNat_natCast, a23, b23, gd_pos (by omega), gd_pos (by omega), if_pos (by omega), e1, if_neg c2, bind_some']
        dsimp only
        rw [gd_pos (by omega), if_pos rfl, bind_some', show (j : Int) + 1 = ((j + 1 : Nat) : Int) by omega]; rfl
    · refine nx τ h (TF.refl _ _) (fun q => c1 (hJ.mp q).1) ?_
      rw [m_refusal_L87, gd_pos (by omega), gd_pos (by omega), if_neg (by omega), gd_pos (by constructor <;> omega), gd_pos (by constructor <;> omega), Int.toNat_natCast, Int.toNat_natCast, a23, b23, gd_pos (by omega), gd_pos (by omega), if_neg (by omega), bind_some', show (j : Int) + 1 = ((j + 1 : Nat) : Int) by omega]; rfl
theorem refl_L77 : ∀ (c N1 j : Nat) (τ : TT), RF I n K τ M E V F O R N → j + c = F.length → c < N1 → ∃ τ', TF [41, 42] τ τ' ∧ (((∃ x, j ≤ x ∧ x < F.length ∧ ∃ z, z < x ∧ JCx I n F x z) ∧ m_refusal_L77 N1 (j : Int) τ = some (6, τ')) ∨ ((¬ ∃ x, j ≤ x ∧ x < F.length ∧ ∃ z, z < x ∧ JCx I n F x z) ∧ m_refusal_L77 N1 (j : Int) τ = some (0, τ')))
  | c, 0, j, τ, _, _, h => by omega
  | 0, N1 + 1, j, τ, h, hj, _ => by
    have hl := h.2.2.2.2.1
    have hC := h.2.2.2.1.1
    refine ⟨τ, TF.refl _ _, Or.inr ⟨fun ⟨z, z1, z2, _⟩ => by omega, ?_⟩⟩
    rw [m_refusal_L77, gd_pos (by omega), hC.2.2.2.1, gd_pos (by omega), if_pos (by omega)]
  | c + 1, N1 + 1, j, τ, h, hj, hN => by
    have hl := h.2.2.2.2.1
    have hC := h.2.2.2.1.1
    obtain ⟨τ1, F1, q⟩ := refl_L87 (x := j) j FU 0 τ h (by omega) (Nat.zero_add _) (FU_gt (by omega))
    rcases q with ⟨⟨z, -, z2, z3⟩, q⟩ | ⟨q1, q2⟩
    · have q : m_refusal_L87 (j : Int) FU 0 τ = some (Sum.inl (6, τ1)) := q
      refine ⟨τ1, F1, Or.inl ⟨⟨j, Nat.le_refl _, by omega, z, z2, z3⟩, ?_⟩⟩
      rw [m_refusal_L77, gd_pos (by omega), hC.2.2.2.1, gd_pos (by omega), if_neg (by omega), q, bind_some']; rfl
    · have q2 : m_refusal_L87 (j : Int) FU 0 τ = some (Sum.inr τ1) := q2
      obtain ⟨τ', F2, r⟩ := refl_L77 c N1 (j + 1) τ1 (h.tf2 F1) (by omega) (by omega)
      have e : m_refusal_L77 (N1 + 1) (j : Int) τ = m_refusal_L77 N1 ((j + 1 : Nat) : Int) τ1 := by
        rw [m_refusal_L77, gd_pos (by omega), hC.2.2.2.1, gd_pos (by omega), if_neg (by omega), q2, bind_some', show (j : Int) + 1 = ((j + 1 : Nat) : Int) by omega]; rfl
      refine ⟨τ', F1.tr F2 (fun _ u => u), ?_⟩
      rw [e]
      rcases r with ⟨⟨x, x1, x2, x3⟩, r⟩ | ⟨r1, r2⟩
      · exact Or.inl ⟨⟨x, by omega, x2, x3⟩, r⟩
      · refine Or.inr ⟨fun ⟨x, x1, x2, z, z1, z2⟩ => ?_, r2⟩
        by_cases ex : x = j
        · subst ex; exact q1 ⟨z, Nat.zero_le _, z1, z2⟩
        · exact r1 ⟨x, by omega, x2, z, z1, z2⟩
end S5
