set_option maxRecDepth 100000
/-! SCHEMAS, CHECKED: the same answer -/
/-- a cascade of answers -/
def CD (A : Prop) (v : Int) (P : Prop) (c : Int) : Prop := (c = v ∧ A) ∨ (¬ A ∧ P)
def CDs (I : Nat → Nat) (n : Nat) (M : List TyM) (E : List TyE) (V : List TyV) (F : List TyF) (O : List TyO) (R : List TyR) (c : Int) (P : Prop) : Prop :=
  CD (¬ (NL I n M E V).Nodup ∨ ¬ (FN I n F O).Nodup) 2 (CD (∃ f, f ∈ F ∧ BNf F R f) 3 (CD (∃ f, f ∈ F ∧ KOf I n M E f (-1)) 4 (CD (∃ x, x < E.length ∧ BEn V x) 5 (CD (∃ x, x < F.length ∧ ∃ z, z < x ∧ JCx I n F x z) 6 P c) c) c) c) c
/-- what the system has when nothing was refused -/
def SG (y : Nat) (σ : ST) (I : Nat → Nat) (n : Nat) (ob : Nat → Prop) (L : Nat → Nat → List Nat) (sd root : Nat) (M : List TyM) (E : List TyE) (V : List TyV) (F : List TyF) (O : List TyO) (R : List TyR) (N : List TyN) (a0 : Nat) : Prop :=
  SFr y σ I n ob L sd root M E V F O R N a0 ∧ (∀ (x : Nat) (f : TyF), F[x]? = some f → ∃ v, KOf I n M E f v ∧ KFs σ M E f.1 v) ∧ ∀ (x : Nat) (m : TyM), M[x]? = some m → ∃ q, ORd σ y m.1 (L 99 m.1) q
section Sk
variable {y n K sd root a0 : Nat} {I : Nat → Nat} {σ σ0 σ1 σ' : ST} {τ τ' : TT} {ob : Nat → Prop} {L : Nat → Nat → List Nat} {M : List TyM} {E : List TyE} {V : List TyV} {F : List TyF} {O : List TyO} {R : List TyR} {N : List TyN}
theorem CD.u {A P P' : Prop} {v c c' : Int} (h : CD A v P c) (h' : CD A v P' c') (k : P → P' → c = c') : c = c' := by
  rcases h with ⟨h1, h2⟩ | ⟨h1, h2⟩ <;> rcases h' with ⟨g1, g2⟩ | ⟨g1, g2⟩
  · omega
  · exact absurd h2 g1
  · exact absurd g2 h1
  · exact k h2 g2
theorem CDs.u {c c' : Int} {P P' : Prop} (h : CDs I n M E V F O R c P) (h' : CDs I n M E V F O R c' P') (k : P → P' → c = c') : c = c' := by
  unfold CDs at h h'
  exact h.u h' (fun h h' => h.u h' (fun h h' => h.u h' (fun h h' => h.u h' (fun h h' => h.u h' k))))
theorem CDs.out {c : Int} {P : Prop} (h : CDs I n M E V F O R c P) : (2 ≤ c ∧ c ≤ 6) ∨ ((NL I n M E V).Nodup ∧ (FN I n F O).Nodup ∧ (∀ f, f ∈ F → ¬ BNf F R f) ∧ (∀ f, f ∈ F → ¬ KOf I n M E f (-1)) ∧ (∀ x, x < E.length → ¬ BEn V x) ∧ (∀ x z, x < F.length → z < x → ¬ JCx I n F x z) ∧ P) := by
  rcases h with ⟨h1, -⟩ | ⟨h1, h⟩
  · exact Or.inl (by omega)
  rcases h with ⟨h2, -⟩ | ⟨h2, h⟩
  · exact Or.inl (by omega)
  rcases h with ⟨h3, -⟩ | ⟨h3, h⟩
  · exact Or.inl (by omega)
  rcases h with ⟨h4, -⟩ | ⟨h4, h⟩
  · exact Or.inl (by omega)
  rcases h with ⟨h5, -⟩ | ⟨h5, h⟩
  · exact Or.inl (by omega)
  refine Or.inr ⟨?_, ?_, fun f hf q => h2 ⟨f, hf, q⟩, fun f hf q => h3 ⟨f, hf, q⟩, fun x hx q => h4 ⟨x, hx, q⟩, fun x z hx hz q => h5 ⟨x, hx, z, hz, q⟩, h⟩
  · exact Classical.byContradiction (fun q => h1 (Or.inl q))
  · exact Classical.byContradiction (fun q => h1 (Or.inr q))
theorem Gd.u {v v' : Int} {P : Prop} (h : Gd v P) (h' : Gd v' P) : v = v' := by
  rcases h with ⟨h1, h2⟩ | ⟨h1, h2⟩ <;> rcases h' with ⟨g1, g2⟩ | ⟨g1, g2⟩
  · omega
  · exact absurd h2 g2
  · exact absurd g2 h2
  · omega
theorem SFr.uq (h : SFr y σ I n ob L sd root M E V F O R N a0) : Uq M E := by
  refine ⟨fun j j' m h1 h2 => (h.minj h1 h2 rfl).symm, fun j j' e h1 h2 => ?_, h.2.2.2.1.1.1⟩
  have a := (h.2.2.1.2.2.1 j e h1).2.2.1
  have b := (h.2.2.1.2.2.1 j' e h2).2.2.1
  omega
theorem RX.fr (h : RX σ σ') (g : ∀ a, a < y → sI σ' 132 a = sI σ 132 a ∧ ∀ k, sR σ' k a = sR σ k a) : FR (fun b => y ≤ b) σ σ' := by
  obtain ⟨a1, a2, a3, a4, a5, a6, a7, a8, a9, a10, a11, a12, a13, a14⟩ := h
  refine ⟨⟨by omega, by omega, by omega⟩, fun x hx => ⟨by rw [a1], fun hy => ?_⟩⟩
  obtain ⟨g1, g2⟩ := g x (by omega)
  refine ⟨by rw [a2], by rw [a3], by rw [a4], by rw [a12], by rw [a5], by rw [a11], by rw [a13], fun k => ?_, fun k => by rw [a14], g2⟩
  by_cases e : k = 132
  · rw [e]; exact g1
  · exact a6 k x e
theorem KFs.oy {f : Nat} {v : Int} (h : KFs σ M E f v) (g : OY y σ σ') (hf : f < sZ σ) : KFs σ' M E f v := by
  obtain ⟨-, -, -, -, -, a6, a7, -⟩ := g.2 f hf
  unfold KFs at h ⊢
  rw [a6 132 (by decide), a7 137 (by decide), a7 138 (by decide)]
  exact h
theorem exF {P : TyF → Prop} : (False ∨ ∃ x, 0 ≤ x ∧ x < F.length ∧ ∃ f, F[x]? = some f ∧ P f) ↔ ∃ f, f ∈ F ∧ P f := by
  constructor
  · rintro (h | ⟨x, -, -, f, h1, h2⟩)
    · exact h.elim
    · exact ⟨f, List.mem_of_getElem? h1, h2⟩
  · rintro ⟨f, h1, h2⟩
    obtain ⟨x, hx⟩ := List.getElem?_of_mem h1
    exact Or.inr ⟨x, Nat.zero_le _, gq_lt hx, f, hx, h2⟩
theorem exE {m : Nat} {P : Nat → Prop} : (False ∨ ∃ x, 0 ≤ x ∧ x < m ∧ P x) ↔ ∃ x, x < m ∧ P x := by
  constructor
  · rintro (h | ⟨x, -, h1, h2⟩)
    · exact h.elim
    · exact ⟨x, h1, h2⟩
  · rintro ⟨x, h1, h2⟩
    exact Or.inr ⟨x, Nat.zero_le _, h1, h2⟩
theorem sfault_eq (h : SFk y σ I n ob L sd root M E V F O R N a0) (hn : n ≤ 1000) : Rn (fun r : Int × ST => r.2) σ (fun bb => ck_fault bb a0 σ) (fun r => FR (fun b => y ≤ b) σ r.2 ∧ sS r.2 ≤ sS σ + 5900 ∧ sC r.2 ≤ sC σ + 650 ∧ CDs I n M E V F O R r.1 (r.1 = 0 ∧ SG y r.2 I n ob L sd root M E V F O R N a0)) := by
  obtain ⟨H, Q, B, W, C, k1, k2, k3⟩ := id h
  have hl := W.1
  unfold ck_fault
  refine Rn_gd k1 ?_
  refine Rn_bind (clash_eq h) (fun r1 _ A => ?_)
  obtain ⟨g2, F1, s1, c1⟩ := A
  have g2 := g2.cg (names_iff W).symm
  have h1 := h.fr (F1.up (fun x _ e => e.elim))
  have F1 : FR (fun b => y ≤ b) σ r1.2 := F1.up (fun x _ e => e.elim)
  obtain ⟨c0, σ1⟩ := r1
  dsimp only at g2 F1 s1 c1 h1 ⊢
  refine Rn_gd g2.rgv.1 ?_
  rcases g2 with ⟨e0, nA⟩ | ⟨e1, hA⟩
  case inr =>
    refine Rn_neg (by rw [e1]; decide) ?_
    exact Rn_some (Le.refl _) ⟨F1, by show sS σ1 ≤ _; omega, by show sC σ1 ≤ _; omega, Or.inl ⟨rfl, hA⟩⟩
  refine Rn_pos e0 ?_
  have hr1 := h1.toR
  obtain ⟨v1, v2, σ2, w1, w2, w3, w4, w5, w6⟩ := fault_L18 hr1.uq hn B.2.2.2.2.1 F.length FU 0 1 1 False False σ1 hr1 (Or.inr ⟨rfl, id⟩) (Or.inr ⟨rfl, id⟩) (by omega) (FU_gt (by omega)) (fun x f _ hf => by
    obtain ⟨-, -, -, -, -, -, -, -, -, n7, n8, -⟩ := (h1.2.2.1.2.2.2.1 f (List.mem_of_getElem? hf)).2
    exact ⟨n7, n8⟩)
  have w3 := w3.cg exF
  have w4 := w4.cg exF
  have h2 := hr1.rx w2
  obtain ⟨v3, -, g5⟩ := enums_L h2 (bb := (0, 0)) (u1 := v1) (u2 := v2) E.length FU 0 1 False (Or.inr ⟨rfl, id⟩) (by omega) (FU_gt (by omega))
  have x3 : ∀ bb : Nat × Nat, ck_fault_L104 bb a0 v1 v2 σ2 FU 1 0 = some v3 := fun bb => by
    obtain ⟨v, x, g⟩ := enums_L h2 (bb := bb) (u1 := v1) (u2 := v2) E.length FU 0 1 False (Or.inr ⟨rfl, id⟩) (by omega) (FU_gt (by omega))
    rw [g5.u g]; exact x
  have g5 := g5.cg exE
  have F2 : FR (fun b => y ≤ b) σ1 σ2 := w2.fr (fun a ha => w6 a (fun x f _ hf e => by
    have := (h1.1.1 _ (h1.2.2.1.2.2.2.1 f (List.mem_of_getElem? hf)).1).1
    omega))
  refine Rn_eq (fun bb => by rw [show ck_fault_L18 bb a0 1 FU 1 1 0 σ1 = some (v1, v2, σ2) from w1 bb, bind_some']) ?_
  refine Rn_eq (fun bb => by show Option.bind (ck_fault_L104 bb a0 v1 v2 σ2 FU 1 0) _ = _; rw [x3 bb, bind_some']) ?_
  refine Rn_le F2.1 ?_
  have R159 : Rn id σ2 (fun bb => ck_fault_L159 bb a0 v1 v2 v3 FU 0 σ2) _ := fault_L159 M.length FU 0 σ2 h2 (by omega) (FU_gt (by omega))
  refine Rn_bind (su := id) R159 (fun σ3 _ A => ?_)
  obtain ⟨a1, a2, -, a4, a5⟩ := A
  have a4 : sS σ3 ≤ sS σ2 + 50 * M.length := a4
  have a5 : sC σ3 ≤ sC σ2 + M.length := a5
  have es : sS σ2 = sS σ1 := w2.2.2.2.2.2.2.2.2.1
  have ec : sC σ2 = sC σ1 := w2.2.2.2.2.2.2.2.2.2.1
  show Rn _ σ3 _ _
  have F3 : FR (fun b => y ≤ b) σ σ3 := (F1.tr F2 (fun _ _ e => e)).tr a1.1 (fun _ _ e => e)
  have fin : ∀ (c : Int), CDs I n M E V F O R c (c = 0 ∧ SG y σ3 I n ob L sd root M E V F O R N a0) → Rn (fun r : Int × ST => r.2) σ3 (fun _ => some (c, σ3)) (fun r => FR (fun b => y ≤ b) σ r.2 ∧ sS r.2 ≤ sS σ + 5900 ∧ sC r.2 ≤ sC σ + 650 ∧ CDs I n M E V F O R r.1 (r.1 = 0 ∧ SG y r.2 I n ob L sd root M E V F O R N a0)) := fun c hc => Rn_some (Le.refl _) ⟨F3, by show sS σ3 ≤ _; omega, by show sC σ3 ≤ _; omega, hc⟩
  have h3 := h2.oy a1
  refine Rn_gd w3.rgv.1 ?_
  rcases w3 with ⟨e3, p3⟩ | ⟨e3, p3⟩
  · refine Rn_pos e3 ?_
    exact fin 3 (Or.inr ⟨nA, Or.inl ⟨rfl, p3⟩⟩)
  refine Rn_neg (show ¬ v1 = 0 by omega) ?_
  refine Rn_gd w4.rgv.1 ?_
  rcases w4 with ⟨e4, p4⟩ | ⟨e4, p4⟩
  · refine Rn_pos e4 ?_
    exact fin 4 (Or.inr ⟨nA, Or.inr ⟨p3, Or.inl ⟨rfl, p4⟩⟩⟩)
  refine Rn_neg (show ¬ v2 = 0 by omega) ?_
  refine Rn_gd g5.rgv.1 ?_
  rcases g5 with ⟨e5, p5⟩ | ⟨e5, p5⟩
  · refine Rn_pos e5 ?_
    exact fin 5 (Or.inr ⟨nA, Or.inr ⟨p3, Or.inr ⟨p4, Or.inl ⟨rfl, p5⟩⟩⟩⟩)
  refine Rn_neg (show ¬ v3 = 0 by omega) ?_
  refine Rn_gd h3.2.2.2.2.2.1 ?_
  obtain ⟨v6, x6, g6⟩ := sjson_eq h3
  refine Rn_pure x6 ?_
  refine Rn_gd g6.rgv.1 ?_
  rcases g6 with ⟨e6, p6⟩ | ⟨e6, p6⟩
  · refine Rn_pos e6 ?_
    refine fin 0 (Or.inr ⟨nA, Or.inr ⟨p3, Or.inr ⟨p4, Or.inr ⟨p5, Or.inr ⟨p6, rfl, h3, fun x f hf => ?_, fun x m hm => a2 x m (Nat.zero_le _) hm⟩⟩⟩⟩⟩)
    obtain ⟨v, q1, q2⟩ := w5 x f (Nat.zero_le _) hf
    exact ⟨v, q1, q2.oy a1 (h2.1.1 _ (h2.2.2.1.2.2.2.1 f (List.mem_of_getElem? hf)).1).2⟩
  · refine Rn_neg (show ¬ v6 = 0 by omega) ?_
    exact fin 6 (Or.inr ⟨nA, Or.inr ⟨p3, Or.inr ⟨p4, Or.inr ⟨p5, Or.inl ⟨rfl, p6⟩⟩⟩⟩⟩)
theorem mfault_eq (hR : RF I n K τ M E V F O R N) (h14 : tI τ 14 = 0) (hu : Uq M E) (hN : (F.map (fun f => f.1)).Nodup) : ∃ (c : Int) (τ' : TT), m_refusal τ = some (c, τ') ∧ TF [28, 41, 42] τ τ' ∧ CDs I n M E V F O R c (c = 0 ∧ ∀ (x : Nat) (f : TyF), F[x]? = some f → ∃ v, KOf I n M E f v ∧ v ≠ -1 ∧ tA τ' 28 x = v) := by
  have hl := hR.2.2.2.2.1
  unfold m_refusal
  rw [h14, gd_pos (by omega), if_pos rfl]
  obtain ⟨v2, x2, g2⟩ := m_namesTwice_eq hR
  rw [x2, bind_some', gd_pos g2.rgv.1]
  rcases g2 with ⟨e2, p2⟩ | ⟨e2, p2⟩
  case inr => exact ⟨2, τ, if_neg (by omega), TF.refl _ _, Or.inl ⟨rfl, p2⟩⟩
  rw [if_pos e2]
  obtain ⟨v3, x3, g3⟩ := m_wnum_eq hR hN
  rw [x3, bind_some', gd_pos g3.rgv.1]
  rcases g3 with ⟨e3, p3⟩ | ⟨e3, p3⟩
  case inr => exact ⟨3, τ, if_neg (by omega), TF.refl _ _, Or.inr ⟨p2, Or.inl ⟨rfl, p3⟩⟩⟩
  rw [if_pos e3]
  obtain ⟨τ1, T1, -, q⟩ := refl_L29 hu F.length FU 0 τ hR (by omega) (FU_gt (by omega))
  rcases q with ⟨⟨x, -, -, f, q1, q2⟩, q⟩ | ⟨q1, q⟩
  · have q : m_refusal_L29 FU 0 τ = some (Sum.inl (4, τ1)) := q
    refine ⟨4, τ1, by rw [q, bind_some']; rfl, T1, Or.inr ⟨p2, Or.inr ⟨p3, Or.inl ⟨rfl, f, List.mem_of_getElem? q1, q2⟩⟩⟩⟩
  have q : m_refusal_L29 FU 0 τ = some (Sum.inr τ1) := q
  have p4 : ¬ ∃ f, f ∈ F ∧ KOf I n M E f (-1) := fun ⟨f, f1, f2⟩ => by
    obtain ⟨x, hx⟩ := List.getElem?_of_mem f1
    obtain ⟨v, u1, u2, -⟩ := q1 x f (Nat.zero_le _) hx
    exact u2 (u1.u hu f2)
  have hR1 := hR.tf T1
  obtain ⟨v5, x5, g5⟩ := m_wenum_eq hR1
  obtain ⟨τ2, T2, q6⟩ := refl_L77 F.length FU 0 τ1 hR1 (by omega) (FU_gt (by omega))
  rw [q, bind_some']
  show ∃ (c : Int) (τ' : TT), (Option.bind (m_hasWrongEnum τ1) fun y20 => gd (rg y20) (if y20 = 0 then (m_refusal_L77 FU 0 τ1) else (some ((5, τ1))))) = some (c, τ') ∧ _
  rw [x5, bind_some', gd_pos g5.rgv.1]
  rcases g5 with ⟨e5, p5⟩ | ⟨e5, p5⟩
  case inr => exact ⟨5, τ1, if_neg (by omega), T1, Or.inr ⟨p2, Or.inr ⟨p3, Or.inr ⟨p4, Or.inl ⟨rfl, p5⟩⟩⟩⟩⟩
  rw [if_pos e5]
  have T2' : TF [28, 41, 42] τ τ2 := T1.tr (T2.mono (l := [28, 41, 42]) (by decide)) (fun _ u => u)
  rcases q6 with ⟨⟨x, -, x1, z, z1, z2⟩, q6⟩ | ⟨n6, q6⟩
  · have q6 : m_refusal_L77 FU 0 τ1 = some (6, τ2) := q6
    exact ⟨6, τ2, q6, T2', Or.inr ⟨p2, Or.inr ⟨p3, Or.inr ⟨p4, Or.inr ⟨p5, Or.inl ⟨rfl, x, x1, z, z1, z2⟩⟩⟩⟩⟩⟩
  · have q6 : m_refusal_L77 FU 0 τ1 = some (0, τ2) := q6
    refine ⟨0, τ2, q6, T2', Or.inr ⟨p2, Or.inr ⟨p3, Or.inr ⟨p4, Or.inr ⟨p5, Or.inr ⟨fun ⟨x, x1, z, z1, z2⟩ => n6 ⟨x, Nat.zero_le _, x1, z, z1, z2⟩, rfl, fun x f hf => ?_⟩⟩⟩⟩⟩⟩
    obtain ⟨v, u1, u2, u3⟩ := q1 x f (Nat.zero_le _) hf
    exact ⟨v, u1, u2, by rw [(T2 28 (by decide)).2.2]; exact u3⟩
end Sk
