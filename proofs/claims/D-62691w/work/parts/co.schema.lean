set_option maxRecDepth 100000
/-! THE CALL schema -/
abbrev KZs : List Nat := [0, 8, 9, 10, 11, 12, 28, 41, 42, 13, 14, 15, 16, 17, 18, 19, 20, 21, 22, 23, 24, 25, 26, 27, 29, 30, 31, 32, 33, 34, 35, 36, 37, 38, 39, 40]
abbrev S0 : SC := (0, 0, [], [])
section So
variable {S : SC} {fa ma ea : Nat → Nat} {od : Nat → List Nat} {y z a0 tp b sch ro rs n k : Nat} {w : List UInt8} {σ σ' : ST} {τ τ' : TT} {I : Nat → Nat}
theorem m_clear_eq (τ : TT) : ∃ τ', m_clearSchema τ = some τ' ∧ TF [35, 36, 37, 38, 39, 40] τ τ' ∧ tI τ' 35 = 0 ∧ tI τ' 36 = 0 ∧ tI τ' 37 = 0 ∧ tI τ' 38 = 0 ∧ tI τ' 39 = 0 ∧ tI τ' 40 = 0 := by
  unfold m_clearSchema
  rw [nm_eq, nm_eq, nm_eq, nm_eq, nm_eq, nm_eq]
  refine ⟨_, rfl, ((((((TF.refl _ τ).uI (by decide) _).uI (by decide) _).uI (by decide) _).uI (by decide) _).uI (by decide) _).uI (by decide) _, ?_, ?_, ?_, ?_, ?_, ?_⟩ <;> simp [tI_uI]
theorem m_L11_eq (hn : n ≤ 1000) : ∀ (c N1 k : Nat) (τ : TT), tI τ 5 = (n : Int) → (∀ j, j < n → tA τ 2 j = (I j : Int)) → (∀ j, j < k → tA τ 8 j = (I j : Int)) → k + c = n → c < N1 → ∃ τ', m_schema_L11 N1 (k : Int) τ = some τ' ∧ TF [8] τ τ' ∧ ∀ j, j < n → tA τ' 8 j = (I j : Int)
  | c, 0, k, τ, _, _, _, _, h => by omega
  | 0, N1 + 1, k, τ, h1, h2, h3, hk, _ => ⟨τ, by rw [m_schema_L11, gd_pos (by omega), h1, gd_pos (by omega), if_pos (by omega)], TF.refl _ _, fun j hj => h3 j (by omega)⟩
  | c + 1, N1 + 1, k, τ, h1, h2, h3, hk, hN => by
    have f1 : TF [8] τ (uA τ 8 k (tA τ 2 k)) := (TF.refl _ τ).uA (by decide) _ _
    obtain ⟨τ', e, f, g⟩ := m_L11_eq hn c N1 (k + 1) (uA τ 8 k (tA τ 2 k)) h1 (fun j hj => by rw [tA_uA, if_neg (fun e => by omega)]; exact h2 j hj) (fun j hj => by
      rw [tA_uA]
      by_cases e : j = k
      · rw [if_pos ⟨rfl, e⟩, e]; exact h2 k (by omega)
      · rw [if_neg (fun w => e w.2)]; exact h3 j (by omega)) (by omega) (by omega)
    refine ⟨τ', ?_, f1.tr f (fun _ u => u), g⟩
    rw [m_schema_L11, gd_pos (by omega), h1, gd_pos (by omega), if_neg (by omega), gd_pos (by constructor <;> omega), Int.toNat_natCast, nm_eq, show (k : Int) + 1 = ((k + 1 : Nat) : Int) by omega]
    exact e
/-- the reference up to its reading -/
theorem m_front (hI : TIn τ I n) : ∃ (τ' : TT) (K : Nat), m_schema τ = Option.bind (m_readSchema τ') (fun y8 => Option.bind (m_refusal y8) fun y9 => gd (rg y9.1) (if y9.1 ≤ 0 then (some ((y9.1, y9.2))) else (Option.bind (m_clearSchema y9.2) fun y12 => some ((y9.1, y12))))) ∧ TF KZs τ τ' ∧ T8 τ' I n ∧ KD I n K ∧ (∀ j, j ≤ K → TTk I n τ' j) ∧ TPS τ' [] [] [] [] [] [] := by
  obtain ⟨i1, i2, i3, i4⟩ := hI
  have f0 : TF KZs τ (uI τ 0 0) := (z_f τ).mono (by decide)
  obtain ⟨τ2, e2, f2, z35, z36, z37, z38, z39, z40⟩ := m_clear_eq (uI τ 0 0)
  have f02 : TF KZs τ τ2 := f0.tr f2 (by decide)
  obtain ⟨τ3, e3, f3, g3⟩ := m_L11_eq (I := I) i2 n FU 0 τ2 (by rw [(f02 5 (by decide)).1]; exact i1) (fun j hj => by rw [(f02 2 (by decide)).2.2]; exact i3 j hj) (fun j hj => by omega) (by omega) (FU_gt (by omega))
  have e3 : m_schema_L11 FU 0 τ2 = some τ3 := e3
  have f03 : TF KZs τ τ3 := f02.tr f3 (by decide)
  have t8 : T8 τ3 I n := ⟨by rw [(f03 5 (by decide)).1]; exact i1, i2, g3, i4⟩
  obtain ⟨τ4, K, e4, f4, k1, k2, k3, k4⟩ := m_readTokens_eq t8
  have f04 : TF KZs τ τ4 := f03.tr f4 (by decide)
  have f24 : TF [8, 9, 10, 11, 12] τ2 τ4 := (f3.mono (by decide)).tr f4 (by decide)
  refine ⟨τ4, K, ?_, f04, ⟨by rw [(f04 5 (by decide)).1]; exact i1, i2, fun j hj => by rw [(f4 8 (by decide)).2.2]; exact g3 j hj, i4⟩, ⟨k1, by rw [k2], k3⟩, k4, ⟨⟨?_, ?_, ?_, ?_, ?_, ?_⟩, fun j m h => by simp at h, fun j m h => by simp at h, fun j m h => by simp at h, fun j m h => by simp at h, fun j m h => by simp at h, fun j m h => by simp at h⟩⟩
  · unfold m_schema
    rw [nm_eq, e2, bind_some', e3, bind_some', e4, bind_some']
  · rw [(f24 35 (by decide)).1, z35]; rfl
  · rw [(f24 36 (by decide)).1, z36]; rfl
  · rw [(f24 37 (by decide)).1, z37]; rfl
  · rw [(f24 38 (by decide)).1, z38]; rfl
  · rw [(f24 39 (by decide)).1, z39]; rfl
  · rw [(f24 40 (by decide)).1, z40]; rfl
/-- the system's first schema and reader -/
theorem psy_new {X y : Nat} {p : Option Nat} {v : Int} (h : SrI X p v σ σ') (hy : y ≤ sZ σ) : PSy y σ' I n (sZ σ) (sZ σ + 1) [] [] [] [] [] [] [] ∧ CNT σ' (sZ σ) [] [] [] [] := by
  obtain ⟨-, -, -, -, -, -, ⟨a1, a2, a3, a4, a5, a6⟩, ⟨b1, b2, b3, b4, b5⟩, cl, hz, -, -⟩ := h
  have K2 : ∀ k ∈ HK, 2 = k / 16 + 1 → k = 16 ∨ k = 17 ∨ k = 18 ∨ k = 19 := by decide
  have K3 : ∀ k ∈ HK, 3 = k / 16 + 1 → k = 33 ∨ k = 34 ∨ k = 35 := by decide
  have T : ∀ x k, (x = sZ σ ∨ x = sZ σ + 1) → k ∈ HK → sc σ' x = k / 16 + 1 → (x = sZ σ ∧ (k = 16 ∨ k = 17 ∨ k = 18 ∨ k = 19)) ∨ (x = sZ σ + 1 ∧ (k = 33 ∨ k = 34 ∨ k = 35)) := fun x k hx hk hc => by
    rcases hx with e | e
    · rw [e, a1] at hc
      exact Or.inl ⟨e, K2 k hk hc⟩
    · rw [e, b1] at hc
      exact Or.inr ⟨e, K3 k hk hc⟩
  have T2 : ∀ x k, (x = sZ σ ∨ x = sZ σ + 1) → k ∈ HK → sc σ' x = k / 16 + 1 → ∃ d, sR σ' k x = some (sZ σ + d) ∧ ((x = sZ σ ∧ k = 16 ∧ d = 1) ∨ (x = sZ σ ∧ k = 17 ∧ d = 5) ∨ (x = sZ σ ∧ k = 18 ∧ d = 6) ∨ (x = sZ σ ∧ k = 19 ∧ d = 7) ∨ (x = sZ σ + 1 ∧ k = 33 ∧ d = 2) ∨ (x = sZ σ + 1 ∧ k = 34 ∧ d = 3) ∨ (x = sZ σ + 1 ∧ k = 35 ∧ d = 4)) := fun x k hx hk hc => by
    rcases T x k hx hk hc with ⟨e, q | q | q | q⟩ | ⟨e, q | q | q⟩ <;> subst q <;> subst e
    · exact ⟨1, a2, by omega⟩
    · exact ⟨5, a3, by omega⟩
    · exact ⟨6, a4, by omega⟩
    · exact ⟨7, a5, by omega⟩
    · exact ⟨2, b2, by omega⟩
    · exact ⟨3, b3, by omega⟩
    · exact ⟨4, b4, by omega⟩
  have ls : ∀ d, 2 ≤ d → d < 8 → ∀ k, tg k = 16 → sc σ' (sZ σ + d) = tg k ∧ (tg k = 16 → sA σ' (sZ σ + d) = [] ∧ sN σ' (sZ σ + d) ≤ 10 + 2 * ([] : List Nat).length) ∧ (tg k = 102 → sN σ' (sZ σ + d) = (if k = 101 then 30 else 40) ∧ (∀ q v : Nat, ([] : List Nat)[q]? = some v → sE σ' (sZ σ + d) q = (v : Int)) ∧ ∀ q, ([] : List Nat).length ≤ q → sE σ' (sZ σ + d) q = 0) := fun d h1 h2 k hk => by
    obtain ⟨c1, c2, c3⟩ := cl d h1 h2
    exact ⟨by rw [hk]; exact c1, fun _ => ⟨c2, by rw [c3]; exact Nat.zero_le _⟩, fun t => by rw [hk] at t; cases t⟩
  refine ⟨⟨fun x => x = sZ σ ∨ x = sZ σ + 1, fun _ _ => [], ⟨fun x hx => ?_, fun x k hx hk hc => ?_, fun x x' k k' hx hx' hk hk' hc hc' e => ?_⟩, ⟨⟨rfl, rfl, rfl⟩, fun p s _ => ⟨rfl, rfl, rfl⟩, fun j m hm => by simp at hm, fun j e he => by simp at he⟩, ⟨⟨Or.inl rfl, Or.inr rfl, a1, a2, b1, b5⟩, fun j m hm => by simp at hm, fun j e he => by simp at he, fun f hf => by simp at hf, List.Pairwise.nil, fun v hv => by simp at hv, fun v hv => by simp at hv, fun v hv => by simp at hv⟩⟩, a6 20, a6 21, a6 22, fun j m hm => by simp at hm⟩
  · have hx : x = sZ σ ∨ x = sZ σ + 1 := hx
    constructor <;> omega
  · rcases T x k hx hk hc with ⟨e, q | q | q | q⟩ | ⟨e, q | q | q⟩ <;> subst q <;> subst e
    · exact ⟨sZ σ + 1, a2, by omega, by omega, b1, fun t => absurd t (by decide), fun t => absurd t (by decide)⟩
    · obtain ⟨c1, c2, c3⟩ := ls 5 (by decide) (by decide) 17 rfl
      exact ⟨sZ σ + 5, a3, by omega, by omega, c1, c2, c3⟩
    · obtain ⟨c1, c2, c3⟩ := ls 6 (by decide) (by decide) 18 rfl
      exact ⟨sZ σ + 6, a4, by omega, by omega, c1, c2, c3⟩
    · obtain ⟨c1, c2, c3⟩ := ls 7 (by decide) (by decide) 19 rfl
      exact ⟨sZ σ + 7, a5, by omega, by omega, c1, c2, c3⟩
    · obtain ⟨c1, c2, c3⟩ := ls 2 (by decide) (by decide) 33 rfl
      exact ⟨sZ σ + 2, b2, by omega, by omega, c1, c2, c3⟩
    · obtain ⟨c1, c2, c3⟩ := ls 3 (by decide) (by decide) 34 rfl
      exact ⟨sZ σ + 3, b3, by omega, by omega, c1, c2, c3⟩
    · obtain ⟨c1, c2, c3⟩ := ls 4 (by decide) (by decide) 35 rfl
      exact ⟨sZ σ + 4, b4, by omega, by omega, c1, c2, c3⟩
  · obtain ⟨d, d1, d2⟩ := T2 x k hx hk hc
    obtain ⟨d', d1', d2'⟩ := T2 x' k' hx' hk' hc'
    rw [d1, d1'] at e
    have e := Option.some.inj e
    constructor <;> omega
/-- what is the object's own, kept -/
theorem OWN.fr2 {sch' : Nat} (h : OWN σ a0 tp b sch ro rs) (F : FR (fun x => x = a0) σ σ') (hR : ∀ k, k ≠ 4 → sR σ' k a0 = sR σ k a0) (h4 : sR σ' 4 a0 = some sch') : OWN σ' a0 tp b sch' ro rs ∧ sB σ' b = sB σ b ∧ sB σ' tp = sB σ tp ∧ sW σ' ro = sW σ ro ∧ sN σ' ro = sN σ ro ∧ sN σ' rs = sN σ rs := by
  obtain ⟨o1, o2, o3, o4, o5, o6, o7, ⟨p1, p2, p3⟩, ⟨b1, b2, b3⟩, ne, ⟨⟨r1, r2, r3⟩, r4⟩, ⟨⟨s1, s2, s3⟩, s4⟩, ne2⟩ := h
  have hz := F.1.1
  have ct := F.2 tp p3
  have cb := F.2 b b3
  have cr := F.2 ro r4
  have cs := F.2 rs s4
  have st := ct.2 (fun e => by rw [e, o1] at p1; cases p1)
  have sb := cb.2 (fun e => by rw [e, o1] at b1; cases b1)
  have sr := cr.2 (fun e => by rw [e, o1] at r1; cases r1)
  have ss := cs.2 (fun e => by rw [e, o1] at s1; cases s1)
  refine ⟨⟨by rw [(F.2 a0 o2).1]; exact o1, by omega, by rw [hR 0 (by decide)]; exact o3, by rw [hR 1 (by decide)]; exact o4, h4, by rw [hR 5 (by decide)]; exact o6, by rw [hR 6 (by decide)]; exact o7, ⟨by rw [ct.1]; exact p1, by rw [st.2.2.1]; exact p2, by omega⟩, ⟨by rw [cb.1]; exact b1, by rw [sb.2.2.1]; exact b2, by omega⟩, ne, ⟨⟨by rw [cr.1]; exact r1, by rw [sr.1, sr.2.2.1]; exact r2, by rw [sr.2.2.1]; exact r3⟩, by omega⟩, ⟨⟨by rw [cs.1]; exact s1, by rw [ss.1, ss.2.2.1]; exact s2, by rw [ss.2.2.1]; exact s3⟩, by omega⟩, ne2⟩, sb.2.2.2.1, st.2.2.2.1, sr.1, sr.2.2.1, ss.2.2.1⟩
/-- the new invariant -/
theorem INV.new {S' : SC} {fa' ma' ea' : Nat → Nat} {od' : Nat → List Nat} {y' z' sch' : Nat} (h : INV S fa ma ea od y z a0 tp b sch ro rs n k w σ τ) (F : FR (fun x => x = a0) σ σ') (hR : ∀ k, k ≠ 4 → sR σ' k a0 = sR σ k a0) (hI : ∀ k, sI σ' k a0 = sI σ k a0) (h4 : sR σ' 4 a0 = some sch') (f : TF KZs τ τ') (hy : sZ σ ≤ y') (hS : SW S' ∧ SN S' ∧ OD S' od') (hH : HSc z' σ' S' fa' ma' ea' od' ∧ HSy y' σ' S' fa' ma' ea' ∧ HSd y' z' σ' S' fa' ma' ea' sch') (hT : TSc τ' S') : INV S' fa' ma' ea' od' y' z' a0 tp b sch' ro rs n k w σ' τ' ∧ sN σ' ro = sN σ ro ∧ sN σ' rs = sN σ rs ∧ inp σ' b = inp σ b := by
  obtain ⟨h1, h2, h3, hOu, ⟨h5, h6⟩, ⟨h7, h8, h9, h10⟩, ⟨h11, h12⟩, h13, h14⟩ := h
  obtain ⟨ow, eb, et, er, n1, n2⟩ := h3.fr2 F hR h4
  obtain ⟨o1, o2, o3, o4, o5, o6, o7, ⟨p1, p2, p3⟩, ⟨b1, b2, b3⟩, ne, ⟨-, r4⟩, ⟨-, s4⟩, ne2⟩ := h3
  refine ⟨INV.make hS (σ0 := σ) ⟨hH, ow, ?_, by rw [hI]; exact h5, by rw [hI]; exact h8⟩ eb et (h6.tr f (by decide) (by decide)) h7 (by rw [(f 4 (by decide)).1]; exact h9) (fun j hj => by rw [(f 1 (by decide)).2.2]; exact h10 j hj) (by rw [er]; exact h11) (h12.tr f (by decide) (by decide)) (by rw [(f 58 (by decide)).1]; exact h13) hT, n1, n2, by funext j; unfold inp; rw [eb]⟩
  intro x hx
  simp only [List.mem_cons, List.not_mem_nil, or_false] at hx
  left
  rcases hx with e | e | e | e | e <;> subst e <;> omega
theorem S0_ok : SW S0 ∧ SN S0 ∧ OD S0 (fun _ => []) := by
  refine ⟨⟨by decide, by decide, by decide, by decide, fun f hf => absurd hf (Nat.not_lt_zero _), fun f g hf => absurd hf (Nat.not_lt_zero _), fun f g hf => absurd hf (Nat.not_lt_zero _), fun f hf => absurd hf (Nat.not_lt_zero _), fun f g hf => absurd hf (Nat.not_lt_zero _)⟩, ⟨fun f hf => absurd hf (Nat.not_lt_zero _), fun f hf => absurd hf (Nat.not_lt_zero _), fun f hf => absurd hf (Nat.not_lt_zero _)⟩, fun m hm => absurd hm (Nat.not_lt_zero _)⟩
end So
