set_option maxRecDepth 100000
/-! ONE CALL OF THE LAW, AND ALL OF THEM -/
/-- what one sees: schema, orders, the input's length and bytes, the tape's length, the output, what the two rows hold -/
abbrev AbS : Type := SC × (Nat → List Nat) × Nat × (Nat → Nat) × Nat × List UInt8 × Nat × Nat
def AI (a0 : Nat) (A : AbS) (σ : ST) (τ : TT) : Prop := ∃ fa ma ea y z tp b sch ro rs, INV A.1 fa ma ea A.2.1 y z a0 tp b sch ro rs A.2.2.1 A.2.2.2.2.1 A.2.2.2.2.2.1 σ τ ∧ inp σ b = A.2.2.2.1 ∧ sN σ ro = A.2.2.2.2.2.2.1 ∧ sN σ rs = A.2.2.2.2.2.2.2
def WFA (A : AbS) : Prop := (SW A.1 ∧ SN A.1 ∧ OD A.1 A.2.1) ∧ A.2.2.1 ≤ 1000 ∧ (∀ j, A.2.2.2.1 j < 256) ∧ A.2.2.2.2.1 ≤ 1000 ∧ A.2.2.2.2.2.1.length ≤ 4000
/-- one call: what it does, what it costs -/
def STEP (A A' : AbS) (ds dc : Nat) : Prop :=
  (A' = A ∧ ds = 0 ∧ dc = 0) ∨
  (∃ k', A' = (A.1, A.2.1, A.2.2.1, A.2.2.2.1, k', A.2.2.2.2.2) ∧ k' ≤ A.2.2.2.2.1 + 20 ∧ ds = 0 ∧ dc = 0) ∨
  (∃ n' I', A' = (A.1, A.2.1, n', I', 0, A.2.2.2.2.2) ∧ n' ≤ A.2.2.2.2.1 ∧ ds = 0 ∧ dc = 0) ∨
  (∃ n' I', A' = (A.1, A.2.1, n', I', A.2.2.2.2) ∧ n' = A.2.2.2.2.2.1.length ∧ n' ≤ 1000 ∧ (∀ j, j < n' → I' j = (A.2.2.2.2.2.1.getD j 0).toNat) ∧ ds = 0 ∧ dc = 0) ∨
  (∃ S' od', A' = (S', od', A.2.2) ∧ ds ≤ 60100 ∧ dc ≤ 14700) ∨
  (∃ m w' g, (∀ K, A.2.2.2.2.2.2.2 = cpF K → ∃ L, L ≤ 28 * A.2.2.1 + 2 ∧ g = cpF (max K L)) ∧ ds + rp A.2.2.2.2.2.2.2 ≤ rp g + (8 * A.2.2.1 + 46) ∧ dc + A.2.2.2.2.2.2.2 / 8 ≤ g / 8 + (5 * A.2.2.1 + 42) ∧
    ((w' = [] ∧ A' = (A.1, A.2.1, A.2.2.1, A.2.2.2.1, A.2.2.2.2.1, w', A.2.2.2.2.2.2.1, g)) ∨ (m < A.1.1 ∧ toJ4 A.1 A.2.1 A.2.2.2.1 A.2.2.1 m = some w' ∧ A' = (A.1, A.2.1, A.2.2.1, A.2.2.2.1, A.2.2.2.2.1, w', g, A.2.2.2.2.2.2.1)))) ∨
  (∃ m w' g, A' = (A.1, A.2.1, A.2.2.1, A.2.2.2.1, A.2.2.2.2.1, w', g, A.2.2.2.2.2.2.2) ∧ ((w' = [] ∧ g = A.2.2.2.2.2.2.1 ∧ ds = 0 ∧ dc = 0) ∨ (m < A.1.1 ∧ ds ≤ twS A.1 A.2.1 A.2.2.2.1 A.2.2.1 m ∧ dc ≤ twC A.1 A.2.1 A.2.2.2.1 A.2.2.1 m ∧ ((w' = [] ∧ g = A.2.2.2.2.2.2.1) ∨ (g = cpF w'.length ∧ toW A.1 A.2.1 A.2.2.2.1 A.2.2.1 m = some w')))))
section Sq
variable {a0 : Nat} {A A' : AbS} {σ σ' : ST} {τ τ' : TT} {xs : Nat → Int}
theorem AI.wf (h : AI a0 A σ τ) : WFA A := by
  obtain ⟨fa, ma, ea, y, z, tp, b, sch, ro, rs, hI, e1, e2, e3⟩ := h
  obtain ⟨h1, -, -, -, ⟨-, -, h6, -, h7⟩, ⟨h8, -⟩, ⟨-, h9, -⟩, -⟩ := hI
  exact ⟨h1, h6, by rw [← e1]; exact h7, h8, h9⟩
theorem lawS_eq (h : AI a0 A σ τ) (hx : ∀ j, rg (xs j)) (i : Int) : ∃ σ' τ' A' ds dc, AI a0 A' σ' τ' ∧ STEP A A' ds dc ∧ sS σ' = sS σ + ds ∧ sC σ' = sC σ + dc ∧ ∀ bb : Nat × Nat, Fit bb σ' → lawS bb a0 xs i σ τ = some (1, σ', τ') := by
  obtain ⟨fa, ma, ea, y, z, tp, b, sch, ro, rs, hI, e1, e2, e3⟩ := id h
  have o1 : sc σ a0 = 1 := hI.2.2.1.1
  unfold lawS
  by_cases c0 : iAnd (xs i.toNat) 15 = 0
  · obtain ⟨r, σ', τ', k', q1, q2, q3, iv, s1, s2, s3, s4, s5⟩ := feed_eq hI (xs (i + 1).toNat) (xs (i + 2).toNat) (xs (i + 3).toNat) (xs (i + 4).toNat) (xs (i + 5).toNat)
    refine ⟨σ', τ', (A.1, A.2.1, A.2.2.1, A.2.2.2.1, k', A.2.2.2.2.2), 0, 0, ⟨fa, ma, ea, y, z, tp, b, sch, ro, rs, iv, s5.trans e1, by rw [s3]; exact e2, by rw [s3]; exact e3⟩, Or.inr (Or.inl ⟨k', rfl, s4, rfl, rfl⟩), by rw [s2]; rfl, by rw [s1]; rfl, fun bb _ => ?_⟩
    rw [if_pos c0, gd_pos o1, q1 bb, bind_some', q2, bind_some', gd_pos ⟨q3, q3⟩, if_pos rfl]
  by_cases c1 : iAnd (xs i.toNat) 15 = 1
  · obtain ⟨r, σ', τ', n', k', q1, q2, q3, iv, s1, s2, s3, s4⟩ := end_eq hI (hx (i + 1).toNat) (0, 0)
    have q1 : ∀ bb : Nat × Nat, ws_end bb a0 (xs (i + 1).toNat) σ = some (r, σ') := fun bb => q1
    refine ⟨σ', τ', (A.1, A.2.1, n', inp σ' b, k', A.2.2.2.2.2), 0, 0, ⟨fa, ma, ea, y, z, tp, b, sch, ro, rs, iv, rfl, by rw [s3]; exact e2, by rw [s3]; exact e3⟩, ?_, by rw [s2]; rfl, by rw [s1]; rfl, fun bb _ => ?_⟩
    · rcases s4 with ⟨u1, u2, u3⟩ | ⟨u1, u2⟩
      · exact Or.inl ⟨by rw [u1, u2, u3, e1], rfl, rfl⟩
      · exact Or.inr (Or.inr (Or.inl ⟨n', inp σ' b, by rw [u2], u1, rfl, rfl⟩))
    · rw [if_neg c0, if_pos c1, gd_pos o1, q1 bb, bind_some', q2, bind_some', gd_pos ⟨q3, q3⟩, if_pos rfl]
  by_cases c2 : iAnd (xs i.toNat) 15 = 2
  · obtain ⟨⟨r, σ'⟩, le, ⟨τ', S', fa', ma', ea', od', y', z', sch', q2, q3, iv, s1, s2, s3, s4, s5⟩, q1⟩ := schema_eq hI
    dsimp only at q2 q3 iv s1 s2 s3 s4 s5 le q1
    refine ⟨σ', τ', (S', od', A.2.2), sS σ' - sS σ, sC σ' - sC σ, ⟨fa', ma', ea', y', z', tp, b, sch', ro, rs, iv, s5.trans e1, s3.trans e2, s4.trans e3⟩, Or.inr (Or.inr (Or.inr (Or.inr (Or.inl ⟨S', od', rfl, by omega, by omega⟩)))), by have := le.2.2; omega, by have := le.2.1; omega, fun bb hf => ?_⟩
    rw [if_neg c0, if_neg c1, if_pos c2, gd_pos o1, q1 bb hf, bind_some', q2, bind_some', gd_pos ⟨q3, q3⟩, if_pos rfl]
  have same : ∀ (τ' : TT), INV A.1 fa ma ea A.2.1 y z a0 tp b sch ro rs A.2.2.1 A.2.2.2.2.1 A.2.2.2.2.2.1 σ τ' → (∀ bb : Nat × Nat, lawS bb a0 xs i σ τ = some (1, σ, τ')) → ∃ σ' τ' A' ds dc, AI a0 A' σ' τ' ∧ STEP A A' ds dc ∧ sS σ' = sS σ + ds ∧ sC σ' = sC σ + dc ∧ ∀ bb : Nat × Nat, Fit bb σ' → lawS bb a0 xs i σ τ = some (1, σ', τ') := fun τ' iv q => ⟨σ, τ', A, 0, 0, ⟨fa, ma, ea, y, z, tp, b, sch, ro, rs, iv, e1, e2, e3⟩, Or.inl ⟨rfl, rfl, rfl⟩, rfl, rfl, fun bb _ => q bb⟩
  unfold lawS at same
  by_cases c3 : iAnd (xs i.toNat) 15 = 3
  · obtain ⟨r, τ', q1, q2, q3, iv⟩ := count_eq hI (hx (i + 1).toNat)
    refine same τ' iv (fun bb => ?_)
    rw [if_neg c0, if_neg c1, if_neg c2, if_pos c3, gd_pos o1, q1, bind_some', q2, bind_some', gd_pos ⟨q3, q3⟩, if_pos rfl]
  by_cases c4 : iAnd (xs i.toNat) 15 = 4
  · obtain ⟨r, τ', q1, q2, q3, iv⟩ := field_eq hI (hx (i + 1).toNat) (hx (i + 2).toNat)
    refine same τ' iv (fun bb => ?_)
    rw [if_neg c0, if_neg c1, if_neg c2, if_neg c3, if_pos c4, gd_pos o1, q1, bind_some', q2, bind_some', gd_pos ⟨q3, q3⟩, if_pos rfl]
  by_cases c5 : iAnd (xs i.toNat) 15 = 5
  · obtain ⟨r, τ', q1, q2, q3, iv⟩ := letter_eq hI (hx (i + 1).toNat) (hx (i + 2).toNat)
    refine same τ' iv (fun bb => ?_)
    rw [if_neg c0, if_neg c1, if_neg c2, if_neg c3, if_neg c4, if_pos c5, gd_pos o1, q1, bind_some', q2, bind_some', gd_pos ⟨q3, q3⟩, if_pos rfl]
  by_cases c6 : iAnd (xs i.toNat) 15 = 6
  · obtain ⟨⟨r, σ'⟩, le, ⟨τ', ro', rs', w', q2, q3, ⟨iv, s5⟩, s1, s2, s3, s4, s6⟩, q1⟩ := toJson_eq hI (hx (i + 1).toNat)
    dsimp only at q2 q3 iv s1 s2 s3 s4 s5 s6 le q1
    rw [e3] at s3 s4 s6
    refine ⟨σ', τ', (A.1, A.2.1, A.2.2.1, A.2.2.2.1, A.2.2.2.2.1, w', sN σ' ro', sN σ' rs'), sS σ' - sS σ, sC σ' - sC σ, ⟨fa, ma, ea, y, z, tp, b, sch, ro', rs', iv, s5.trans e1, rfl, rfl⟩, Or.inr (Or.inr (Or.inr (Or.inr (Or.inr (Or.inl ⟨(xs (i + 1).toNat).toNat, w', sN σ' rs, s3, by have := le.2.2; omega, by have := le.2.1; omega, ?_⟩))))), by have := le.2.2; omega, by have := le.2.1; omega, fun bb hf => ?_⟩
    · rcases s1 with ⟨u1, u2, u3⟩ | ⟨u1, u2, u3⟩
      · exact Or.inl ⟨u3, by rw [u1, u2, s2, e2]⟩
      · refine Or.inr ?_
        by_cases cx : 0 ≤ xs (i + 1).toNat ∧ xs (i + 1).toNat < (A.1.1 : Int)
        · rw [if_pos cx, e1] at u3
          exact ⟨by omega, u3, by rw [u1, u2, s2, e2]⟩
        · rw [if_neg cx] at u3; cases u3
    · rw [if_neg c0, if_neg c1, if_neg c2, if_neg c3, if_neg c4, if_neg c5, if_pos c6, gd_pos o1, q1 bb hf, bind_some', q2, bind_some', gd_pos ⟨q3, q3⟩, if_pos rfl]
  by_cases c7 : iAnd (xs i.toNat) 15 = 7
  · obtain ⟨⟨r, σ'⟩, le, ⟨τ', ro', w', q2, q3, ⟨iv, s5⟩, s1, s2, s3, s4⟩, q1⟩ := toWire_eq hI (hx (i + 1).toNat)
    dsimp only at q2 q3 iv s1 s2 s3 s4 s5 le q1
    refine ⟨σ', τ', (A.1, A.2.1, A.2.2.1, A.2.2.2.1, A.2.2.2.2.1, w', sN σ' ro', A.2.2.2.2.2.2.2), sS σ' - sS σ, sC σ' - sC σ, ⟨fa, ma, ea, y, z, tp, b, sch, ro', rs, iv, s5.trans e1, rfl, s3.trans e3⟩, Or.inr (Or.inr (Or.inr (Or.inr (Or.inr (Or.inr ⟨(xs (i + 1).toNat).toNat, w', sN σ' ro', rfl, ?_⟩))))), by have := le.2.2; omega, by have := le.2.1; omega, fun bb hf => ?_⟩
    · by_cases cx : 0 ≤ xs (i + 1).toNat ∧ xs (i + 1).toNat < (A.1.1 : Int)
      · rw [if_pos cx, e1] at s1 s2
        rw [if_pos cx, e1] at s4
        refine Or.inr ⟨by omega, by omega, by omega, ?_⟩
        rcases s4 with ⟨u1, u2, u3⟩ | ⟨u1, u2⟩
        · exact Or.inl ⟨u2, by rw [u1, u3, e2]⟩
        · exact Or.inr ⟨u1, u2⟩
      · rw [if_neg cx] at s1 s2 s4
        rcases s4 with ⟨u1, u2, u3⟩ | ⟨u1, u2⟩
        · exact Or.inl ⟨u2, by rw [u1, u3, e2], by omega, by omega⟩
        · cases u2
    · rw [if_neg c0, if_neg c1, if_neg c2, if_neg c3, if_neg c4, if_neg c5, if_neg c6, if_pos c7, gd_pos o1, q1 bb hf, bind_some', q2, bind_some', gd_pos ⟨q3, q3⟩, if_pos rfl]
  by_cases c8 : iAnd (xs i.toNat) 15 = 8
  · obtain ⟨r, σ', τ', n', q1, q2, q3, iv, s1, s2, s3, s4⟩ := turn_eq hI (0, 0)
    have q1 : ∀ bb : Nat × Nat, ws_turn bb a0 σ = some (r, σ') := fun bb => q1
    refine ⟨σ', τ', (A.1, A.2.1, n', inp σ' b, A.2.2.2.2), 0, 0, ⟨fa, ma, ea, y, z, tp, b, sch, ro, rs, iv, rfl, by rw [s3]; exact e2, by rw [s3]; exact e3⟩, ?_, by rw [s2]; rfl, by rw [s1]; rfl, fun bb _ => ?_⟩
    · rcases s4 with ⟨u1, u2⟩ | ⟨u1, u2, u3⟩
      · exact Or.inl ⟨by rw [u1, u2, e1], rfl, rfl⟩
      · exact Or.inr (Or.inr (Or.inr (Or.inl ⟨n', inp σ' b, rfl, u1, u2, u3, rfl, rfl⟩)))
    · rw [if_neg c0, if_neg c1, if_neg c2, if_neg c3, if_neg c4, if_neg c5, if_neg c6, if_neg c7, if_pos c8, gd_pos o1, q1 bb, bind_some', q2, bind_some', gd_pos ⟨q3, q3⟩, if_pos rfl]
  by_cases c9 : iAnd (xs i.toNat) 15 = 9
  · obtain ⟨r, τ', q1, q2, q3, iv⟩ := output_eq hI (hx (i + 1).toNat)
    refine same τ' iv (fun bb => ?_)
    rw [if_neg c0, if_neg c1, if_neg c2, if_neg c3, if_neg c4, if_neg c5, if_neg c6, if_neg c7, if_neg c8, if_pos c9, gd_pos o1, q1, bind_some', q2, bind_some', gd_pos ⟨q3, q3⟩, if_pos rfl]
  refine same τ hI (fun bb => ?_)
  rw [if_neg c0, if_neg c1, if_neg c2, if_neg c3, if_neg c4, if_neg c5, if_neg c6, if_neg c7, if_neg c8, if_neg c9]
/-- all calls, if what they cost is bounded -/
theorem lawL_eq {Φ : Nat → AbS → Nat → Nat → Prop} {BS BC s0 c0 L : Nat} (hB : ∀ t A s c, t ≤ 64 → Φ t A s c → s ≤ BS ∧ c ≤ BC) (hS : ∀ t A A' s c ds dc, t < 64 → WFA A → WFA A' → Φ t A s c → STEP A A' ds dc → Φ (t + 1) A' (s + ds) (c + dc)) (hx : ∀ j, rg (xs j)) (hL : L ≤ 384) : ∀ (N t : Nat) (A : AbS) (s c : Nat) (σ : ST) (τ : TT), AI a0 A σ τ → Φ t A s c → sS σ = s0 + s → sC σ = c0 + c → t ≤ 64 → 64 < N + t →
    ∃ σ' τ', sS σ' ≤ s0 + BS ∧ sC σ' ≤ c0 + BC ∧ sS σ ≤ sS σ' ∧ sC σ ≤ sC σ' ∧ ∀ bb : Nat × Nat, Fit bb σ' → lawL bb a0 xs L N ((6 * t : Nat) : Int) σ τ = some (1, σ', τ')
  | 0, t, A, s, c, σ, τ, _, _, _, _, h1, h2 => by omega
  | N + 1, t, A, s, c, σ, τ, h, hp, es, ec, ht, hN => by
    have hb := hB t A s c ht hp
    by_cases cL : (L : Int) - 6 < ((6 * t : Nat) : Int)
    · refine ⟨σ, τ, by omega, by omega, Nat.le_refl _, Nat.le_refl _, fun bb _ => ?_⟩
      rw [lawL, gd_pos (by omega), if_pos cL]
    · have ht : t < 64 := by omega
      obtain ⟨σ1, τ1, A1, ds, dc, h1, st, es1, ec1, q1⟩ := lawS_eq h hx ((6 * t : Nat) : Int)
      have hp1 := hS t A A1 s c ds dc ht h.wf h1.wf hp st
      obtain ⟨σ', τ', b1, b2, b3, b4, q⟩ := lawL_eq (s0 := s0) (c0 := c0) hB hS hx hL N (t + 1) A1 (s + ds) (c + dc) σ1 τ1 h1 hp1 (by omega) (by omega) (by omega) (by omega)
      refine ⟨σ', τ', b1, b2, by omega, by omega, fun bb hf => ?_⟩
      rw [lawL, gd_pos (by omega), if_neg cL, q1 bb ⟨by have := hf.1; omega, by have := hf.2; omega⟩, bind_some']
      dsimp only
      rw [if_neg (by decide), show ((6 * t : Nat) : Int) + 6 = ((6 * (t + 1) : Nat) : Int) by omega]
      exact q bb hf
end Sq
