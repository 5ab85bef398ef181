set_option maxRecDepth 100000
/-! THE CALL schema, whole -/
section Sp
variable {S : SC} {fa ma ea : Nat → Nat} {od : Nat → List Nat} {y z a0 tp b sch ro rs n k : Nat} {w : List UInt8} {σ σ' : ST} {τ τ' : TT} {I : Nat → Nat}
/-- what schema makes first -/
def SFt (a0 b n : Nat) (σ σ5 : ST) : Prop := FR (fun x => x = a0) σ σ5 ∧ (∀ k, k ≠ 4 → sR σ5 k a0 = sR σ k a0) ∧ (∀ k, sI σ5 k a0 = sI σ k a0) ∧ sR σ5 4 a0 = some (sZ σ) ∧ (sc σ5 (sZ σ) = 2 ∧ sR σ5 17 (sZ σ) = some (sZ σ + 5) ∧ sR σ5 18 (sZ σ) = some (sZ σ + 6) ∧ sR σ5 19 (sZ σ) = some (sZ σ + 7)) ∧ (∀ j, 5 ≤ j → j < 8 → sc σ5 (sZ σ + j) = 16 ∧ sA σ5 (sZ σ + j) = []) ∧
  SRd σ5 (sZ σ + 8) b (inp σ b) n 0 ∧ sR σ5 86 (sZ σ + 8) = some (sZ σ + 9) ∧ PSy (sZ σ + 8) σ5 (inp σ b) n (sZ σ + 9) (sZ σ + 10) [] [] [] [] [] [] [] ∧ CNT σ5 (sZ σ + 9) [] [] [] [] ∧ sZ σ5 = sZ σ + 17 ∧ sS σ5 = sS σ + 65 ∧ sC σ5 = sC σ + 17
theorem schema_front (h : INV S fa ma ea od y z a0 tp b sch ro rs n k w σ τ) {K : Int × ST → Prop} (hk : ∀ σ5, SFt a0 b n σ σ5 → Rn (fun r : Int × ST => r.2) σ5 (fun bb => Option.bind (sr_read bb (sZ σ + 8) σ5) (tC (fun σ15 => some ((1, σ15))) fun y12 σ13 => gd (rm bb σ13 1) (nm (nO σ13 10 1) fun σ18 => Option.bind (ck_init bb (sZ σ13) y12 σ18) fun y19 => gd (sc y19 (sZ σ13) = 10) (Option.bind (ck_fault bb (sZ σ13) y19) fun y21 => gd (rg y21.1) (if y21.1 = 0 then (gd (sc y21.2 a0 = 1) (nm (pR y21.2 4 a0 y12) fun σ25 => some ((y21.1, σ25)))) else (some ((y21.1, y21.2)))))))) K) : Rn (fun r : Int × ST => r.2) σ (fun bb => ws_schema bb a0 σ) K := by
  obtain ⟨-, -, h3, -, ⟨h5, h6⟩, -⟩ := h
  obtain ⟨o1, o2, o3, o4, o5, o6, o7, ⟨p1, p2, p3⟩, ⟨b1, b2, b3⟩, ne, ⟨-, r4⟩, ⟨-, s4⟩, ne2⟩ := h3
  unfold ws_schema
  refine Rn_nO ?_
  have q1 : sc (nO σ 2 7) (sZ σ) = 2 := by rw [sc_nO_, if_pos rfl]
  have z1 : sZ (nO σ 2 7) = sZ σ + 1 := rfl
  refine Rn_bind (su := id) (sch_init_eq q1 (by omega)) (fun σ2 _ A => ?_)
  obtain ⟨a1, a2, ⟨a3, a4, a5, a6⟩, a7, -, aD, aE, aF, aG⟩ := A
  rw [z1] at a3 a4 a5 a6 aD aE
  rw [show sS (nO σ 2 7) = sS σ + 7 from rfl] at aF
  rw [show sC (nO σ 2 7) = sC σ + 1 from rfl] at aG
  show Rn _ σ2 _ _
  have F2 : FR (fun _ => False) σ σ2 := (FR.nO _ σ 2 7).tr a1 (fun a ha e => by omega)
  obtain ⟨c2, m2⟩ := F2.2 a0 o2
  have m2 := m2 (fun e => e)
  have c2 : sc σ2 a0 = 1 := by rw [c2]; exact o1
  refine Rn_pR c2 ?_
  obtain ⟨σ3, e3⟩ : ∃ Y, Y = pR σ2 4 a0 (some (sZ σ)) := ⟨_, rfl⟩
  have F3 : FR (fun x => x = a0) σ2 σ3 := by rw [e3]; exact FR.at1 (at_pR _ _ _ _) rfl
  have r3 : ∀ j x, sR σ3 j x = if j = 4 ∧ x = a0 then some (sZ σ) else sR σ2 j x := fun j x => by rw [e3, sR_pR]
  have i3 : sI σ3 = sI σ2 := by rw [e3]; rfl
  have z3 : sZ σ3 = sZ σ + 8 ∧ sS σ3 = sS σ + 29 ∧ sC σ3 = sC σ + 8 := by rw [e3]; exact ⟨by show sZ σ2 = _; omega, by show sS σ2 = _; omega, by show sC σ2 = _; omega⟩
  have c3 : sc σ3 = sc σ2 := by rw [e3]; rfl
  have A3 : sA σ3 = sA σ2 := by rw [e3]; rfl
  rw [← e3]
  refine Rn_nO ?_
  have q4 : sc (nO σ3 6 7) (sZ σ3) = 6 := by rw [sc_nO_, if_pos rfl]
  have z4 : sZ (nO σ3 6 7) = sZ σ3 + 1 := rfl
  have c4 : sc (nO σ3 6 7) a0 = 1 := by rw [sc_nO_, if_neg (by omega), c3]; exact c2
  have R4 : sR (nO σ3 6 7) 1 a0 = some b := by rw [sR_nO_, if_neg (by omega), r3, if_neg (fun e => by omega), m2.2.2.2.2.2.2.2.2.2]; exact o4
  have I4 : sI (nO σ3 6 7) 3 a0 = (n : Int) := by rw [sI_nO_, if_neg (by omega), i3, m2.2.2.2.2.2.2.2.1]; exact h5
  refine Rn_gd c4 ?_
  rw [R4, I4]
  refine Rn_bind (su := id) (sr_init_eq q4 (by omega)) (fun σ5 _ A => ?_)
  have A : SrI (sZ σ3) (some b) (n : Int) (nO σ3 6 7) σ5 := A
  show Rn _ σ5 _ _
  have ps := psy_new (I := inp σ b) (n := n) (y := sZ σ + 8) A (by omega)
  obtain ⟨g1, g2, g3, g4, g5, g6, -, -, -, gz, gS, gC⟩ := A
  rw [z4, z3.1] at g3 gz
  rw [z4, z3.1] at ps
  rw [z3.1] at g2 g4 g5 g6
  have gS : sS σ5 = sS σ + 65 := by rw [gS]; show sS σ3 + 7 + 29 = _; omega
  have gC : sC σ5 = sC σ + 17 := by rw [gC]; show sC σ3 + 1 + 8 = _; omega
  refine Rn_gd (by rw [z3.1]; exact g2) ?_
  rw [z3.1]
  have F35 : FR (fun _ => False) σ3 σ5 := (FR.nO _ σ3 6 7).tr g1 (fun a ha e => by omega)
  have F05 : FR (fun x => x = a0) σ σ5 := FR.t1 (F2.up (fun _ _ e => e.elim)) (FR.t1 F3 (F35.up (fun _ _ e => e.elim)))
  have s35 : ∀ x, x < sZ σ + 8 → SameB σ3 σ5 x ∧ sc σ5 x = sc σ3 x := fun x hx => ⟨(F35.2 x (by omega)).2 (fun e => e), (F35.2 x (by omega)).1⟩
  have R5 : ∀ j x, x < sZ σ + 8 → sR σ5 j x = if j = 4 ∧ x = a0 then some (sZ σ) else sR σ2 j x := fun j x hx => by rw [(s35 x hx).1.2.2.2.2.2.2.2.2.2, r3]
  have cb := F05.2 b b3
  have sb := cb.2 (fun e => by rw [e, o1] at b1; cases b1)
  refine hk σ5 ⟨F05, fun k hk => ?_, fun k => ?_, ?_, ⟨?_, ?_, ?_, ?_⟩, fun j h1 h2 => ?_, ⟨g2, g4, by rw [cb.1]; exact b1, by rw [sb.2.2.1]; exact b2, fun j _ => by rw [sb.2.2.2.1]; rfl, h6.2.1, g5, ?_, Nat.zero_le _, by omega, by omega⟩, g3, ps.1, ps.2, by omega, gS, gC⟩
  · rw [R5 _ _ (by omega), if_neg (fun e => hk e.1)]; exact m2.2.2.2.2.2.2.2.2.2 k
  · rw [(s35 a0 (by omega)).1.2.2.2.2.2.2.2.1, i3]; exact m2.2.2.2.2.2.2.2.1 k
  · rw [R5 _ _ (by omega), if_pos ⟨rfl, rfl⟩]
  · rw [(s35 _ (by omega)).2, c3]; exact a2
  · rw [R5 _ _ (by omega), if_neg (fun e => by omega)]; exact a4
  · rw [R5 _ _ (by omega), if_neg (fun e => by omega)]; exact a5
  · rw [R5 _ _ (by omega), if_neg (fun e => by omega)]; exact a6
  · obtain ⟨u1, u2, -⟩ := aD (j - 1) (by omega) (by omega)
    rw [show sZ σ + 1 + (j - 1) = sZ σ + j by omega] at u1 u2
    exact ⟨by rw [(s35 _ (by omega)).2, c3]; exact u1, by rw [(s35 _ (by omega)).1.2.1, A3]; exact u2⟩
  · rw [g6 82 (by decide), sI_nO_, if_pos z3.1.symm]; rfl
/-- nothing was read -/
theorem inv_empty (h : INV S fa ma ea od y z a0 tp b sch ro rs n k w σ τ) {σ5 : ST} (h5 : SFt a0 b n σ σ5) (F : FR (fun x => sZ σ + 8 ≤ x) σ5 σ') (f : TF KZs τ τ') (z35 : tI τ' 35 = 0) (z36 : tI τ' 36 = 0) (z37 : tI τ' 37 = 0) (z38 : tI τ' 38 = 0) : INV S0 (fun _ => 0) (fun _ => 0) (fun _ => 0) (fun _ => []) (sZ σ) (sZ σ + 8) a0 tp b (sZ σ) ro rs n k w σ' τ' ∧ sN σ' ro = sN σ ro ∧ sN σ' rs = sN σ rs ∧ inp σ' b = inp σ b := by
  have o2 : a0 < sZ σ := h.2.2.1.2.1
  obtain ⟨F5, r5, i5, r4, ⟨c2, c17, c18, c19⟩, ls, -, -, -, -, z5, -⟩ := h5
  have hz := F.1.1
  have sm : ∀ x, x < sZ σ + 8 → SameB σ5 σ' x ∧ sc σ' x = sc σ5 x := fun x hx => ⟨(F.2 x (by omega)).2 (by omega), (F.2 x (by omega)).1⟩
  have F' : FR (fun x => x = a0) σ σ' := F5.tr F (fun x hx e => by omega)
  have rr : ∀ j x, x < sZ σ + 8 → sR σ' j x = sR σ5 j x := fun j x hx => (sm x hx).1.2.2.2.2.2.2.2.2.2 j
  have l8 : ∀ j, 5 ≤ j → j < 8 → sZ σ ≤ sZ σ + j ∧ sZ σ + j < sZ σ + 8 ∧ sc σ' (sZ σ + j) = 16 ∧ sA σ' (sZ σ + j) = [] := fun j h1 h2 => by
    obtain ⟨u1, u2⟩ := ls j h1 h2
    exact ⟨by omega, by omega, by rw [(sm _ (by omega)).2]; exact u1, by rw [(sm _ (by omega)).1.2.1]; exact u2⟩
  refine h.new F' (fun k hk => by rw [rr _ _ (by omega)]; exact r5 k hk) (fun k => by rw [(sm a0 (by omega)).1.2.2.2.2.2.2.2.1]; exact i5 k) (by rw [rr _ _ (by omega)]; exact r4) f (Nat.le_refl _) S0_ok ⟨⟨by omega, fun f hf => absurd hf (Nat.not_lt_zero _), fun f g hf => absurd hf (Nat.not_lt_zero _), fun f hf => absurd hf (Nat.not_lt_zero _), fun f g hf => absurd hf (Nat.not_lt_zero _), fun f hf => absurd hf (Nat.not_lt_zero _)⟩, ⟨fun f hf => absurd hf (Nat.not_lt_zero _), fun f hf => absurd hf (Nat.not_lt_zero _), fun f hf => absurd hf (Nat.not_lt_zero _)⟩, ⟨Nat.le_refl _, by omega, by rw [(sm _ (by omega)).2]; exact c2, sZ σ + 5, sZ σ + 6, sZ σ + 7, by rw [rr _ _ (by omega)]; exact c17, by rw [rr _ _ (by omega)]; exact c18, by rw [rr _ _ (by omega)]; exact c19, l8 5 (by decide) (by decide), l8 6 (by decide) (by decide), l8 7 (by decide) (by decide)⟩⟩ ⟨z35, z36, z37, z38, fun f hf => absurd hf (Nat.not_lt_zero _), fun f hf => absurd hf (Nat.not_lt_zero _)⟩
/-- refused by the reference -/
theorem m_tail {c : Int} (hc : 0 < c) (hr : rg c) : ∃ τ'', (gd (rg c) (if c ≤ 0 then (some ((c, τ'))) else (Option.bind (m_clearSchema τ') fun y12 => some ((c, y12))))) = some (c, τ'') ∧ TF [35, 36, 37, 38, 39, 40] τ' τ'' ∧ tI τ'' 35 = 0 ∧ tI τ'' 36 = 0 ∧ tI τ'' 37 = 0 ∧ tI τ'' 38 = 0 := by
  obtain ⟨τ2, e2, f2, z35, z36, z37, z38, z39, z40⟩ := m_clear_eq τ'
  exact ⟨τ2, by rw [gd_pos hr, if_neg (by omega), e2, bind_some'], f2, z35, z36, z37, z38⟩
theorem schema_eq (h : INV S fa ma ea od y z a0 tp b sch ro rs n k w σ τ) : Rn (fun r : Int × ST => r.2) σ (fun bb => ws_schema bb a0 σ) (fun r => ∃ τ' S' fa' ma' ea' od' y' z' sch', m_schema τ = some (r.1, τ') ∧ rg r.1 ∧ INV S' fa' ma' ea' od' y' z' a0 tp b sch' ro rs n k w r.2 τ' ∧ sS r.2 ≤ sS σ + 60100 ∧ sC r.2 ≤ sC σ + 14700 ∧ sN r.2 ro = sN σ ro ∧ sN r.2 rs = sN σ rs ∧ inp r.2 b = inp σ b) := by
  refine schema_front h (fun σ5 h5 => ?_)
  obtain ⟨o1, o2, -, -, -, -, -, -, ⟨b1, b2, b3⟩, -⟩ := h.2.2.1
  obtain ⟨F5, r5, i5, r4, -, -, sr, r86, ps, cn, z5, s5, k5⟩ := id h5
  obtain ⟨τ4, K, e4, f4, t8, kD, tk, ts⟩ := m_front h.2.2.2.2.1.2
  have hI : ∀ j, inp σ b j < 256 := h.2.2.2.2.1.2.2.2.2
  have hn : n ≤ 1000 := h.2.2.2.2.1.2.2.1
  have hG : GR (inp σ b) n K (sZ σ + 8) b (sZ σ + 8) := ⟨kD, hI, hn, Nat.le_refl _, by omega⟩
  have RD := read_eq (s0 := sS σ5) (c0 := sC σ5) hG sr r86 (by omega) ps cn (Nat.le_refl _) (Nat.le_refl _) t8 tk ts
  refine Rn_tC RD (fun σ6 _ A => ?_) (fun y12 σ6 _ A => ?_)
  · rcases A with ⟨-, ⟨A1, A2, A3⟩, τ5, m5, bad, fb⟩ | ⟨τ5, M, E, V, F, O, R, N, i, q, -⟩
    case inr => cases q
    have A1 : FR (fun x => sZ σ + 8 ≤ x) σ5 σ6 := A1
    have A2 : sS σ6 ≤ sS σ5 + 54000 := A2
    have A3 : sC σ6 ≤ sC σ5 + 14000 := A3
    obtain ⟨τ6, e6, f6, z35, z36, z37, z38⟩ := m_tail (τ' := τ5) (c := 1) (by decide) (by decide)
    have ft : TF KZs τ τ6 := (f4.tr (fb.mono (by decide)) (fun _ u => u)).tr f6 (by decide)
    obtain ⟨iv, n1, n2⟩ := inv_empty h h5 A1 ft z35 z36 z37 z38
    refine Rn_some (Le.refl _) ⟨τ6, S0, fun _ => 0, fun _ => 0, fun _ => 0, fun _ => [], sZ σ, sZ σ + 8, sZ σ, ?_, by show rg (1 : Int); decide, iv, by show sS σ6 ≤ _; omega, by show sC σ6 ≤ _; omega, n1, n2⟩
    rw [e4, m5, bind_some', show m_refusal τ5 = some (1, τ5) by
      unfold m_refusal
      rw [bad, gd_pos (by decide), if_neg (by decide)], bind_some']
    exact e6
  rcases A with ⟨q, -⟩ | ⟨τ5, M, E, V, F, O, R, N, i, q, m5, A1, fb, mr, tp5, st, -, y6, pw, ⟨ob, L, H, Q, B⟩, cnt, A2, A3⟩
  · cases q
  have q : y12 = some (sZ σ + 9) := Option.some.inj q
  subst q
  have A1 : FR (fun x => sZ σ + 8 ≤ x) σ5 σ6 := A1
  have ob1 := Om_le hG pw mr.2.2.2.1
  have A2 : sS σ6 ≤ sS σ5 + Om (inp σ b) n i M E V F O := A2
  have A3 : sC σ6 ≤ sC σ5 + Oc i M E V F O := A3
  dsimp only at H Q B pw cnt
  refine Rn_nO ?_
  have c7 : sc (nO σ6 10 1) (sZ σ6) = 10 := by rw [sc_nO_, if_pos rfl]
  refine Rn_eq (fun bb => by rw [show ck_init bb (sZ σ6) (some (sZ σ + 9)) (nO σ6 10 1) = some (pR (nO σ6 10 1) 144 (sZ σ6) (some (sZ σ + 9))) from by unfold ck_init; rw [gd_pos c7, nm_eq], bind_some']) ?_
  obtain ⟨σ8, e8⟩ : ∃ Y, Y = pR (nO σ6 10 1) 144 (sZ σ6) (some (sZ σ + 9)) := ⟨_, rfl⟩
  have F8 : FR (fun _ => False) σ6 σ8 := by
    rw [e8]
    exact (FR.nO _ σ6 10 1).tr (FR.at1 (W := fun x => x = sZ σ6) (at_pR _ _ _ _) rfl) (fun x hx e => by omega)
  have c8 : sc σ8 (sZ σ6) = 10 := by rw [e8]; exact c7
  have r8 : sR σ8 144 (sZ σ6) = some (sZ σ + 9) := by rw [e8, sR_pR, if_pos ⟨rfl, rfl⟩]
  have z8 : sZ σ8 = sZ σ6 + 1 ∧ sS σ8 = sS σ6 + 1 ∧ sC σ8 = sC σ6 + 1 := by rw [e8]; exact ⟨rfl, rfl, rfl⟩
  rw [← e8]
  refine Rn_le (σ1 := σ8) (by rw [e8]; exact ⟨Nat.le_refl _, Nat.le_refl _, Nat.le_refl _⟩) ?_
  refine Rn_gd c8 ?_
  have F86 : FR6 σ6 σ8 := F8.up (fun _ _ e => e.elim)
  have sf : SFk (sZ σ + 8) σ8 (inp σ b) n ob L (sZ σ + 9) (sZ σ + 10) M E V F O R N (sZ σ6) := ⟨H.fr F86, Q, B.kp (fun x hx => (H.1 x hx).2) F86.kp, pw, cnt.fr H B F86, c8, r8, by omega⟩
  have hRF : RF (inp σ b) n K τ5 M E V F O R N := ⟨kD, mr.1, mr.2.2.1, tp5, pw⟩
  have hr := sf.toR
  have hnd : (F.map (fun f => f.1)).Nodup := hr.2.2.1.2.2.2.2.1
  obtain ⟨c, τ6, e6, f6, cd⟩ := mfault_eq hRF mr.2.2.2.2.2 hr.uq hnd
  refine Rn_bind (sfault_eq sf hn) (fun r9 _ A => ?_)
  obtain ⟨c9, σ9⟩ := r9
  obtain ⟨F9, s9, k9, cd9⟩ := A
  dsimp only at F9 s9 k9 cd9 ⊢
  have ec : c9 = c := cd9.u cd (fun p q => by rw [p.1, q.1])
  subst ec
  have F59 : FR (fun x => sZ σ + 8 ≤ x) σ5 σ9 := (A1.tr F8 (fun _ _ e => e.elim)).tr F9 (fun _ _ e => e)
  have ft : TF KZs τ τ6 := (f4.tr (fb.mono (by decide)) (fun _ u => u)).tr (f6.mono (by decide)) (fun _ u => u)
  have bd : sS σ9 ≤ sS σ + 60100 ∧ sC σ9 ≤ sC σ + 14700 := by
    have := ob1.1
    have := ob1.2
    constructor <;> omega
  rcases cd9.out with cr | ⟨g1, g2, g3, g4, g5, g6, g7, sg⟩
  · have rc : rg c9 := by omega
    refine Rn_gd rc ?_
    refine Rn_neg (by omega) ?_
    obtain ⟨τ7, e7, f7, z35, z36, z37, z38⟩ := m_tail (τ' := τ6) (c := c9) (by omega) rc
    obtain ⟨iv, n1, n2⟩ := inv_empty h h5 F59 (ft.tr f7 (by decide)) z35 z36 z37 z38
    refine Rn_some (Le.refl _) ⟨τ7, S0, fun _ => 0, fun _ => 0, fun _ => 0, fun _ => [], sZ σ, sZ σ + 8, sZ σ, ?_, rc, iv, bd.1, bd.2, n1, n2⟩
    rw [e4, m5, bind_some', e6, bind_some']
    exact e7
  · subst g7
    refine Rn_gd (by decide) ?_
    refine Rn_pos rfl ?_
    rcases cd.out with cr | ⟨-, -, -, -, -, -, -, kin⟩
    · omega
    have F09 : FR (fun x => x = a0) σ σ9 := F5.tr F59 (fun x hx e => by omega)
    have c9a : sc σ9 a0 = 1 := by rw [(F09.2 a0 o2).1]; exact o1
    have z59 := F59.1.1
    have m9 := (F59.2 a0 (by omega)).2 (by omega)
    refine Rn_pR c9a ?_
    obtain ⟨σA, eA⟩ : ∃ Y, Y = pR σ9 4 a0 (some (sZ σ + 9)) := ⟨_, rfl⟩
    have FA : FR (fun x => x = a0) σ9 σA := by rw [eA]; exact FR.at1 (at_pR _ _ _ _) rfl
    have rA : ∀ j x, sR σA j x = if j = 4 ∧ x = a0 then some (sZ σ + 9) else sR σ9 j x := fun j x => by rw [eA, sR_pR]
    have iA : sI σA = sI σ9 := by rw [eA]; rfl
    have zA : sS σA = sS σ9 ∧ sC σA = sC σ9 := by rw [eA]; exact ⟨rfl, rfl⟩
    rw [← eA]
    have kq : ∀ (x : Nat) (f : TyF), F[x]? = some f → ∃ v : Int, KFs σ9 M E f.1 v ∧ v ≠ -1 ∧ tA τ6 28 x = v ∧ 0 ≤ v := fun x f hf => by
      obtain ⟨v, u1, u2, u3⟩ := kin x f hf
      obtain ⟨v', u1', u2'⟩ := sg.2.1 x f hf
      have ev : v' = v := u1'.u hr.uq u1
      rw [ev] at u2'
      refine ⟨v, u2', u2, u3, ?_⟩
      rcases u2' with ⟨d1, -⟩ | ⟨d1, -⟩ | ⟨j, m, d1, -⟩ | ⟨j, e, d1, -⟩
      · exact d1
      · exact absurd d1 u2
      · omega
      · omega
    obtain ⟨od', w1, w2, w3, w4, w5⟩ := hsc_all (kd := fun x => (tA τ6 28 x).toNat) sg g3 (fun x f hf => by
      obtain ⟨v, u1, u2, u3, u4⟩ := kq x f hf
      exact ⟨v, u1, u2, by show ((tA τ6 28 x).toNat : Int) = v; rw [u3]; omega⟩)
    have sw := mkS_SW (kd := fun x => (tA τ6 28 x).toNat) pw hnd g1 g2 g3 g5 g6 w5
    have sn := mkS_SN (kd := fun x => (tA τ6 28 x).toNat) hI pw
    have tsc := mkS_TSc (kd := fun x => (tA τ6 28 x).toNat) (hRF.tf f6) (fun x hx => by
      obtain ⟨f, hf, -, -⟩ := drop_at hx
      obtain ⟨v, u1, u2, u3, u4⟩ := kq x f hf
      show tA τ6 28 x = ((tA τ6 28 x).toNat : Int)
      rw [u3]; omega)
    have FA' : FR (fun x => x < sZ σ + 8 ∨ sZ σ9 ≤ x) σ9 σA := FA.up (fun x _ e => Or.inl (by omega))
    obtain ⟨v1, v2⟩ := HS2.kept w1 w2 FA'
    have v3 := w3.kept (Nat.le_refl _) FA'
    obtain ⟨iv, n1, n2⟩ := h.new (S' := mkS (inp σ b) n M E V F (fun x => (tA τ6 28 x).toNat)) (od' := od') (y' := sZ σ + 8) (z' := sZ σ9) (sch' := sZ σ + 9) (FR.t1 F09 FA) (fun k hk => by rw [rA, if_neg (fun e => hk e.1), m9.2.2.2.2.2.2.2.2.2]; exact r5 k hk) (fun k => by rw [iA, m9.2.2.2.2.2.2.2.1]; exact i5 k) (by rw [rA, if_pos ⟨rfl, rfl⟩]) ft (by omega) ⟨sw, sn, w4⟩ ⟨v1, v2, v3⟩ tsc
    refine Rn_some (Le.refl _) ⟨τ6, _, _, _, _, _, _, _, _, ?_, by show rg (0 : Int); decide, iv, by show sS σA ≤ _; omega, by show sC σA ≤ _; omega, n1, n2⟩
    rw [e4, m5, bind_some', e6, bind_some', gd_pos (by show rg (0 : Int); decide), if_pos (by show (0 : Int) ≤ 0; decide)]
end Sp
