set_option maxRecDepth 100000
/-! SCHEMAS, READ: a field, as the system reads it -/
section Po
variable {y n a b K sd root s0 c0 i ms : Nat} {I : Nat → Nat} {M : List TyM} {E : List TyE} {V : List TyV} {F : List TyF} {O : List TyO} {R : List TyR} {N : List TyN} {σ σ' : ST} {ob : Nat → Prop} {L L' : Nat → Nat → List Nat} {m : TyM}
theorem QV.ag {z : Nat} (Q : QV sd root M E V F O R N L) (h : sd < z ∧ (∀ p s, scA M root p = some s → s < z) ∧ (∀ (j : Nat) (m : TyM), M[j]? = some m → m.1 < z) ∧ ∀ (j : Nat) (e : TyE), E[j]? = some e → e.1 < z) (hL : ∀ k x, x < z → L' k x = L k x) : QV sd root M E V F O R N L' := by
  obtain ⟨⟨q1, q2, q3⟩, qs, qm, qe⟩ := Q
  obtain ⟨h1, h2, h3, h4⟩ := h
  refine ⟨⟨by rw [hL _ _ h1]; exact q1, by rw [hL _ _ h1]; exact q2, by rw [hL _ _ h1]; exact q3⟩, fun p s hp => ?_, fun j m hm => ?_, fun j e he => ?_⟩
  · have := h2 p s hp
    rw [hL _ _ this, hL _ _ this, hL _ _ this]; exact qs p s hp
  · have := h3 j m hm
    rw [hL _ _ this, hL _ _ this, hL _ _ this]; exact qm j m hm
  · have := h4 j e he
    rw [hL _ _ this, hL _ _ this]; exact qe j e he
theorem OBF.set1 {x t pa nm no : Nat} {on re pr : Int} (h : OBF y σ I n L M (x, t, pa, nm, no, ms, on, re, pr)) (w : Nat) : OBF y (pI σ 131 x (w : Int)) I n L M (x, t, pa, nm, w, ms, on, re, pr) := by
  obtain ⟨b1, b2, b3, b4, b5, b6, b7, b8, b9, bA⟩ := h
  exact ⟨b1, b2, b3, b4, by rw [sI_pI, if_pos ⟨rfl, rfl⟩]; rfl, by rw [sI_pI, if_neg (by omega)]; exact b6, by rw [sI_pI, if_neg (by omega)]; exact b7, by rw [sI_pI, if_neg (by omega)]; exact b8, by rw [sI_pI, if_neg (by omega)]; exact b9, bA⟩
theorem hk9 : ∀ k, k ∈ HK → 9 = k / 16 + 1 → k = 139 := by decide
/-- a field read by the system, or none -/
def PlO (I : Nat → Nat) (n K a b y sd root s0 c0 i ms : Nat) (M : List TyM) (E : List TyE) (V : List TyV) (F : List TyF) (O : List TyO) (R : List TyR) (N : List TyN) (σ : ST) (r : Option (Option Nat) × ST) : Prop :=
  (r.1 = none ∧ FL y s0 c0 σ r.2 ∧ (fdlS I n i = none ∨ F.length = 50)) ∨
  ∃ w X ob L, r.1 = some (some X) ∧ fdlS I n i = some w ∧ F.length < 50 ∧ i + 5 + 2 * w ≤ K ∧ FY y σ r.2 ∧ STk r.2 a b I n (tkn I n (i + 5 + 2 * w)) ∧ sR r.2 86 a = some sd ∧ HVw y r.2 ob L ∧ QV sd root M E V (F ++ [(X, i, 1 + w, i + 1 + 2 * w, tkN I (tkn I n (i + 3 + 2 * w)), ms, -1, 0, 0)]) O R N L ∧ OBS y r.2 I n ob L sd root M E V F O N ∧ ob X ∧ OBF y r.2 I n L M (X, i, 1 + w, i + 1 + 2 * w, tkN I (tkn I n (i + 3 + 2 * w)), ms, -1, 0, 0) ∧ (∀ g, g ∈ F → g.1 ≠ X) ∧ CNT r.2 sd M V O R ∧ sS r.2 ≤ s0 + Om I n (i + 5 + 2 * w) M E V F O + 360 ∧ sC r.2 ≤ c0 + Oc (i + 5 + 2 * w) M E V F O + 20
theorem fdlS_0 (h : (tkn I n i).1 ≠ 1) : fdlS I n i = none := by unfold fdlS; rw [if_neg h]
theorem fdlS_n (h : dtS I n (n + 1) (i + 1) = none) : fdlS I n i = none := by
  unfold fdlS; split
  · rw [h]; rfl
  · rfl
theorem fdlS_s {w : Nat} (h : dtS I n (n + 1) (i + 1) = some w) (h2 : ¬ ((tkn I n (i + 1 + 2 * w)).1 = 1 ∧ sgn I n (i + 2 + 2 * w) 61 ∧ (tkn I n (i + 3 + 2 * w)).1 = 2 ∧ sgn I n (i + 4 + 2 * w) 59)) : fdlS I n i = none := by
  unfold fdlS; split
  · rw [h]; exact if_neg h2
  · rfl
set_option maxHeartbeats 4000000 in
theorem plain_eq (hG : GR I n K a b y) (hw : PW I n M E V F O R N) (hst : STk σ a b I n (tkn I n i)) (h86 : sR σ 86 a = some sd) (hy : y ≤ sZ σ) (H : HVw y σ ob L) (Q : QV sd root M E V F O R N L) (B : OBS y σ I n ob L sd root M E V F O N) (hcn : CNT σ sd M V O R) (hS : sS σ ≤ s0 + Om I n i M E V F O) (hC : sC σ ≤ c0 + Oc i M E V F O) (hi : i ≤ K) (hm : M[ms]? = some m) :
    Rn (fun r : Option (Option Nat) × ST => r.2) σ (fun bb => sr_plain bb a (some m.1) σ) (PlO I n K a b y sd root s0 c0 i ms M E V F O R N σ) := by
  obtain ⟨hD, hI, hn, hya, hby⟩ := id hG
  have hKn := hD.1
  have om := Om_le hG hw hi
  have hent := hw.1
  have f50 := hw.1.2.2.2.1
  have a6 := hst.1.1
  have az : a < sZ σ := hst.1.2.2.2.2.2.2.2.2.2.1
  have bz : b < sZ σ := hst.1.2.2.2.2.2.2.2.2.2.2
  have d2 : sc σ sd = 2 := B.1.2.2.1
  obtain ⟨lf, lf1, lf2, lf3, lf4, lf5, -⟩ := H.get (k := 19) B.1.1 (by decide) d2
  have lf4 : sc σ lf = 16 := lf4
  have lf5 := lf5 rfl
  have eL : (L 19 sd).length = F.length := by rw [Q.1.2.2, List.length_map]
  unfold sr_plain
  refine Rn_eq (fun bb => by rw [gd_pos a6, h86, bind_some', gd_pos d2, lf1, bind_some', gd_pos lf4, l_sz lf4, bind_some', lf5.1, eL, gd_pos (by omega)]) ?_
  by_cases q50 : F.length = 50
  · refine Rn_eq (fun bb => by rw [if_pos (show (50 : Int) ≤ ((F.length : Nat) : Int) by omega), bind_some']) ?_
    exact Rn_srm0 rfl (Or.inl ⟨rfl, FL.make (FY.refl _ _) (by omega) (by omega), Or.inr q50⟩)
  refine Rn_eq (fun bb => by rw [if_neg (show ¬ (50 : Int) ≤ ((F.length : Nat) : Int) by omega), bind_some', sr_must1, bind_some', tB_some]) ?_
  refine Rn_nL ?_
  have F1 : ∀ W, FR W σ (nL σ) := fun W => FR.nL W σ
  obtain ⟨σ1, hσ1⟩ : ∃ A, A = nL σ := ⟨_, rfl⟩
  have z1 : sZ σ1 = sZ σ + 1 := by rw [hσ1]; rfl
  have s1 : sS σ1 = sS σ + 3 := by rw [hσ1]; rfl
  have c1 : sC σ1 = sC σ + 1 := by rw [hσ1]; rfl
  have T1 : sc σ1 (sZ σ) = 16 := by rw [hσ1, sc_nL_, if_pos rfl]
  have T1a : sA σ1 (sZ σ) = [] := by rw [hσ1, sA_nL_, if_pos rfl]
  have T1n : sN σ1 (sZ σ) = 0 := by rw [hσ1, sN_nL_, if_pos rfl]
  have r1 : sR σ1 86 a = some sd := by rw [hσ1]; exact h86
  rw [← hσ1] at F1 ⊢
  have st1 := hst.fr (F1 (fun _ => False)) (fun h => h) (fun h => h)
  refine Rn_eq (fun bb => by rw [gd_pos st1.1.1]) ?_
  refine Rn_tB (sr_name_eq hI st1) (fun σ' _ hj => ?_) (fun rr σ2 _ hj => ?_)
  · rcases hj with ⟨-, q, -⟩ | ⟨qk, q⟩
    · cases q
    · have eσ : σ' = nX σ1 := congrArg Prod.snd q
      subst eσ
      exact ⟨rfl, Or.inl ⟨rfl, FL.make (F1 _) (by omega) (by omega), Or.inl (fdlS_0 qk)⟩⟩
  rcases hj with ⟨qk, qr, st2, F2, z2, rc2, rw2, s2, c2, r2⟩ | ⟨-, q⟩
  case inr => cases q
  have er : rr = some (sZ σ1) := Option.some.inj qr
  subst er
  dsimp only at st2 F2 z2 rc2 rw2 s2 c2 r2
  have wl := word_len qk
  have hiK : i + 1 ≤ K := by
    by_cases e : i = K
    · rw [e] at qk; rw [hD.2.1] at qk; cases qk
    · omega
  have T2s : SameB σ1 σ2 (sZ σ) := (F2.2 _ (by omega)).2 (by omega)
  have T2 : sc σ2 (sZ σ) = 16 := by rw [(F2.2 _ (by omega)).1]; exact T1
  have T2a : sA σ2 (sZ σ) = [] := by rw [T2s.2.1]; exact T1a
  have T2n : sN σ2 (sZ σ) = 0 := by rw [T2s.2.2.1]; exact T1n
  refine Rn_eq (fun bb => by rw [gd_pos T2]) ?_
  refine Rn_bind (su := fun r : Int × ST => r.2) (rn_ladd2 T2 (Or.inl rc2) (by rw [T2a]; decide) (by rw [T2n]; omega)) (fun y3 _ A3 => ?_)
  obtain ⟨i3, σ3⟩ := y3
  dsimp only at A3 ⊢
  obtain ⟨A3, am3⟩ := A3
  have ne3 := st2.ne T2 (by decide) (by decide)
  have st3 := st2.la A3 ne3.1 ne3.2
  have z3 : sZ σ2 ≤ sZ σ3 := A3.2.2.2.2.2.2.2.2.1.1.1
  have T3a : sA σ3 (sZ σ) = [sZ σ1] := by rw [A3.2.2.2.2.2.1, if_pos rfl, T2a]; rfl
  have T3n : sN σ3 (sZ σ) ≤ 12 := by have := A3.2.2.2.2.2.2.2.1; rw [T2a] at this; exact this
  have T3 : sc σ3 (sZ σ) = 16 := by rw [A3.1]; exact T2
  have c3 : sC σ3 ≤ sC σ2 + 1 := A3.2.2.2.2.2.2.2.2.2.2
  rw [T2n] at am3
  have Rr3 : Rt y σ3 (sZ σ1) (tkX I (tkn I n i)) := Rt.kp (σ := σ2) ⟨by omega, z2, rc2, rw2⟩ A3.kp
  have r3 : sR σ3 86 a = some sd := by rw [A3.2.2.1, r2]; exact r1
  have F13 : FR (fun x => x = a ∨ x = sZ σ) σ σ3 := ((F1 _).tr (F2.up (fun x _ e => (Or.inl e : x = a ∨ x = sZ σ))) (fun _ _ e => e)).tr (A3.2.2.2.2.2.2.2.2.1.up (fun x _ e => (Or.inr e : x = a ∨ x = sZ σ))) (fun _ _ e => e)
  have L41 := plain_L41 hG (T := sZ σ) (ty := i) (mo := some m.1) FU n (i + 1) [sZ σ1] σ3 (by omega) (FU_gt (by omega)) hiK st3 (by omega) T3 (by omega) T3a T3n rfl (fun q r h => by
    cases q with
    | zero => have e : sZ σ1 = r := Option.some.inj h
              subst e; exact Rr3
    | succ q => cases h)
  have F6of : ∀ {σ'' : ST}, FR (fun x => x = a ∨ x = sZ σ) σ σ'' → FR6 σ σ'' := fun h => h.up (fun x hx e => by
    rcases e with e | e
    · rw [e]; exact a6
    · omega)
  have FYof : ∀ {σ'' : ST}, FR (fun x => x = a ∨ x = sZ σ) σ σ'' → FY y σ σ'' := fun h => h.up (fun x hx e => by
    rcases e with e | e
    · rw [e]; exact hya
    · omega)
  have m0 : (tkn I n i).2.2 ≤ (tkn I n (i + 1)).2.1 := tkn_mono I n i
  have b0 := tkn_bd I n i
  have b1 := tkn_bd I n (i + 1)
  refine Rn_bind (su := Sum.elim (fun r : Option (Option Nat) × ST => r.2) id) L41 (fun r4 _ h4 => ?_)
  rcases h4 with ⟨σ', v, w1, w2, w3, w4, w5, w6⟩ | ⟨σ4, w, ws, w1, w2, st4, w4, w5, w6, w7, w8, w9, wA, wA', wB, wC⟩
  · subst w1
    refine Rn_some (Le.refl _) (Or.inl ⟨rfl, ⟨FYof (F13.tr w3 (fun _ _ e => e)), ?_, ?_⟩, Or.inl (fdlS_n w2)⟩)
    · show sS σ' ≤ _
      unfold Om at hS om
      simp only [List.length_singleton] at w5
      omega
    · show sC σ' ≤ _
      unfold Oc at hC om
      omega
  subst w1
  have F14 : FR (fun x => x = a ∨ x = sZ σ) σ σ4 := F13.tr w9 (fun _ _ e => e)
  have G4 : FR6 σ σ4 := F6of F14
  have Y4 : FY y σ σ4 := FYof F14
  have z4 : sZ σ3 ≤ sZ σ4 := w9.1.1
  have T4 : sc σ4 (sZ σ) = 16 := by rw [(w9.2 _ (by omega)).1]; exact T3
  have r4 : sR σ4 86 a = some sd := by rw [w8]; exact r3
  have st4 : STk σ4 a b I n (tkn I n (i + 1 + 2 * w)) := st4
  simp only [List.length_singleton] at w5 wB
  have S4 : sS σ4 ≤ sS σ + 61 + 18 * w + 4 * ((tkn I n i).2.2 - (tkn I n i).2.1) + 4 * ((tkn I n (i + 1 + 2 * w)).2.1 - (tkn I n (i + 1)).2.1) := by rw [w5] at w6; omega
  have C4 : sC σ4 ≤ sC σ + 10 + 9 * w := by omega
  clear w6 wB wC am3 s2 c2 c3
  refine Rn_eq (fun bb => by rw [elim_r]) ?_
  show Rn _ σ4 _ _
  refine Rn_nO ?_
  have F5 : ∀ W, FR W σ4 (nO σ4 9 12) := fun W => FR.nO W σ4 9 12
  obtain ⟨σ5, hσ5⟩ : ∃ A, A = nO σ4 9 12 := ⟨_, rfl⟩
  have z5 : sZ σ5 = sZ σ4 + 1 := by rw [hσ5]; rfl
  have s5 : sS σ5 = sS σ4 + 12 := by rw [hσ5]; rfl
  have c5 : sC σ5 = sC σ4 + 1 := by rw [hσ5]; rfl
  have x5 : sc σ5 (sZ σ4) = 9 := by rw [hσ5, sc_nO_, if_pos rfl]
  have i5 : ∀ k, sI σ5 k (sZ σ4) = 0 := fun k => by rw [hσ5, sI_nO_, if_pos rfl]
  have n5 : ∀ k, sR σ5 k (sZ σ4) = none := fun k => by rw [hσ5, sR_nO_, if_pos rfl]
  have r5 : sR σ5 86 a = some sd := by rw [hσ5, sR_nO_, if_neg (by omega)]; exact r4
  rw [← hσ5] at F5 ⊢
  have st5 := st4.fr (F5 (fun _ => False)) (fun h => h) (fun h => h)
  have m1 : (tkn I n (i + 1 + 2 * w)).2.2 ≤ (tkn I n (i + 2 + 2 * w)).2.1 := by have := tkn_mono I n (i + 1 + 2 * w); rw [show i + 2 + 2 * w = i + 1 + 2 * w + 1 by omega]; exact this
  have m2 : (tkn I n (i + 2 + 2 * w)).2.2 ≤ (tkn I n (i + 3 + 2 * w)).2.1 := by have := tkn_mono I n (i + 2 + 2 * w); rw [show i + 3 + 2 * w = i + 2 + 2 * w + 1 by omega]; exact this
  have m3 : (tkn I n (i + 3 + 2 * w)).2.2 ≤ (tkn I n (i + 4 + 2 * w)).2.1 := by have := tkn_mono I n (i + 3 + 2 * w); rw [show i + 4 + 2 * w = i + 3 + 2 * w + 1 by omega]; exact this
  have m4 : (tkn I n (i + 4 + 2 * w)).2.2 ≤ (tkn I n (i + 5 + 2 * w)).2.1 := by have := tkn_mono I n (i + 4 + 2 * w); rw [show i + 5 + 2 * w = i + 4 + 2 * w + 1 by omega]; exact this
  have d1 := tkn_bd I n (i + 1 + 2 * w)
  have d2' := tkn_bd I n (i + 2 + 2 * w)
  have d3 := tkn_bd I n (i + 3 + 2 * w)
  have d4 := tkn_bd I n (i + 4 + 2 * w)
  have d5 := tkn_bd I n (i + 5 + 2 * w)
  refine Rn_eq (fun bb => by rw [gd_pos st5.1.1]) ?_
  refine Rn_tB (sr_name_eq hI st5) (fun σ' _ hj => ?_) (fun rr σ6 _ hj => ?_)
  · rcases hj with ⟨-, q, -⟩ | ⟨qk, q⟩
    · cases q
    · have eσ : σ' = nX σ5 := congrArg Prod.snd q
      subst eσ
      refine ⟨rfl, Or.inl ⟨rfl, FL.make (Y4.tr (F5 _)) ?_ ?_, Or.inl (fdlS_s w2 (fun h => qk h.1))⟩⟩
      · unfold Om at hS om; omega
      · unfold Oc at hC om; omega
  rcases hj with ⟨qk6, qr, st6, F6, z6, rc6, rw6, s6, c6, r6⟩ | ⟨-, q⟩
  case inr => cases q
  have er : rr = some (sZ σ5) := Option.some.inj qr
  subst er
  dsimp only at st6 F6 z6 rc6 rw6 s6 c6 r6
  have wl6 := word_len qk6
  have X6s : SameB σ5 σ6 (sZ σ4) := (F6.2 _ (by omega)).2 (by omega)
  have x6 : sc σ6 (sZ σ4) = 9 := by rw [(F6.2 _ (by omega)).1]; exact x5
  refine Rn_bind (su := id) (fd_init_eq (ms := some m.1) x6 (by omega) rc6 rw6 z6 (by unfold tkX; rw [cut_len]; exact wl6)) (fun σ7 _ hF7 => ?_)
  have hF7 : FdI (sZ σ4) (some m.1) (sZ σ5) (tkX I (tkn I n (i + 1 + 2 * w))) σ6 σ7 := hF7
  obtain ⟨F7, x7, k128, k129, k130, ⟨j1, j2⟩, k139, ⟨u1, u2, u3⟩, i132, i133, iO, k137, k138, z7, s7, c7⟩ := hF7
  show Rn _ σ7 _ _
  have F47 : FR (fun x => x = a ∨ x = sZ σ4) σ4 σ7 := ((F5 _).tr (F6.up (fun x _ e => (Or.inl e : x = a ∨ x = sZ σ4))) (fun _ _ e => e)).tr (F7.up (fun x _ e => (Or.inr e : x = a ∨ x = sZ σ4))) (fun _ _ e => e)
  have G7 : FR6 σ σ7 := FR.tr G4 F47 (fun x hx e => by
    rcases e with e | e
    · rw [e]; exact a6
    · omega)
  have G47 : FR6 σ4 σ7 := F47.up (fun x hx e => by
    rcases e with e | e
    · rw [e]; exact st4.1.1
    · omega)
  have Y7 : FY y σ σ7 := Y4.tr (F47.up (fun x _ e => by
    rcases e with e | e
    · rw [e]; exact hya
    · omega))
  have T7s : SameB σ4 σ7 (sZ σ) := (F47.2 _ (by omega)).2 (by omega)
  have T7 : sc σ7 (sZ σ) = 16 := by rw [(F47.2 _ (by omega)).1]; exact T4
  have T7a : sA σ7 (sZ σ) = ws := by rw [T7s.2.1]; exact w4
  have w7' : ∀ q r : Nat, ws[q]? = some r → Rt y σ7 r (tkX I (tkn I n (i + 2 * q))) := fun q r h => (w7 q r h).kp G47.kp
  have st7 := st6.fr F7 (by omega) (by omega)
  have r7 : sR σ7 86 a = some sd := by
    rw [((F7.2 a (by omega)).2 (by omega)).2.2.2.2.2.2.2.2.2, r6]; exact r5
  have L82 := plain_L82 (a := a) (T := sZ σ) (X := sZ σ4) (D := sZ σ6 + 1) (mo := some m.1) (w := ws) (by omega) (by omega) FU 0 σ7 T7 T7a k139 x7 u1 (by rw [u2]; rfl) (by omega) (by omega) (FU_gt (by omega)) (fun r h => by
    obtain ⟨q, hq⟩ := List.getElem?_of_mem h
    exact (w7' q r hq).2.2.1)
  refine Rn_bind (su := id) L82 (fun σ8 _ h8 => ?_)
  obtain ⟨F8, e1, e2, e3, e4, e5, e6, e7, e8⟩ := h8
  show Rn _ σ8 _ _
  have F8 : FR (fun x => x = sZ σ6 + 1) σ7 σ8 := F8
  have z8 := F8.1.1
  have G8 : FR6 σ σ8 := FR.tr G7 F8 (fun x hx e => by omega)
  have Y8 : FY y σ σ8 := Y7.tr (F8.up (fun x _ e => by omega))
  have st8 := st7.fr F8 (by omega) (by omega)
  have r8 : sR σ8 86 a = some sd := by rw [e3]; exact r7
  have x8 : sc σ8 (sZ σ4) = 9 := by rw [e1]; exact x7
  have e7 : sS σ8 + 4 * sN σ7 (sZ σ6 + 1) ≤ sS σ7 + 4 * sN σ8 (sZ σ6 + 1) := e7
  have e8 : sC σ8 ≤ sC σ7 + (ws.length - 0) := e8
  rw [u3] at e7
  rw [w5] at e6 e8
  have S8 : sS σ8 ≤ sS σ + 224 + 26 * w + 4 * ((tkn I n i).2.2 - (tkn I n i).2.1) + 4 * ((tkn I n (i + 1 + 2 * w)).2.2 - (tkn I n (i + 1)).2.1) := by omega
  have C8 : sC σ8 ≤ sC σ + 28 + 10 * w := by omega
  clear s5 c5 s6 c6 s7 c7 e7 e8 S4 C4
  obtain ⟨LL, hLL⟩ : ∃ X : Nat → Nat → List Nat, X = fun k x => if x < sZ σ then L k x else if k = 139 ∧ x = sZ σ4 then ws else [] := ⟨_, rfl⟩
  have LLo : ∀ k x, x < sZ σ → LL k x = L k x := fun k x h => by rw [hLL]; exact if_pos h
  have LLx : LL 139 (sZ σ4) = ws := by rw [hLL]; show (if sZ σ4 < sZ σ then _ else _) = _; rw [if_neg (by omega), if_pos ⟨rfl, rfl⟩]
  have H8 : HVw y σ8 (fun x => ob x ∨ x = sZ σ4) LL := by
    refine HVw.new2 H G8 hy (fun x hx => by omega) LLo (fun x k hx hk hc => ?_) (fun x x' k k' hx hx' hk hk' hc hc' e => ?_)
    · subst hx
      rw [x8] at hc
      have e := hk9 k hk hc
      subst e
      exact ⟨sZ σ6 + 1, by rw [e3]; exact k139, by omega, by omega, by rw [e1]; exact u1, fun _ => ⟨by rw [LLx]; exact e5, by rw [LLx, w5]; exact e6⟩, fun h => by cases h⟩
    · subst hx
      have hx' : x' = sZ σ4 := hx'
      subst hx'
      rw [x8] at hc hc'
      rw [hk9 k hk hc, hk9 k' hk' hc']
      exact ⟨rfl, rfl⟩
  have B8 : OBS y σ8 I n (fun x => ob x ∨ x = sZ σ4) LL sd root M E V F O N := ((B.kp (fun x hx => (H.1 x hx).2) G8.kp).cg (fun x hx => LLo _ _ (H.1 x hx).2)).mo (fun x hx => Or.inl hx)
  have Q8 := Q.ag (B.low H (Nat.le_refl _)) LLo
  have C8' := hcn.fr H B G8
  have X8 : OBF y σ8 I n LL M (sZ σ4, i, 1 + w, i + 1 + 2 * w, 0, ms, -1, 0, 0) := by
    have K78 : Kp σ7 σ8 := ⟨z8, fun x hx _ => ⟨by rw [e1], by rw [e4], fun k _ => by rw [e2], fun k => by rw [e3]⟩⟩
    have K68 : Rt y σ7 (sZ σ5) (tkX I (tkn I n (i + 1 + 2 * w))) := ⟨by omega, by omega, by rw [(F7.2 _ z6).1]; exact rc6, by rw [((F7.2 _ z6).2 (by omega)).1]; exact rw6⟩
    refine ⟨x8, ?_, ⟨sZ σ5, by rw [e3]; exact k129, K68.kp K78⟩, ⟨sZ σ6, by rw [e3]; exact k130, Rt.kp (σ := σ7) ⟨by omega, by omega, j1, j2⟩ K78⟩, ?_, ?_, ?_, ?_, ?_, ?_, ?_, ?_, fun q r h => ?_⟩
    · rw [e3, show (sR σ7 128 (sZ σ4, i, 1 + w, i + 1 + 2 * w, 0, ms, (-1 : Int), (0 : Int), (0 : Int)).1) = some m.1 from k128]
      show _ = (M[ms]?).map _
      rw [hm]; rfl
    · show sI σ8 131 (sZ σ4) = _
      rw [e2, iO 131 (by decide) (by decide), X6s.2.2.2.2.2.2.2.1, i5]; rfl
    · rw [e2]; exact i132
    · rw [e2]; exact i133
    · show sI σ8 135 (sZ σ4) = _
      rw [e2, iO 135 (by decide) (by decide), X6s.2.2.2.2.2.2.2.1, i5]; rfl
    · show sI σ8 136 (sZ σ4) = _
      rw [e2, iO 136 (by decide) (by decide), X6s.2.2.2.2.2.2.2.1, i5]; rfl
    · show sR σ8 137 (sZ σ4) = _
      rw [e3, k137, X6s.2.2.2.2.2.2.2.2.2, n5]
    · show sR σ8 138 (sZ σ4) = _
      rw [e3, k138, X6s.2.2.2.2.2.2.2.2.2, n5]
    · show (LL 139 (sZ σ4)).length = 1 + w
      rw [LLx]; exact w5
    · have h : (LL 139 (sZ σ4))[q]? = some r := h
      rw [LLx] at h
      exact (w7' q r h).kp K78
  have hXF : ∀ g, g ∈ F → g.1 ≠ sZ σ4 := fun g hg e => by
    have := (H.1 _ (B.2.2.2.1 g hg).1).2
    omega
  have oX : (fun x => ob x ∨ x = sZ σ4) (sZ σ4) := Or.inr rfl
  clear F8 e1 e2 e3 e4 e5 e6 F7 F6 F5 F47 w7 w7' i5 n5 iO LLo hLL
  have st8 : STk σ8 a b I n (tkn I n (i + 2 + 2 * w)) := by rw [show i + 2 + 2 * w = i + 1 + 2 * w + 1 by omega]; exact st8
  refine Rn_eq (fun bb => by rw [gd_pos st8.1.1]) ?_
  refine Rn_tB (sr_sign_eq hI st8 (x := 61) (by omega)) (fun σ' _ hj => ?_) (fun _ σ9 _ hj => ?_)
  · rcases hj with ⟨-, q, -⟩ | ⟨qk, q⟩
    · cases q
    · have eσ : σ' = nX σ8 := congrArg Prod.snd q
      subst eσ
      refine ⟨rfl, Or.inl ⟨rfl, FL.make Y8 ?_ ?_, Or.inl (fdlS_s w2 (fun h => qk h.2.1))⟩⟩
      · unfold Om at hS om; omega
      · unfold Oc at hC om; omega
  rcases hj with ⟨qk9, -, st9, J9⟩ | ⟨-, q⟩
  case inr => cases q
  dsimp only at st9 J9
  have G9 : FR6 σ8 σ9 := J9.f6 st8.1.1
  have Y9 : FY y σ σ9 := Y8.tr (FR.fy J9.1 hya)
  have H9 := H8.fr G9
  have B9 := B8.kp (fun x hx => (H8.1 x hx).2) G9.kp
  have C9 := C8'.fr H8 B8 G9
  have X9 := X8.kp (H8.1 _ oX).2 G9.kp
  have r9 : sR σ9 86 a = some sd := by rw [J9.2.2.2.2]; exact r8
  have j9s : sS σ9 = sS σ8 ∧ sC σ9 = sC σ8 := ⟨J9.2.2.1, J9.2.1⟩
  have st9 : STk σ9 a b I n (tkn I n (i + 3 + 2 * w)) := by rw [show i + 3 + 2 * w = i + 2 + 2 * w + 1 by omega]; exact st9
  refine Rn_eq (fun bb => by rw [gd_pos st9.1.1]) ?_
  refine Rn_tB (sr_number_eq hI st9) (fun σ' _ hj => ?_) (fun num σA _ hj => ?_)
  · rcases hj with ⟨-, q, -⟩ | ⟨qk, q⟩
    · cases q
    · have eσ : σ' = nX σ9 := congrArg Prod.snd q
      subst eσ
      refine ⟨rfl, Or.inl ⟨rfl, FL.make Y9 ?_ ?_, Or.inl (fdlS_s w2 (fun h => qk h.2.2.1))⟩⟩
      · unfold Om at hS om; omega
      · unfold Oc at hC om; omega
  rcases hj with ⟨qkA, qn, stA, JA⟩ | ⟨-, q⟩
  case inr => cases q
  have en : num = (tkN I (tkn I n (i + 3 + 2 * w)) : Int) := Option.some.inj qn
  subst en
  dsimp only at stA JA
  have GA : FR6 σ9 σA := JA.f6 st9.1.1
  have YA : FY y σ σA := Y9.tr (FR.fy JA.1 hya)
  have HA := H9.fr GA
  have BA := B9.kp (fun x hx => (H9.1 x hx).2) GA.kp
  have CA := C9.fr H9 B9 GA
  have XA := X9.kp (H9.1 _ oX).2 GA.kp
  have rA : sR σA 86 a = some sd := by rw [JA.2.2.2.2]; exact r9
  have jAs : sS σA = sS σ9 ∧ sC σA = sC σ9 := ⟨JA.2.2.1, JA.2.1⟩
  have xA : sc σA (sZ σ4) = 9 := XA.1
  have stA : STk σA a b I n (tkn I n (i + 4 + 2 * w)) := by rw [show i + 4 + 2 * w = i + 3 + 2 * w + 1 by omega]; exact stA
  refine Rn_pI xA ?_
  have HB := HA.setI 131 (sZ σ4) (tkN I (tkn I n (i + 3 + 2 * w)) : Int)
  have BB := BA.setX (k := 131) (x := sZ σ4) (by decide) hXF (tkN I (tkn I n (i + 3 + 2 * w)) : Int)
  have CB := CA.setX (k := 131) (x := sZ σ4) (by decide) (tkN I (tkn I n (i + 3 + 2 * w)) : Int)
  have XB := XA.set1 (tkN I (tkn I n (i + 3 + 2 * w)))
  have FB : FR (fun x => x = sZ σ4) σA (pI σA 131 (sZ σ4) (tkN I (tkn I n (i + 3 + 2 * w)) : Int)) := FR.at1 (at_pI _ _ _ _) rfl
  have neB := stA.ne xA (by decide) (by decide)
  have stB := stA.fr FB neB.1 neB.2
  obtain ⟨σB, hσB⟩ : ∃ X, X = pI σA 131 (sZ σ4) (tkN I (tkn I n (i + 3 + 2 * w)) : Int) := ⟨_, rfl⟩
  have rB : sR σB 86 a = some sd := by rw [hσB]; exact rA
  have jBs : sS σB = sS σA ∧ sC σB = sC σA := by rw [hσB]; exact ⟨rfl, rfl⟩
  rw [← hσB] at HB BB CB XB FB stB ⊢
  have YB : FY y σ σB := YA.tr (FR.fy FB (HA.1 _ oX).1)
  refine Rn_eq (fun bb => by rw [gd_pos stB.1.1]) ?_
  refine Rn_tB (sr_sign_eq hI stB (x := 59) (by omega)) (fun σ' _ hj => ?_) (fun _ σC _ hj => ?_)
  · rcases hj with ⟨-, q, -⟩ | ⟨qk, q⟩
    · cases q
    · have eσ : σ' = nX σB := congrArg Prod.snd q
      subst eσ
      refine ⟨rfl, Or.inl ⟨rfl, FL.make YB ?_ ?_, Or.inl (fdlS_s w2 (fun h => qk h.2.2.2))⟩⟩
      · unfold Om at hS om; omega
      · unfold Oc at hC om; omega
  rcases hj with ⟨qkC, -, stC, JC⟩ | ⟨-, q⟩
  case inr => cases q
  dsimp only at stC JC
  have GC : FR6 σB σC := JC.f6 stB.1.1
  have YC : FY y σ σC := YB.tr (FR.fy JC.1 hya)
  have HC := HB.fr GC
  have BC := BB.kp (fun x hx => (HB.1 x hx).2) GC.kp
  have CC := CB.fr HB BB GC
  have XC := XB.kp (HB.1 _ oX).2 GC.kp
  have rC : sR σC 86 a = some sd := by rw [JC.2.2.2.2]; exact rB
  have jCs : sS σC = sS σB ∧ sC σC = sC σB := ⟨JC.2.2.1, JC.2.1⟩
  have stC : STk σC a b I n (tkn I n (i + 5 + 2 * w)) := by rw [show i + 5 + 2 * w = i + 4 + 2 * w + 1 by omega]; exact stC
  have hK5 : i + 5 + 2 * w ≤ K := by
    by_cases e : i + 4 + 2 * w < K
    · omega
    · exfalso
      have h4 : i + 3 + 2 * w < K := by
        by_cases e2 : i + 3 + 2 * w < K
        · exact e2
        · exfalso
          have h3 : i + 2 + 2 * w < K := by
            by_cases e3 : i + 2 + 2 * w < K
            · exact e3
            · exfalso
              have h2 : i + 1 + 2 * w < K := by
                by_cases e4 : i + 1 + 2 * w = K
                · rw [e4] at qk6; rw [hD.2.1] at qk6; cases qk6
                · omega
              have e5 : i + 2 + 2 * w = K := by omega
              have := qk9.1
              rw [e5, hD.2.1] at this; cases this
          have e5 : i + 3 + 2 * w = K := by omega
          rw [e5, hD.2.1] at qkA; cases qkA
      have e5 : i + 4 + 2 * w = K := by omega
      have := qkC.1
      rw [e5, hD.2.1] at this; cases this
  obtain ⟨om1, om2, om7, -⟩ := BC.2.1 ms m hm
  obtain ⟨la, la1, la2, la3, la4, la5, -⟩ := HC.get (k := 99) om1 (by decide) om7
  have la4 : sc σC la = 16 := la4
  have la5 := la5 rfl
  have l99 : (LL 99 m.1).length ≤ 49 := by
    rw [(Q8.2.2.1 ms m hm).1, List.length_map]
    refine Nat.le_trans (List.length_filter_le _ _) ?_
    omega
  refine Rn_eq (fun bb => by rw [bind_some', gd_pos om7, la1, bind_some', gd_pos la4]) ?_
  refine Rn_bind (su := fun r : Int × ST => r.2) (rn_ladd la4 (Or.inr (Or.inr (Or.inr XC.1))) (by rw [la5.1]; omega) (by rw [la5.1]; exact la5.2)) (fun yD _ AD => ?_)
  obtain ⟨iD, σD⟩ := yD
  dsimp only at AD ⊢
  have HD := HC.add om1 (by decide) om7 rfl la1 AD
  have BD := BC.kp (fun x hx => (HC.1 x hx).2) AD.kp
  have CD := CC.la AD
  have XD := XC.kp (HC.1 _ oX).2 AD.kp
  have neD := stC.ne la4 (by decide) (by decide)
  have stD := stC.la AD neD.1 neD.2
  have rD : sR σD 86 a = some sd := by rw [AD.2.2.1]; exact rC
  have YD : FY y σ σD := YC.tr (FR.fy AD.2.2.2.2.2.2.2.2.1 la2)
  have dD : sc σD sd = 2 := BD.1.2.2.1
  obtain ⟨lb, lb1, lb2, lb3, lb4, lb5, -⟩ := HD.get (k := 19) BD.1.1 (by decide) dD
  have lb4 : sc σD lb = 16 := lb4
  have lb5 := lb5 rfl
  rw [updL_k (by decide)] at lb5
  have l19 : (LL 19 sd).length ≤ 49 := by rw [Q8.1.2.2, List.length_map]; omega
  refine Rn_eq (fun bb => by rw [gd_pos stD.1.1, rD, bind_some', gd_pos dD, lb1, bind_some', gd_pos lb4]) ?_
  refine Rn_bind (su := fun r : Int × ST => r.2) (rn_ladd lb4 (Or.inr (Or.inr (Or.inr XD.1))) (by rw [lb5.1]; omega) (by rw [lb5.1]; exact lb5.2)) (fun yE _ AE => ?_)
  obtain ⟨iE, σE⟩ := yE
  dsimp only at AE ⊢
  have HE := HD.add BD.1.1 (by decide) dD rfl lb1 AE
  have BE := BD.kp (fun x hx => (HD.1 x hx).2) AE.kp
  have CE := CD.la AE
  have XE := XD.kp (HD.1 _ oX).2 AE.kp
  have neE := stD.ne lb4 (by decide) (by decide)
  have stE := stD.la AE neE.1 neE.2
  have rE : sR σE 86 a = some sd := by rw [AE.2.2.1]; exact rD
  have YE : FY y σ σE := YD.tr (FR.fy AE.2.2.2.2.2.2.2.2.1 lb2)
  rw [updL_k (show (19 : Nat) ≠ 99 by decide)] at HE
  have csD : sS σD ≤ sS σC + 108 ∧ sC σD ≤ sC σC + 1 := by
    obtain ⟨-, -, -, -, -, -, -, -, -, v1, v2⟩ := AD
    rw [la5.1] at v1
    exact ⟨by omega, v2⟩
  have csE : sS σE ≤ sS σD + 108 ∧ sC σE ≤ sC σD + 1 := by
    obtain ⟨-, -, -, -, -, -, -, -, -, v1, v2⟩ := AE
    rw [lb5.1] at v1
    exact ⟨by omega, v2⟩
  have QE := Q8.addF (f := (sZ σ4, i, 1 + w, i + 1 + 2 * w, tkN I (tkn I n (i + 3 + 2 * w)), ms, -1, 0, 0)) hm rfl (fun j m' h1 h2 => B.minj hm h1 h2)
  have eqS : fdlS I n i = some w := by
    unfold fdlS
    rw [if_pos qk, w2]
    exact if_pos ⟨qk6, qk9, qkA, qkC⟩
  refine Rn_some (Le.refl _) (Or.inr ⟨w, sZ σ4, _, _, rfl, eqS, by omega, hK5, YE, stE, rE, HE, QE, BE.cg (fun x _ => by rw [updL_k (by decide), updL_k (by decide)]), oX, XE.cg (by rw [updL_k (by decide), updL_k (by decide)]), hXF, CE, ?_, ?_⟩)
  · show sS σE ≤ _
    unfold Om at hS ⊢
    omega
  · show sC σE ≤ _
    unfold Oc at hC ⊢
    omega
end Po
