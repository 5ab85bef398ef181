set_option maxRecDepth 100000
/-! toWire: the message read, and its bytes -/
def rdW (S : SC) (I : Nat → Nat) (n m : Nat) : Option (TV 8) := (objS S I n 8 m (bl I n 0)).bind fun e => if bl I n e.1 = n then some e.2 else none
def toW (S : SC) (od : Nat → List Nat) (I : Nat → Nat) (n m : Nat) : Option (List UInt8) := (rdW S I n m).map (enc S od 8 m)
theorem rdW_of {S : SC} {I : Nat → Nat} {n m : Nat} {T : TV 8} (h : rdW S I n m = some T) : ∃ e, objS S I n 8 m (bl I n 0) = some (e, T) ∧ bl I n e = n := by
  unfold rdW at h
  cases eo : objS S I n 8 m (bl I n 0) with
  | none => rw [eo] at h; cases h
  | some e =>
    rw [eo] at h
    change (if bl I n e.1 = n then some e.2 else none) = some T at h
    split at h
    · cases h; exact ⟨e.1, rfl, by assumption⟩
    · cases h
theorem gd_ni {A : Type} {P Q : Prop} [Decidable (¬ P → Q)] {X : Option A} (h : P) : gd (¬ P → Q) X = X := gd_pos (fun q => absurd h q)
section Tw
variable {S : SC} {I : Nat → Nat} {n m : Nat} {od : Nat → List Nat} {τ : TT}
theorem bl0_le (I : Nat → Nat) (n : Nat) : bl I n 0 ≤ n := by have := bl_le' I n 0; omega
theorem toW_len (hS : SW S) (hO : OD S od) (hI : ∀ k, I k < 256) (hn : n ≤ 1000) (hm : m < S.1) {T : TV 8} (h : rdW S I n m = some T) : (enc S od 8 m T).length + 8 ≤ 4 * n ∧ TZ 8 T := by
  obtain ⟨e, h1, h2⟩ := rdW_of h
  have b := bl0_le I n
  have := objS_len hS hO hI hn 8 m _ _ hm b h1
  have hb := objS_bd hI 8 m _ _ b h1
  simp only at this hb
  exact ⟨by omega, objS_TZ hI hn 8 m _ _ b h1⟩
theorem m_toWire_eq (hS : SW S) (hO : OD S od) (hT : TSc τ S) (hI : TIn τ I n) (h58 : tI τ 58 = 0) {a1 : Int} (ha : rg a1) : ∃ r τ', m_toWire a1 τ = some (r, τ') ∧ TF (0 :: KW) τ τ' ∧ tI τ' 0 = 0 ∧ tI τ' 58 = 0 ∧ (match (if 0 ≤ a1 ∧ a1 < (S.1 : Int) then toW S od I n a1.toNat else none) with | some w => r = (w.length : Int) ∧ OW τ' w | none => r = -1 ∧ OW τ' []) := by
  have hM := hS.2.2.1
  have hb := hI.2.2.2
  have hn := hI.2.1
  obtain ⟨τ2, h2⟩ : ∃ τ2, τ2 = uI (uI τ 0 0) 6 0 := ⟨_, rfl⟩
  have f2 : TF (0 :: KW) τ τ2 := by rw [h2]; exact ((TF.refl _ τ).uI (by decide) _).uI (by decide) _
  have hT2 : TSc τ2 S := hT.tr f2 (by decide)
  have hI2 : TIn τ2 I n := hI.tr f2 (by decide) (by decide)
  have h582 : tI τ2 58 = 0 := by rw [h2]; exact h58
  have z2 : tI τ2 0 = 0 := by rw [h2]; rfl
  have O2 : OW τ2 [] := ⟨Nat.zero_le _, by rw [h2]; rfl, fun k hk => absurd hk (Nat.not_lt_zero _)⟩
  have t35 := hT2.1
  have t5 := hI2.1
  have tx : m_isText 2 0 (tI τ2 5) τ2 = some (if txt (gN I) n 0 = true then 1 else 0) := m_isText_eq hI2 (k := 0) rfl t5 (Nat.zero_le _) (Nat.le_refl _)
  unfold m_toWire
  rw [nm_eq, nm_eq, ← h2, gd_pos ha, t35, tx, vv_s, gd_pos (by omega), gd_pos (by exact fun _ => rfl), gd_pos (by exact fun _ => by split <;> omega)]
  by_cases c : 0 ≤ a1 ∧ a1 < (S.1 : Int)
  · rw [if_pos c]
    obtain ⟨m, rfl⟩ : ∃ m : Nat, a1 = (m : Int) := ⟨a1.toNat, by omega⟩
    rw [Int.toNat_natCast]
    have hm : m < S.1 := by omega
    by_cases ct : txt (gN I) n 0 = true
    · rw [if_pos ct, if_neg (by omega)]
      have hX := txt_TXT hb ct
      have hJ2 : JH S I n τ2 := ⟨hT2, hI2, h582⟩
      have b0 := bl0_le I n
      have e0 : m_blanks 0 τ2 = some ((bl I n 0 : Nat) : Int) := m_blanks_eq hI2 (p := 0) rfl (by omega)
      obtain ⟨τ3, f3, h3, e3⟩ := m_object_eq hS hX 8 12 m (bl I n 0) 1 τ2 (by omega) (by omega) (by omega) (by omega) b0 hJ2
      have hJ3 := hJ2.tr f3 h3
      have f23 : TF (0 :: KW) τ τ3 := f2.tr f3 (by decide)
      have z3 : tI τ3 0 = 0 := by rw [(f3 0 (by decide)).1]; exact z2
      have O3 := O2.rd f3
      rw [e0, bind_some', e3, bind_some']
      unfold toW rdW
      cases eo : objS S I n 8 m (bl I n 0) with
      | none =>
        refine ⟨-1, τ3, ?_, f23, z3, h3, rfl, O3⟩
        have h1 : (oE (none : Option (Nat × TV 8)), τ3).1 = -1 := rfl
        rw [gd_pos (by rw [h1]; omega), gd_ni h1, gd_ni h1, gd_ni h1, if_pos (Or.inl h1)]
      | some e =>
        have hb2 := objS_bd hb 8 m _ _ b0 eo
        have c1 := bl_ge' I n e.1
        have c2 := bl_le' I n e.1
        have eb : m_blanks (e.1 : Int) τ3 = some ((bl I n e.1 : Nat) : Int) := m_blanks_eq hJ3.2.1 rfl (by omega)
        have t53 := hJ3.2.1.1
        show ∃ r τ', gd (rg (e.1 : Int)) (gd (¬ ((e.1 : Int) = -1) → ok (m_blanks (e.1 : Int) τ3)) (gd (¬ ((e.1 : Int) = -1) → rg (vv (m_blanks (e.1 : Int) τ3))) (gd (¬ ((e.1 : Int) = -1) → rg (tI τ3 5)) (if ((e.1 : Int) = -1) ∨ (¬ ((tI τ3 5) ≤ (vv (m_blanks (e.1 : Int) τ3)))) then (some (((-1), τ3))) else (Option.bind (m_putObject 12 (m : Int) ((bl I n 0 : Nat) : Int) τ3) fun y21 => some ((tI y21 6, y21))))))) = some (r, τ') ∧ TF (0 :: KW) τ τ' ∧ tI τ' 0 = 0 ∧ tI τ' 58 = 0 ∧ (match Option.map (enc S od 8 m) (if bl I n e.1 = n then some e.2 else none) with | some w => r = (w.length : Int) ∧ OW τ' w | none => r = -1 ∧ OW τ' [])
        rw [eb, vv_s, t53, gd_pos (by omega), gd_pos (by exact fun _ => rfl), gd_pos (by omega), gd_pos (by omega)]
        by_cases ce : bl I n e.1 = n
        · rw [if_pos ce, if_neg (by omega)]
          have hr : rdW S I n m = some e.2 := by unfold rdW; rw [eo]; show (if bl I n e.1 = n then some e.2 else none) = _; rw [if_pos ce]
          have hl := (toW_len hS hO hb hn hm hr).1
          obtain ⟨τ4, e4, g4⟩ := m_putObject_eq hS hO hX 8 12 (by omega) (by omega) m (bl I n 0) e.1 e.2 τ3 [] hm b0 hJ3 O3 eo (by simp only [List.length_nil]; omega)
          rw [e4, bind_some']
          have O4 : OW τ4 (enc S od 8 m e.2) := g4.2.2
          exact ⟨_, τ4, rfl, f23.tr g4.1 (by decide), by rw [(g4.1 0 (by decide)).1]; exact z3, g4.2.1, O4.2.1, O4⟩
        · rw [if_neg ce, if_pos (Or.inr (by omega))]
          exact ⟨-1, τ3, rfl, f23, z3, h3, rfl, O3⟩
    · rw [if_neg ct, if_pos (Or.inr rfl)]
      have en : toW S od I n m = none := by
        unfold toW
        cases er : rdW S I n m with
        | none => rfl
        | some T =>
          obtain ⟨e, h1, h3⟩ := rdW_of er
          exact absurd (obj_txt hb h1 h3) ct
      rw [en]
      exact ⟨-1, τ2, rfl, f2, z2, h582, rfl, O2⟩
  · rw [if_neg c, if_pos (Or.inl (by omega))]
    exact ⟨-1, τ2, rfl, f2, z2, h582, rfl, O2⟩
end Tw
theorem Rn_tC {Y X : Type} {st : X → ST} {σ : ST} {K : X → Prop} {A : Nat × Nat → Option (Option Y × ST)} {H : Nat × Nat → ST → Option X} {G : Nat × Nat → Y → ST → Option X} {J : Option Y × ST → Prop} (hA : Rn (·.2) σ A J) (kT : ∀ σ', Le σ σ' → J (none, σ') → Rn st σ' (fun bb => H bb σ') K) (kS : ∀ y σ', Le σ σ' → J (some y, σ') → Rn st σ' (fun bb => G bb y σ') K) : Rn st σ (fun bb => Option.bind (A bb) (tC (H bb) (G bb))) K := by
  refine Rn_bind (G := fun bb => tC (H bb) (G bb)) hA (fun y hl hJ => ?_)
  obtain ⟨y, σ'⟩ := y
  cases y with
  | none => exact kT σ' hl hJ
  | some y => exact kS y σ' hl hJ
section Ts
variable {z : Nat} {σ : ST} {S : SC} {fa ma ea : Nat → Nat} {od : Nat → List Nat} {a b ra wa n m : Nat} {I : Nat → Nat}
theorem jr_read_eq (hS : SW S) (hNe : NE S) (hI : ∀ k, I k < 256) (hza : z ≤ a ∧ z ≤ ra ∧ z ≤ wa) (hm : m < S.1) (hH : HSc z σ S fa ma ea od) (hJ : JRd σ a b ra wa I n 0) : Rn (·.2) σ (fun bb => jr_read bb a (some (ma m)) σ) (fun r => match rdW S I n m with | some T => ∃ σ' va F c, r = (some (some va), σ') ∧ HV S fa ma 8 σ' va m T F ∧ (∀ x, F x → sZ σ ≤ x ∧ x < sZ σ') ∧ JG σ σ' a ra wa c (5 * n) ∧ c + dM S 8 T + 4 ≤ 8 * n | none => ∃ σ', r = (none, σ') ∧ JG σ σ' a ra wa (8 * (n + 1) + 10006) (5 * (n + 1) + 401)) := by
  have hn := hJ.2.2.2.2.2.1
  obtain ⟨l1, l2, l3, l4⟩ := hJ.lt
  unfold jr_read rdW
  refine Rn_tB (jr_object_eq hS hNe hI hza 8 12 (by omega) (by omega) (by omega) m 0 σ hm (Nat.zero_le _) hH hJ) (fun σ' _ hr => ⟨rfl, ?_⟩) (fun y σ' _ hr => ?_)
  · cases eo : objS S I n 8 m (bl I n 0) with
    | some e =>
      rw [eo] at hr
      obtain ⟨σ1, va, F, cc, e1, -⟩ := hr
      cases e1
    | none =>
      rw [eo] at hr
      obtain ⟨σ1, e1, g⟩ := hr
      cases e1
      exact ⟨σ', rfl, g.1, by have := g.2.1; omega, by have := g.2.2.1; omega, g.2.2.2⟩
  · cases eo : objS S I n 8 m (bl I n 0) with
    | none =>
      rw [eo] at hr
      obtain ⟨σ1, e1, -⟩ := hr
      cases e1
    | some e =>
      rw [eo] at hr
      obtain ⟨σ1, va, F, co, e1, hJ1, hV, hF, g, ⟨gc1, gc2⟩, hp⟩ := hr
      cases e1
      have b0 := bl0_le I n
      have hb2 := objS_bd hI 8 m _ _ b0 eo
      have c1 := bl_ge' I n e.1
      have c2 := bl_le' I n e.1
      obtain ⟨k1, k2, k3, k4⟩ := hJ1.lt
      obtain ⟨Y, hY⟩ : ∃ Y, Y = pI σ' 210 a ((bl I n e.1 : Nat) : Int) := ⟨_, rfl⟩
      have hJY : JRd Y a b ra wa I n (bl I n e.1) := by rw [hY]; exact hJ1.atbl
      have FY : FR (fun x => x = a ∨ x = ra ∨ x = wa) σ' Y := by rw [hY]; exact FR.at1 (at_pI _ _ _ _) (Or.inl rfl)
      have gY : JG σ Y a ra wa co (5 * n - 5) := by
        have hs : sS Y = sS σ' := by rw [hY]; rfl
        have hc : sC Y = sC σ' := by rw [hY]; rfl
        have hN : sN Y = sN σ' := by rw [hY]; rfl
        refine ⟨g.1.tr FY (fun x _ q => q), ?_, ?_, ?_, ?_⟩
        · rw [hs, hN]; have := g.2.1; omega
        · rw [hc, hN]; have := g.2.2.1; omega
        · rw [hN]; exact g.2.2.2.1
        · rw [hN]; exact g.2.2.2.2
      have hVY : HV S fa ma 8 Y va m e.2 F := HV_kept 8 va m e.2 F hV (fun x w l => by
        have := (hF x w).1
        exact ⟨(FY.2 x l).2 (by omega), (FY.2 x l).1⟩) FY.1.1
      have e210 : sI Y 210 a = ((bl I n e.1 : Nat) : Int) := hJY.2.2.2.2.2.2.2.1
      have e209 : sI Y 209 a = (n : Int) := hJY.2.2.2.2.2.2.1
      refine Rn_eq (fun bb => by rw [gd_pos hJ1.1, hJ1.blanks bb, bind_some', ← hY, gd_pos hJY.1, e210, e209, gd_pos (by omega), gd_pos (by omega)]) ?_
      refine Rn_le (σ1 := Y) FY.1 ?_
      show Rn (fun r : Option (Option Nat) × ST => r.2) Y _ (fun r => match (if bl I n e.1 = n then some e.2 else none) with | some T => _ | none => _)
      refine Rn_01 (fun q => ?_) (fun q => ?_)
      · rw [if_pos (by omega)]
        refine Rn_must (Or.inr rfl) (fun w => by omega) (fun _ => ?_)
        refine Rn_some (Le.refl _) ⟨Y, va, F, co, rfl, hVY, fun x w => ⟨(hF x w).1, Nat.lt_of_lt_of_le (hF x w).2 FY.1.1⟩, ⟨gY.1, gY.2.1, by have := gY.2.2.1; omega, gY.2.2.2⟩, by omega⟩
      · rw [if_neg (by omega)]
        refine Rn_must (Or.inl rfl) (fun _ => ⟨rfl, nX Y, rfl, ?_⟩) (fun w => by omega)
        refine ⟨gY.1.tr (FR.nX (fun _ => False) Y) (fun x _ q => q.elim), ?_, ?_, gY.2.2.2⟩
        · rw [sS_nX_, sN_nX_]; have := gY.2.1; omega
        · rw [sC_nX_, sN_nX_]; have := gY.2.2.1; omega
/-- a new reader of JSON -/
def jrN (σ : ST) (b n : Nat) : ST := pI (pR (pR (nO (pR (nW (nO σ 14 5)) 211 (sZ σ) (some (sZ σ + 1))) 15 3) 212 (sZ σ) (some (sZ σ + 2))) 208 (sZ σ) (some b)) 209 (sZ σ) (n : Int)
theorem jrN_fr (σ : ST) (b n : Nat) : FR (fun _ => False) σ (jrN σ b n) := by
  have a1 := FR.nO (fun _ => False) σ 14 5
  have a2 := a1.tr (FR.nW (fun _ => False) (nO σ 14 5)) (fun x _ q => q)
  have a3 := a2.tr (FR.at1 (W := fun x => x = sZ σ) (at_pR (nW (nO σ 14 5)) 211 (sZ σ) (some (sZ σ + 1))) rfl) (fun x h q => by omega)
  have a4 := a3.tr (FR.nO (fun _ => False) _ 15 3) (fun x _ q => q)
  have a5 := a4.tr (FR.at1 (W := fun x => x = sZ σ) (at_pR _ 212 (sZ σ) (some (sZ σ + 2))) rfl) (fun x h q => by omega)
  have a6 := a5.tr (FR.at1 (W := fun x => x = sZ σ) (at_pR _ 208 (sZ σ) (some b)) rfl) (fun x h q => by omega)
  exact a6.tr (FR.at1 (W := fun x => x = sZ σ) (at_pI _ 209 (sZ σ) (n : Int)) rfl) (fun x h q => by omega)
theorem jrN_ok (h1 : sc σ b = 101) (h2 : sN σ b = 1000) (h3 : ∀ k, k < n → (sB σ b k).toNat = I k) (hn : n ≤ 1000) (hb : b < sZ σ) : JRd (jrN σ b n) (sZ σ) b (sZ σ + 1) (sZ σ + 2) I n 0 := by
  have F := jrN_fr σ b n
  have sb := (F.2 b hb).2 (fun q => q)
  refine ⟨?_, ?_, by rw [(F.2 b hb).1]; exact h1, by rw [sb.2.2.1]; exact h2, fun k hk => by rw [sb.2.2.2.1]; exact h3 k hk, hn, ?_, ?_, by omega, ?_, ⟨?_, ?_, ?_⟩, ?_, ?_, ?_, ?_, ?_, ?_⟩
  · show (if sZ σ = sZ σ + 1 + 1 then 15 else if sZ σ = sZ σ + 1 then 4 else if sZ σ = sZ σ then 14 else sc σ (sZ σ)) = 14
    rw [if_neg (by omega), if_neg (by omega), if_pos rfl]
  · unfold jrN; rw [show ∀ X : ST, sR (pI X 209 (sZ σ) (n : Int)) = sR X from fun _ => rfl, sR_pR, if_pos ⟨rfl, rfl⟩]
  · unfold jrN; rw [sI_pI, if_pos ⟨rfl, rfl⟩]
  · unfold jrN
    rw [sI_pI, if_neg (by omega), sI_pR, sI_pR, sI_nO_, if_neg (by show sZ σ ≠ sZ σ + 1 + 1; omega), sI_pR, sI_nW_, sI_nO_, if_pos rfl]; rfl
  · unfold jrN
    rw [show ∀ X : ST, sR (pI X 209 (sZ σ) (n : Int)) = sR X from fun _ => rfl, sR_pR, if_neg (by omega), sR_pR, if_neg (by omega), sR_nO_, if_neg (by show sZ σ ≠ sZ σ + 1 + 1; omega), sR_pR, if_pos ⟨rfl, rfl⟩]
  · show (if sZ σ + 1 = sZ σ + 1 + 1 then 15 else if sZ σ + 1 = sZ σ + 1 then 4 else _) = 4
    rw [if_neg (by omega), if_pos rfl]
  · show (if sZ σ + 1 = sZ σ + 1 then ([] : List UInt8) else _).length ≤ _
    rw [if_pos rfl]; exact Nat.zero_le _
  · left
    show (if sZ σ + 1 = sZ σ + 1 then 0 else _) = 0
    rw [if_pos rfl]
  · unfold jrN
    rw [show ∀ X : ST, sR (pI X 209 (sZ σ) (n : Int)) = sR X from fun _ => rfl, sR_pR, if_neg (by omega), sR_pR, if_pos ⟨rfl, rfl⟩]
  · show (if sZ σ + 2 = sZ σ + 1 + 1 then 15 else _) = 15
    rw [if_pos rfl]
  · show sZ σ < sZ σ + 1 + 1 + 1; omega
  · show b < sZ σ + 1 + 1 + 1; omega
  · show sZ σ + 1 < sZ σ + 1 + 1 + 1; omega
  · show sZ σ + 2 < sZ σ + 1 + 1 + 1; omega
/-- the system's object: its input -/
def SIn (σ : ST) (a0 b : Nat) (I : Nat → Nat) (n : Nat) : Prop := sc σ a0 = 1 ∧ a0 < sZ σ ∧ sR σ 1 a0 = some b ∧ sc σ b = 101 ∧ sN σ b = 1000 ∧ (∀ k, k < n → (sB σ b k).toNat = I k) ∧ n ≤ 1000 ∧ b < sZ σ ∧ sI σ 3 a0 = (n : Int)
def twS (S : SC) (od : Nat → List Nat) (I : Nat → Nat) (n m : Nat) : Nat := match rdW S I n m with | some T => 8 * n + 62 - dM S 8 T + wc rwS S od 8 m T | none => 8 * n + 10090
def twC (S : SC) (od : Nat → List Nat) (I : Nat → Nat) (n m : Nat) : Nat := match rdW S I n m with | some T => 5 * n + 260 + wc rwC S od 8 m T | none => 5 * n + 670
theorem ws_wire_eq (hS : SW S) (hNe : NE S) (hI : ∀ k, I k < 256) (hm : m < S.1) (hH : HSc z σ S fa ma ea od) {a0 : Nat} (hN : SIn σ a0 b I n) : Rn (·.2) σ (fun bb => ws_wire bb a0 (some (ma m)) σ) (fun r => FR (fun _ => False) σ r.2 ∧ sS r.2 ≤ sS σ + twS S od I n m ∧ sC r.2 ≤ sC σ + twC S od I n m ∧ match toW S od I n m with | some w => ∃ x, r.1 = some x ∧ sZ σ ≤ x ∧ x < sZ r.2 ∧ RW r.2 x ∧ sW r.2 x = w ∧ sN r.2 x = cpF w.length | none => r.1 = none) := by
  obtain ⟨n1, n2, n3, n4, n5, n6, n7, n8, n9⟩ := hN
  have hz := hH.1
  have FJ := jrN_fr σ b n
  have hJ := jrN_ok n4 n5 n6 n7 n8
  have zJ : sZ (jrN σ b n) = sZ σ + 3 := rfl
  have sJ' : sS (jrN σ b n) = sS σ + 10 := rfl
  have cJ : sC (jrN σ b n) = sC σ + 3 := rfl
  have NJ : sN (jrN σ b n) (sZ σ + 1) = 0 := by
    show (if sZ σ + 1 = sZ σ + 1 then 0 else _) = 0
    rw [if_pos rfl]
  have hHJ : HSc z (jrN σ b n) S fa ma ea od := hH.kept hS ⟨FJ.1, fun x hx => ⟨(FJ.2 x hx).1, fun _ => (FJ.2 x hx).2 (fun q => q)⟩⟩
  have y1 : sc (nO σ 14 5) a0 = 1 := by rw [sc_nO_, if_neg (by omega)]; exact n1
  have y2 : sR (nO σ 14 5) 1 a0 = some b := by rw [sR_nO_, if_neg (by omega)]; exact n3
  have y3 : sI (nO σ 14 5) 3 a0 = (n : Int) := by rw [sI_nO_, if_neg (by omega)]; exact n9
  have eI : ∀ bb : Nat × Nat, Fit bb (jrN σ b n) → jr_init bb (sZ σ) (some b) (n : Int) (nO σ 14 5) = some (jrN σ b n) := fun bb hf => by
    have f1 := hf.1
    have f2 := hf.2
    rw [cJ] at f1
    rw [sJ'] at f2
    unfold jr_init
    rw [gd_pos (show rm bb (nO σ 14 5) 2 from ⟨by show sC σ + 1 + 1 ≤ _; omega, by show sS σ + 5 + 2 ≤ _; omega⟩), nm_eq, gd_pos (by show (if sZ σ = sZ σ + 1 then 4 else if sZ σ = sZ σ then 14 else _) = 14; rw [if_neg (by omega), if_pos rfl]), nm_eq, gd_pos (show rm bb _ 3 from ⟨by show sC σ + 1 + 1 + 1 ≤ _; omega, by show sS σ + 5 + 2 + 3 ≤ _; omega⟩), nm_eq]
    unfold wh_init
    rw [bind_some', gd_pos (by show (if sZ σ = sZ σ + 1 + 1 then 15 else if sZ σ = sZ σ + 1 then 4 else if sZ σ = sZ σ then 14 else _) = 14; rw [if_neg (by omega), if_neg (by omega), if_pos rfl]), nm_eq, gd_pos (by show (if sZ σ = sZ σ + 1 + 1 then 15 else if sZ σ = sZ σ + 1 then 4 else if sZ σ = sZ σ then 14 else _) = 14; rw [if_neg (by omega), if_neg (by omega), if_pos rfl]), nm_eq, gd_pos (by show (if sZ σ = sZ σ + 1 + 1 then 15 else if sZ σ = sZ σ + 1 then 4 else if sZ σ = sZ σ then 14 else _) = 14; rw [if_neg (by omega), if_neg (by omega), if_pos rfl]), nm_eq]
    rfl
  unfold ws_wire
  refine Rn_rm (σ1 := nO σ 14 5) (Nat.le_refl _) (Nat.le_refl _) (Nat.le_succ _) ?_
  refine Rn_eq (fun bb => by rw [nm_eq, gd_pos y1, y2, y3]) ?_
  refine Rn_bind (su := id) (J := fun y => y = jrN σ b n) ⟨jrN σ b n, ⟨by show sZ σ + 1 ≤ sZ σ + 3; omega, by show sC σ + 1 ≤ sC σ + 3; omega, by show sS σ + 5 ≤ sS σ + 10; omega⟩, rfl, eI⟩ (fun y _ hy => ?_)
  subst hy
  refine Rn_gd hJ.1 ?_
  unfold toW
  refine Rn_tC (jr_read_eq hS hNe hI ⟨by omega, by omega, by omega⟩ hm hHJ hJ) (fun σ' _ hr => ?_) (fun y σ' _ hr => ?_)
  · cases er : rdW S I n m with
    | some T =>
      rw [er] at hr
      obtain ⟨σ1, va, F, cc, e1, -⟩ := hr
      cases e1
    | none =>
      rw [er] at hr
      obtain ⟨σ1, e1, g⟩ := hr
      cases e1
      have g4 : sN σ' (sZ σ + 1) ≤ max (sN (jrN σ b n) (sZ σ + 1)) 2000 := g.2.2.2.2
      have g1 : sS σ' + pzz (sN (jrN σ b n) (sZ σ + 1)) ≤ sS (jrN σ b n) + pzz (sN σ' (sZ σ + 1)) + (8 * (n + 1) + 10006) := g.2.1
      have g2 : sC σ' + sN (jrN σ b n) (sZ σ + 1) / 8 ≤ sC (jrN σ b n) + sN σ' (sZ σ + 1) / 8 + (5 * (n + 1) + 401) := g.2.2.1
      rw [NJ] at g4 g1 g2
      have hrp : pzz (sN σ' (sZ σ + 1)) ≤ 56 := by unfold pzz rp; omega
      have hrc : sN σ' (sZ σ + 1) / 8 ≤ 250 := by omega
      rw [show pzz 0 = 0 from rfl] at g1
      refine Rn_some (Le.refl _) ⟨FJ.tr g.1 (fun x hx q => by omega), ?_, ?_, rfl⟩
      · show sS σ' ≤ _
        unfold twS; rw [er]; show _ ≤ sS σ + (8 * n + 10090); omega
      · show sC σ' ≤ _
        unfold twC; rw [er]; show _ ≤ sC σ + (5 * n + 670); omega
  · cases er : rdW S I n m with
    | none =>
      rw [er] at hr
      obtain ⟨σ1, e1, -⟩ := hr
      cases e1
    | some T =>
      rw [er] at hr
      obtain ⟨σ1, va, F, co, e1, hV, hF, g, gc⟩ := hr
      cases e1
      have g4 : sN σ' (sZ σ + 1) ≤ max (sN (jrN σ b n) (sZ σ + 1)) 2000 := g.2.2.2.2
      have g1 : sS σ' + pzz (sN (jrN σ b n) (sZ σ + 1)) ≤ sS (jrN σ b n) + pzz (sN σ' (sZ σ + 1)) + co := g.2.1
      have g2 : sC σ' + sN (jrN σ b n) (sZ σ + 1) / 8 ≤ sC (jrN σ b n) + sN σ' (sZ σ + 1) / 8 + 5 * n := g.2.2.1
      rw [NJ] at g4 g1 g2
      have hrp : pzz (sN σ' (sZ σ + 1)) ≤ 56 := by unfold pzz rp; omega
      have hrc : sN σ' (sZ σ + 1) / 8 ≤ 250 := by omega
      rw [show pzz 0 = 0 from rfl] at g1
      have F1 : FR (fun _ => False) σ σ' := FJ.tr g.1 (fun x hx q => by omega)
      have hH1 : HSc z σ' S fa ma ea od := hH.kept hS ⟨F1.1, fun x hx => ⟨(F1.2 x hx).1, fun _ => (F1.2 x hx).2 (fun q => q)⟩⟩
      obtain ⟨hl, hTZ⟩ := toW_len hS hH.od hI n7 hm er
      refine Rn_bind (ww_write_eq hS 8 12 (by omega) σ' va m T F hH1 hV (fun x w => (hF x w).2) hm hTZ (by omega)) (fun r _ hr => ?_)
      obtain ⟨σ2, e2, q1, q2, q3, q4, q5, q6, q7⟩ := hr
      subst e2
      refine Rn_some (Le.refl _) ⟨F1.tr q4 (fun x _ q => q), ?_, ?_, sZ σ', rfl, F1.1.1, q3, q1, q2, q7⟩
      · show sS σ2 ≤ _
        unfold twS; rw [er]; show _ ≤ sS σ + (8 * n + 62 - dM S 8 T + wc rwS S od 8 m T); omega
      · show sC σ2 ≤ _
        unfold twC; rw [er]; show _ ≤ sC σ + (5 * n + 260 + wc rwC S od 8 m T); omega
end Ts
