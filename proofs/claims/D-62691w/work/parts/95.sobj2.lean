set_option maxRecDepth 100000
/-! JSON: objects of the system, all depths -/
section Oj2
variable {z : Nat} {S : SC} {fa ma ea : Nat → Nat} {od : Nat → List Nat} {a b ra wa : Nat} {I : Nat → Nat} {n : Nat}
theorem memQ_at {d : Nat} {sp : Nat → Nat → Option (Nat × TV d)} {m c p : Nat} {seen : List Nat} {T : TV (d + 1)} : memQ S I n sp m c (bl I n p) seen T = memQ S I n sp m c p seen T := by
  cases c with
  | zero => rfl
  | succ c =>
    rw [memQ, memQ]
    unfold mem1
    rw [bl_bl]
set_option maxHeartbeats 4000000 in
theorem jr_objectb_eq {rec : Nat × Nat → Option Nat → Option Nat → Int → ST → Option (Option (Option Nat) × ST)} {dp : Int} {d : Nat} (hS : SW S) (hNe : NE S) (hI : ∀ k, I k < 256) (hza : z ≤ a ∧ z ≤ ra ∧ z ≤ wa) (hRS : ¬ 8 ≤ dp → RS z S fa ma ea od a b ra wa I n d rec (dp + 1) (objS S I n d)) (hd : 8 ≤ dp → d = 0) (hdp : 1 ≤ dp ∧ dp ≤ 8) : RS z S fa ma ea od a b ra wa I n (d + 1) (fun bb => jr_objectb bb (rec bb)) dp (objS S I n (d + 1)) := by
  intro m p σ hm hp hH hJ
  obtain ⟨l1, l2, l3, l4⟩ := hJ.lt
  have hn := hJ.2.2.2.2.2.1
  have b1 := bl_ge' I n p
  have b2 := bl_le' I n p
  obtain ⟨X, hX⟩ : ∃ X, X = pR (nO σ 11 4) 160 (sZ σ) (some (ma m)) := ⟨_, rfl⟩
  have eI : ∀ bb, vlu_init bb (sZ σ) (some (ma m)) (nO σ 11 4) = some X := fun bb => by
    unfold vlu_init
    rw [gd_pos (by rw [sc_nO_, if_pos rfl]), nm_eq, hX]
  have hJX : JRd X a b ra wa I n p := by rw [hX]; exact (hJ.new 11 4).pRk (by decide)
  have gX : JG σ X a ra wa 4 1 := by
    have := (JG.refl σ a ra wa).fresh (W := fun x => x = sZ σ) (σ2 := X) (c' := 4) (k' := 1) (by
      rw [hX]
      refine ⟨⟨Nat.le_succ _, Nat.le_succ _, by show sS σ ≤ sS σ + 4; omega⟩, fun x hx => ?_⟩
      have hne : x ≠ sZ σ := by omega
      refine ⟨by show sc (nO σ 11 4) x = _; rw [sc_nO_, if_neg hne], fun q => ⟨rfl, rfl, rfl, rfl, rfl, rfl, rfl, fun k => ?_, fun k => ?_, fun k => ?_⟩⟩
      · show sI (nO σ 11 4) k x = _; rw [sI_nO_, if_neg hne]
      · show sJ (nO σ 11 4) k x = _; rw [sJ_nO_, if_neg hne]
      · rw [sR_pR, if_neg (fun q => hne q.2), sR_nO_, if_neg hne]) (fun x hx => by omega) l3 (by rw [hX]; exact Nat.le_refl _) (by rw [hX]; exact Nat.le_refl _)
    exact this
  have zX : sZ X = sZ σ + 1 := by rw [hX]; rfl
  have hHX := hH.gr hS hza gX
  have hV : HV S fa ma (d + 1) X (sZ σ) m (emp (d + 1)) (fun x => x = sZ σ) := by
    refine HV_new ?_ (by omega) rfl ?_ ?_ ?_
    · rw [hX]; show sc (nO σ 11 4) _ = _; rw [sc_nO_, if_pos rfl]
    · rw [hX, sR_pR, if_pos ⟨rfl, rfl⟩]
    · rw [hX, sR_pR, if_neg (by omega), sR_nO_, if_pos rfl]
    · rw [hX, sR_pR, if_neg (by omega), sR_nO_, if_pos rfl]
  have hWX : WV z (sZ σ) S fa ma ea od a b ra wa I n (sZ σ) m d X p (emp (d + 1)) := ⟨hHX, hJX, _, hV, fun x hx => by omega⟩
  have hz1 : z ≤ sZ σ ∧ a < sZ σ ∧ ra < sZ σ ∧ wa < sZ σ ∧ b < sZ σ := ⟨by omega, l1, l3, l4, l2⟩
  have hHY : HY z (sZ σ) S fa ma ea od a b ra wa I n d rec dp (objS S I n d) := ⟨hS, hI, hza, hz1, hRS, fun q m' p' => by have := hd q; subst this; rfl, hdp, objS_bd hI d, hNe⟩
  have KX : JK σ X (sZ σ) a ra wa 4 1 := JG.toK gX
  show Rn (·.2) σ (fun bb => jr_objectb bb (rec bb) (some a) (some (ma m)) dp σ) _
  unfold jr_objectb
  refine Rn_rm (σ1 := nO σ 11 4) (Nat.le_refl _) (Nat.le_refl _) (Nat.le_succ _) ?_
  refine Rn_eq (fun bb => by rw [nm_eq, eI bb, bind_some', bind_some', gd_pos hJX.1]) ?_
  refine Rn_le (σ1 := X) (by rw [hX]; exact ⟨Nat.le_refl _, Nat.le_refl _, Nat.le_refl _⟩) ?_
  obtain ⟨q, hq⟩ : ∃ q, q = bl I n p := ⟨_, rfl⟩
  rw [← hq] at b1 b2 ⊢
  have c1 := bl_ge' I n (q + 1)
  have c2 := bl_le' I n (q + 1)
  refine Rn_tB (hJX.sign (c := 123) (by omega) (by omega)) (fun σ' _ hr => ⟨rfl, ?_⟩) (fun y Y _ hr => ?_)
  · rw [← hq] at hr
    by_cases c : lk I n q = 123
    · rw [if_pos c] at hr; cases hr
    · rw [if_neg c] at hr
      cases hr
      rw [objS, if_neg c]
      exact ⟨_, rfl, (JK.toG (KX.tr ((JK.at (z1 := sZ σ) X _).tr (JK.nX _)))).mono (by omega) (by omega)⟩
  · rw [← hq] at hr
    by_cases c : lk I n q = 123
    · rw [if_pos c] at hr
      have e2 : Y = pI X 210 a ((q + 1 : Nat) : Int) := congrArg Prod.snd hr
      subst e2
      have lq := lk_ne c (by decide)
      have hJ2 := hJX.to (q := q + 1) (by omega) rfl
      refine Rn_eq (fun bb => by rw [gd_pos hJ2.1, hJ2.passes bb (c := 125) (by omega), bind_some', pI_pI, pI_pI]) ?_
      refine Rn_le (σ1 := X) ⟨Nat.le_refl _, Nat.le_refl _, Nat.le_refl _⟩ ?_
      rw [objS, if_pos c]
      by_cases cc : lk I n (bl I n (q + 1)) = 125
      · have lc := lk_ne cc (by decide)
        rw [if_pos cc, if_pos cc]
        refine Rn_eq (fun bb => by rw [gd_pos (show rg ((1 : Int), pI X 210 a ((bl I n (q + 1) + 1 : Nat) : Int)).1 by show rg 1; omega), if_neg (show ¬ ((1 : Int), pI X 210 a ((bl I n (q + 1) + 1 : Nat) : Int)).1 = 0 by show ¬ (1 : Int) = 0; omega)]) ?_
        have hW' := hWX.at hS hza hz1 (q := bl I n (q + 1) + 1) (by omega)
        obtain ⟨-, w2, F, w3, w4⟩ := hW'
        exact Rn_some ⟨Nat.le_refl _, Nat.le_refl _, Nat.le_refl _⟩ ⟨_, sZ σ, F, 4, rfl, w2, w3, w4, (JK.toG (KX.tr (JK.at (z1 := sZ σ) X _))).mono (by omega) (by show 1 + 0 ≤ 5 * (bl I n (q + 1) + 1 - p) - 5; omega), ⟨by show 4 + dM S (d + 1) (emp (d + 1)) + 4 ≤ 8 * (bl I n (q + 1) + 1 - p); rw [dM_emp]; omega, by show 4 + 5 ≤ 8 * (bl I n (q + 1) + 1 - p); omega⟩, by show p + 2 ≤ bl I n (q + 1) + 1; omega⟩
      · rw [if_neg cc, if_neg cc]
        refine Rn_eq (fun bb => by rw [gd_pos (show rg ((0 : Int), pI X 210 a ((bl I n (q + 1) : Nat) : Int)).1 by show rg 0; omega), if_pos (show ((0 : Int), pI X 210 a ((bl I n (q + 1) : Nat) : Int)).1 = 0 from rfl)]) ?_
        have hW' := hWX.at hS hza hz1 (q := bl I n (q + 1)) (by omega)
        refine Rn_le (σ1 := pI X 210 a ((bl I n (q + 1) : Nat) : Int)) ⟨Nat.le_refl _, Nat.le_refl _, Nat.le_refl _⟩ ?_
        rw [memL_Q, ← memQ_at]
        have K1 : JK σ (pI X 210 a ((bl I n (q + 1) : Nat) : Int)) (sZ σ) a ra wa 4 1 := KX.tr (JK.at X _)
        refine Rn_bind (su := stR) (obj_L hHY hm (n + 1) FU (bl I n (q + 1)) 0 [] (emp (d + 1)) _ hW' (by omega) (by omega) (FU_gt (by omega)) (by show 0 < _; omega) ⟨by decide, fun j _ => by simp⟩) (fun y _ hy => ?_)
        cases em : memQ S I n (objS S I n d) m (n + 1) (bl I n (q + 1)) [] (emp (d + 1)) with
        | none =>
          rw [em] at hy
          obtain ⟨σ', e3, K⟩ := hy
          subst e3
          exact Rn_some (Le.refl _) ⟨σ', rfl, (JK.toG (K1.tr K)).mono (by omega) (by omega)⟩
        | some e =>
          rw [em] at hy
          obtain ⟨σ', cm, e3, hW3, K, ⟨gm1, gm2⟩, d1, d2⟩ := hy
          rw [dM_emp] at gm1
          subst e3
          have hbe := memQ_bl _ _ _ _ _ em
          have hJ3 := hW3.2.1
          rw [bind_some']
          refine Rn_eq (fun bb => by rw [elim_r, gd_pos hJ3.1]) ?_
          refine Rn_tB (hJ3.sign (c := 125) (by omega) (by omega)) (fun σ'' _ hr => ⟨rfl, ?_⟩) (fun y Y _ hr => ?_)
          · rw [hbe] at hr
            by_cases c' : lk I n e.1 = 125
            · rw [if_pos c'] at hr; cases hr
            · rw [if_neg c'] at hr
              cases hr
              rw [if_neg c']
              exact ⟨_, rfl, (JK.toG ((K1.tr K).tr ((JK.at (z1 := sZ σ) σ' _).tr (JK.nX _)))).mono (by omega) (by omega)⟩
          · rw [hbe] at hr
            by_cases c' : lk I n e.1 = 125
            · rw [if_pos c'] at hr
              have e4 : Y = pI σ' 210 a ((e.1 + 1 : Nat) : Int) := congrArg Prod.snd hr
              subst e4
              have le := lk_ne c' (by decide)
              rw [if_pos c']
              obtain ⟨-, w2, F, w3, w4⟩ := hW3.at hS hza hz1 (q := e.1 + 1) (by omega)
              exact Rn_some (Le.refl _) ⟨_, sZ σ, F, 4 + cm, rfl, w2, w3, w4, (JK.toG ((K1.tr K).tr (JK.at (z1 := sZ σ) σ' _))).mono (by omega) (by show 1 + 5 * (e.1 - bl I n (q + 1)) + 0 ≤ 5 * (e.1 + 1 - p) - 5; omega), ⟨by show 4 + cm + dM S (d + 1) e.2 + 4 ≤ 8 * (e.1 + 1 - p); omega, by show 4 + cm + 5 ≤ 8 * (e.1 + 1 - p); omega⟩, by show p + 2 ≤ e.1 + 1; omega⟩
            · rw [if_neg c'] at hr; cases hr
    · rw [if_neg c] at hr; cases hr
theorem jr_object_eq (hS : SW S) (hNe : NE S) (hI : ∀ k, I k < 256) (hza : z ≤ a ∧ z ≤ ra ∧ z ≤ wa) : ∀ (d N : Nat), 1 ≤ d → d ≤ 8 → d ≤ N → RS z S fa ma ea od a b ra wa I n d (fun bb => jr_object bb N) (9 - (d : Int)) (objS S I n d)
  | 0, N, h, _, _ => by omega
  | d + 1, 0, _, _, h => by omega
  | d + 1, N + 1, _, h8, hN => by
    have e : (9 - ((d + 1 : Nat) : Int)) = 8 - (d : Int) := by omega
    rw [e]
    refine jr_objectb_eq (rec := fun bb => jr_object bb N) hS hNe hI hza (fun q => ?_) (fun q => by omega) (by omega)
    have := jr_object_eq hS hNe hI hza d N (by omega) (by omega) (by omega)
    rw [show 8 - (d : Int) + 1 = 9 - (d : Int) by omega]
    exact this
end Oj2
