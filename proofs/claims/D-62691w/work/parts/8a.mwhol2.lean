set_option maxRecDepth 100000
/-! NUMBERS: what the reference reckons -/
section Mx
variable {τ : TT} {J : Nat → Nat} {N b : Nat}
theorem g_exp (J : Nat → Nat) (N b j : Nat) (h1 : g3 J N b ≤ j) (h2 : j < g4 J N b) : 48 ≤ lk J N j ∧ lk J N j ≤ 57 := by
  by_cases c : isE (lk J N (g2 J N b))
  · have e : g4 J N b = dg J N (g3 J N b) := if_pos c
    exact (dg_sp J N (g3 J N b)).2.2.2 j h1 (by omega)
  · have e : g4 J N b = g2 J N b := if_neg c
    have e3 : g3 J N b = g2 J N b := if_neg c
    omega
theorem mw_pow (hS : Sy τ J N) (hb : b ≤ 1000) (hg : gok J N b) (u3 u4 u6 : Int) : m_isWhole_L105 (g4 J N b : Int) u3 u4 u6 τ FU 0 (((g2 J N b + 1 : Nat)) : Int) = some (rpw J N (g4 J N b - g3 J N b) (g3 J N b) 0 : Int) := by
  have hN := hS.1
  have hs := g_sp J N b
  by_cases c : isE (lk J N (g2 J N b))
  · have e3 : g3 J N b = if lk J N (g2 J N b + 1) = 43 ∨ lk J N (g2 J N b + 1) = 45 then g2 J N b + 2 else g2 J N b + 1 := if_pos c
    have h34 := hg.2.2.2 c
    by_cases d : lk J N (g2 J N b + 1) = 43 ∨ lk J N (g2 J N b + 1) = 45
    · rw [if_pos d] at e3
      rw [FU_s 1 (by omega), m_isWhole_L105, gd_pos (by omega), gd_pos (by omega), if_neg (by omega), hS.at (k := g2 J N b + 1) rfl (by omega), bind_some', m_isDigit_eq (by omega), bind_some', if_pos (by omega), gd_pos (by omega), if_pos rfl, bind_some', show (((g2 J N b + 1 : Nat)) : Int) + 1 = ((g3 J N b : Nat) : Int) by omega]
      have q := mw_L105 hS u3 u4 u6 (t := g4 J N b) (by omega) (g4 J N b - g3 J N b) (FU - 1 - 1 + 1) (g3 J N b) 0 (by omega) (by show _ < 1000000 - 1 - 1 + 1; omega) (by omega) (fun j h1 h2 => g_exp J N b j h1 h2)
      exact q
    · rw [if_neg d] at e3
      rw [← e3]
      exact mw_L105 hS u3 u4 u6 (t := g4 J N b) (by omega) (g4 J N b - g3 J N b) FU (g3 J N b) 0 (by omega) (FU_gt (by omega)) (by omega) (fun j h1 h2 => g_exp J N b j h1 h2)
  · have e : g4 J N b = g2 J N b := if_neg c
    have e3 : g3 J N b = g2 J N b := if_neg c
    rw [e, e3, Nat.sub_self, FU_s 0 (by omega), m_isWhole_L105, gd_pos (by omega), gd_pos (by omega), if_pos (by omega)]
    rfl
set_option maxHeartbeats 4000000 in
theorem m_isWhole_eq (hS : Sy τ J N) (hb : b ≤ 1000) (hg : gok J N b) {x y : Int} (hx : x = (b : Int)) (hy : y = (g4 J N b : Int)) : ∃ τ', TF [59, 60] τ τ' ∧ m_isWhole x y τ = some (match wv J N b with | some _ => 1 | none => 0, τ') ∧ ∀ v, wv J N b = some v → tJ τ' 59 = lN v ∧ v < T64 ∧ tI τ' 60 = (if lk J N b = 45 ∧ v ≠ 0 then 1 else 0) := by
  subst hx hy
  have hN := hS.1
  obtain ⟨s1, s2, s3, s4, s5, s6, s7, s8, s9, s10⟩ := g_sp J N b
  have t1 : g1 J N b ≤ 1001 := by omega
  have t2 : g2 J N b ≤ 1002 := by omega
  have t4 : g4 J N b ≤ 1004 := by omega
  have l2 : g2 J N b < 5000 := by omega
  have l4 : g4 J N b < 5000 := by omega
  have lf : g2 J N b < FU := FU_gt (by omega)
  clear s8 s9 s10
  have hr := hS.rgs b
  have hr1 := hS.rgs (g2 J N b + 1)
  have hm : ∃ m : Int, m = (if lk J N b = 45 then 1 else 0) := ⟨_, rfl⟩
  obtain ⟨m, hm⟩ := hm
  have hm2 : m = 0 ∨ m = 1 := by rw [hm]; split <;> omega
  have f1 : TF [59, 60] τ (uI τ 60 m) := (TF.refl _ τ).uI (by decide) m
  have hS1 : Sy (uI τ 60 m) J N := hS.tr f1 (by decide) (by decide) (by decide) (by decide) (by decide)
  have e60 : tI (uI τ 60 m) 60 = m := by rw [tI_uI, if_pos rfl]
  unfold m_isWhole
  rw [hS.at (k := b) rfl (by omega), bind_some', gd_pos (by omega)]
  have e5 : (if lk J N b = 45 then (some 1) else (some 0) : Option Int) = some m := by rw [hm]; split <;> rfl
  rw [e5, bind_some', gd_pos (by exact hm2), nm_eq, e60, gd_pos (by omega)]
  have e13 : (if m = 0 then (some (b : Int)) else (some ((b : Int) + 1)) : Option Int) = some (g0 J N b : Int) := by
    unfold g0
    rw [hm]
    by_cases c : lk J N b = 45
    · rw [if_pos c, if_neg (by omega), if_pos c]; rfl
    · rw [if_neg c, if_pos rfl, if_neg c]
  rw [e13, bind_some']
  have h34 : m_isWhole_L34 (g4 J N b : Int) (g0 J N b : Int) (uI τ 60 m) FU (g0 J N b : Int) = some (g2 J N b : Int) := by
    refine mw_L34 hS1 _ (t := g4 J N b) (by omega) ?_ (g2 J N b) FU (g0 J N b) (by omega) (FU_gt (by omega)) (by omega) (fun j h1 h2 => ?_)
    · by_cases c : isE (lk J N (g2 J N b))
      · have := hg.2.2.2 c
        exact Or.inl ⟨c, by omega⟩
      · exact Or.inr (if_neg c).symm
    · have := g_shape J N b j h1 h2
      omega
  rw [h34, bind_some']
  have e28 : ∃ u : Int, u = (if isE (lk J N (g2 J N b)) ∧ lk J N (g2 J N b + 1) = 45 then 1 else 0) := ⟨_, rfl⟩
  obtain ⟨u, hu⟩ := e28
  have hu2 : u = 0 ∨ u = 1 := by rw [hu]; split <;> omega
  have hE : isE (lk J N (g2 J N b)) → g2 J N b + 1 < g4 J N b := fun c => by
    have e3 : g3 J N b = if lk J N (g2 J N b + 1) = 43 ∨ lk J N (g2 J N b + 1) = 45 then g2 J N b + 2 else g2 J N b + 1 := if_pos c
    have := hg.2.2.2 c
    split at e3 <;> omega
  have hE' : ¬ isE (lk J N (g2 J N b)) → g4 J N b = g2 J N b := fun c => if_neg c
  rw [show (g2 J N b : Int) + 1 = ((g2 J N b + 1 : Nat) : Int) by omega, hS1.at (k := g2 J N b + 1) rfl (by omega), gd_pos (by omega), gd_pos (by omega), gd_pos (by exact fun _ => rfl), gd_pos (by exact fun _ => by rw [vv_s]; omega), vv_s]
  have e29 : (if ((g4 J N b : Int) ≤ ((g2 J N b + 1 : Nat) : Int)) ∨ (¬ (lk J N (g2 J N b + 1) = 45)) then (some 0) else (some 1) : Option Int) = some u := by
    rw [hu]
    by_cases c : isE (lk J N (g2 J N b))
    · have := hE c
      by_cases d : lk J N (g2 J N b + 1) = 45
      · rw [if_neg (by omega), if_pos ⟨c, d⟩]
      · rw [if_pos (Or.inr d), if_neg (fun q => d q.2)]
    · have := hE' c
      rw [if_pos (by omega), if_neg (fun q => c q.1)]
  rw [e29, bind_some', nm_eq, mw_pow hS1 hb hg, bind_some', gd_pos (by omega)]
  have hrel := pw_rel (J := J) (N := N) (g4 J N b - g3 J N b) (g3 J N b) 0 0 (fun j h1 h2 => (dv_9 (g_exp J N b j h1 (by omega))).1) (Or.inl ⟨rfl, by omega⟩)
  have eP : ∃ P : Int, P = ept J N b (rpw J N (g4 J N b - g3 J N b) (g3 J N b) 0) := ⟨_, rfl⟩
  obtain ⟨P, hP⟩ := eP
  have hPr : -1000009 ≤ P ∧ P ≤ 1000009 := by
    rw [hP]; unfold ept
    split
    · split <;> omega
    · omega
  have e39 : (if u = 0 then (some (rpw J N (g4 J N b - g3 J N b) (g3 J N b) 0 : Int)) else (nm (-(rpw J N (g4 J N b - g3 J N b) (g3 J N b) 0 : Int)) fun x194 => some x194) : Option Int) = some P := by
    by_cases c : isE (lk J N (g2 J N b))
    · by_cases d : lk J N (g2 J N b + 1) = 45
      · have hu1 : u = 1 := by rw [hu, if_pos ⟨c, d⟩]
        rw [if_neg (by rw [hu1]; decide), nm_eq, hP]
        unfold ept
        rw [if_pos c, if_pos d]
      · have hu0 : u = 0 := by rw [hu, if_neg (fun q => d q.2)]
        rw [if_pos hu0, hP]
        unfold ept
        rw [if_pos c, if_neg d]
    · have hu0 : u = 0 := by rw [hu, if_neg (fun q => c q.1)]
      have e4 := hE' c
      have e3 : g3 J N b = g2 J N b := if_neg c
      rw [if_pos hu0, hP]
      unfold ept
      rw [if_neg c, e4, e3, Nat.sub_self]
      rfl
  rw [e39, bind_some']
  have hsh := g_shape J N b
  have hP2 : -2000000 ≤ P ∧ P ≤ 2000000 := ⟨by omega, by omega⟩
  have o0 : g2 J N b - g0 J N b ≤ g2 J N b := by omega
  have o0' : g0 J N b ≤ g2 J N b := by omega
  obtain ⟨x7, x8, x9, x10, e184, hI⟩ := mw_L184 hS1 (g0 J N b : Int) P (k0 := g0 J N b) (pt := g1 J N b) (e := g2 J N b) l2 (fun j h1 h2 => hsh j h1 h2) (g2 J N b) FU (g0 J N b) 0 0 0 0 o0 lf (Nat.le_refl _) o0' ⟨by rw [if_neg (Nat.not_lt.mpr s2)], by rw [if_neg (Nat.not_lt.mpr s2)], Or.inl ⟨rfl, fun j h1 h2 => absurd h2 (by omega)⟩⟩
  rw [e184, bind_some', nm_eq]
  show ∃ τ', TF [59, 60] τ τ' ∧ gd (rg x10) (if x10 = 0 then (nm (uI (uJ (uI τ 60 m) 59 0) 60 0) fun τ51 => some ((1, τ51))) else (nm ((g2 J N b : Int) - 1) fun x52 => Option.bind (m_isWhole_L273 (g0 J N b : Int) x8 (uJ (uI τ 60 m) 59 0) FU P x7 x9 x52) fun (v53 : Int × Int) => nm (v53.1 - v53.2) fun x57 => gd (rg x57) (if 0 ≤ x57 then (Option.bind (m_isWhole_L334 x8 x57 FU (g0 J N b : Int) (uJ (uI τ 60 m) 59 0)) (Sum.elim some fun (v61 : TT) => m_isWhole_L380 x57 FU 0 v61)) else (some ((0, uJ (uI τ 60 m) 59 0)))))) = _ ∧ _
  have f2 : TF [59, 60] τ (uJ (uI τ 60 m) 59 0) := f1.uJ (by decide) _
  obtain ⟨i1, i2, i3⟩ := hI
  have eW : ∃ W : Int, W = (g1 J N b : Int) - (g0 J N b : Int) + ept J N b (spw J N (g4 J N b - g3 J N b) (g3 J N b) 0) := ⟨_, rfl⟩
  obtain ⟨W, hW⟩ := eW
  have ewv : wv J N b = nv J N (g0 J N b) (g1 J N b) (g2 J N b) W := by rw [hW]; rfl
  rw [ewv]
  rcases i3 with ⟨a1, a2⟩ | ⟨a1, l, a2, a3, a4, a5, a6, a7⟩
  · rw [a1, gd_pos (by omega), if_pos rfl, nm_eq, nv_zero (by omega) a2]
    refine ⟨uI (uJ (uI τ 60 m) 59 0) 60 0, f2.uI (by decide) 0, rfl, fun v hv => ?_⟩
    cases hv
    refine ⟨?_, by decide, ?_⟩
    · rw [tJ_uI, tJ_uJ, if_pos rfl]; rfl
    · rw [tI_uI, if_pos rfl, if_neg (fun q => q.2 rfl)]
  · have hnv : nv J N (g0 J N b) (g1 J N b) (g2 J N b) W = nv J N (g0 J N b) (g1 J N b) (g2 J N b) ((g1 J N b : Int) - (g0 J N b : Int) + P) := by
      rcases hrel with ⟨r1, r2⟩ | ⟨r1, r2, r3⟩
      · rw [hW, hP, r1]
      · by_cases c : isE (lk J N (g2 J N b))
        · refine nv_far (by omega) a3 a4 a5 a6 a7 (by omega) ?_
          rw [hW, hP, r1]
          unfold ept
          rw [if_pos c, if_pos c]
          split <;> omega
        · have e4 := hE' c
          have e3 : g3 J N b = g2 J N b := if_neg c
          rw [e4, e3, Nat.sub_self] at r2
          have : rpw J N 0 (g2 J N b) 0 = 0 := rfl
          omega
    have o1 : g2 J N b - 1 - l ≤ g2 J N b := by omega
    have o2 : l ≤ g2 J N b - 1 := by omega
    have o3 : g2 J N b - 1 < g2 J N b := by omega
    have q273 := mw_L273 (hS1.uJ 0) (g0 J N b : Int) (k0 := g0 J N b) (pt := g1 J N b) (e := g2 J N b) (l := l) l2 a3 (fun j h1 h2 => hsh j h1 h2) P hP2 (g2 J N b) FU (g2 J N b - 1) P x7 x9 o1 lf o2 o3 (by
        rw [i1]
        by_cases c : g1 J N b < g2 J N b
        · rw [if_pos c, if_pos (by omega)]
        · rw [if_neg c, if_neg (by omega)]) (by
        rw [i2]
        by_cases c : g1 J N b < g2 J N b
        · rw [if_pos c, if_pos (by omega)]; omega
        · rw [if_neg c, if_neg (by omega)]) (by
        by_cases c : g1 J N b < g2 J N b
        · rw [if_neg (by omega)]; omega
        · rw [if_pos (by omega)]; omega) (by omega)
    rw [a1, gd_pos (by omega), if_neg (by omega), nm_eq]
    show ∃ τ', TF [59, 60] τ τ' ∧ (Option.bind (m_isWhole_L273 (g0 J N b : Int) x8 (uJ (uI τ 60 m) 59 0) FU P x7 x9 ((g2 J N b : Int) - 1)) fun (v53 : Int × Int) => nm (v53.1 - v53.2) fun x57 => gd (rg x57) (if 0 ≤ x57 then (Option.bind (m_isWhole_L334 x8 x57 FU (g0 J N b : Int) (uJ (uI τ 60 m) 59 0)) (Sum.elim some fun (v61 : TT) => m_isWhole_L380 x57 FU 0 v61)) else (some ((0, uJ (uI τ 60 m) 59 0))))) = _ ∧ _
    rw [a2, show (g2 J N b : Int) - 1 = ((g2 J N b - 1 : Nat) : Int) by omega, q273, bind_some', nm_eq]
    have eR : ∃ R : Int, R = (g1 J N b : Int) - (g0 J N b : Int) + P - (ix (g0 J N b) (g1 J N b) l + 1 : Nat) := ⟨_, rfl⟩
    obtain ⟨R, hR⟩ := eR
    have e57 : (P + (if l < g1 J N b then (g1 J N b : Int) - 1 - l else 0), (if g1 J N b ≤ l then (l : Int) - g1 J N b else 0)).1 - (P + (if l < g1 J N b then (g1 J N b : Int) - 1 - l else 0), (if g1 J N b ≤ l then (l : Int) - g1 J N b else 0)).2 = R := by
      rw [hR]
      unfold ix
      show P + (if l < g1 J N b then (g1 J N b : Int) - 1 - l else 0) - (if g1 J N b ≤ l then (l : Int) - g1 J N b else 0) = _
      rcases Nat.lt_or_ge l (g1 J N b) with q | q
      · rw [if_pos q, if_neg (by omega), if_neg (by omega)]; omega
      · rw [if_neg (by omega), if_pos q, if_pos (by omega)]; omega
    have hixl : ix (g0 J N b) (g1 J N b) l < 5000 := by unfold ix; omega
    rw [e57, gd_pos (by omega), hnv, nv_last (by omega) a3 a4 a5 a6 a7]
    by_cases c : 0 ≤ R
    · rw [if_pos c, if_pos (by omega)]
      obtain ⟨s', hs', e334⟩ := mw_L334 hS1 R (k0 := g0 J N b) (pt := g1 J N b) (e := g2 J N b) (l := l) l2 a4 (fun j h1 h2 => hsh j h1 h2) (l + 1 - g0 J N b) FU (g0 J N b) 0 (by omega) (FU_gt (by omega)) (Nat.le_refl _) (by decide)
      rw [show lN 0 = (0 : Int64) from rfl] at e334
      rw [e334, bind_some']
      cases epp : pp J N (g1 J N b) (l + 1 - g0 J N b) (g0 J N b) 0 with
      | none =>
        simp only [epp]
        exact ⟨uJ (uI τ 60 m) 59 (lN s'), f1.uJ (by decide) _, rfl, fun v hv => by cases hv⟩
      | some s =>
        simp only [epp]
        have hs1 := pp_pos _ _ _ _ epp (Or.inr ⟨l, a3, by omega, a5, a6⟩)
        have hs2 := pp_lt _ _ _ _ (by decide) epp
        obtain ⟨s'', hs'', e380⟩ := mw_L380 (τ := uI τ 60 m) R (by omega) 20 R.toNat FU 0 s (by omega) hs2 (by
          have : T64 ≤ 10 ^ 20 := by decide
          exact Nat.le_trans this (Nat.le_mul_of_pos_left _ hs1)) (FU_gt (by omega))
        rw [show ((0 : Nat) : Int) = 0 from rfl] at e380
        rw [elim_r, e380]
        have eZ : (some s).bind (pz (((g1 J N b : Int) - (g0 J N b : Int) + P).toNat - (ix (g0 J N b) (g1 J N b) l + 1))) = pz R.toNat s := by
          have e : ((g1 J N b : Int) - (g0 J N b : Int) + P).toNat - (ix (g0 J N b) (g1 J N b) l + 1) = R.toNat := by omega
          rw [e]
          rfl
        rw [eZ]
        cases epz : pz R.toNat s with
        | none =>
          simp only [epz]
          exact ⟨uJ (uI τ 60 m) 59 (lN s''), f1.uJ (by decide) _, rfl, fun v hv => by cases hv⟩
        | some v =>
          simp only [epz]
          refine ⟨uJ (uI τ 60 m) 59 (lN v), f1.uJ (by decide) _, rfl, fun v' hv => ?_⟩
          cases hv
          have hv := pz_val _ _ _ epz
          have hv0 : v ≠ 0 := by
            rw [hv.1]
            have : 0 < 10 ^ R.toNat := Nat.pow_pos (by decide)
            exact Nat.ne_of_gt (Nat.mul_pos hs1 this)
          refine ⟨by rw [tJ_uJ, if_pos rfl], hv.2 hs2, ?_⟩
          rw [tI_uJ, e60, hm]
          by_cases c2 : lk J N b = 45
          · rw [if_pos c2, if_pos ⟨c2, hv0⟩]
          · rw [if_neg c2, if_neg (fun q => c2 q.1)]
    · rw [if_neg c, if_neg (by omega)]
      exact ⟨uJ (uI τ 60 m) 59 0, f2, rfl, fun v hv => by cases hv⟩
end Mx
