set_option maxRecDepth 100000
/-! SCHEMAS, CHECKED: types of fields, by the system -/
section Sc
variable {y n sd root a0 : Nat} {I : Nat → Nat} {σ σ' : ST} {ob : Nat → Prop} {L : Nat → Nat → List Nat} {M : List TyM} {E : List TyE} {V : List TyV} {F : List TyF} {O : List TyO} {R : List TyR} {N : List TyN}
theorem fM_at {p : Int} {w : List UInt8} {m : TyM} (h : fM I n M p w = some m) : ∃ j : Nat, M[j]? = some m := List.getElem?_of_mem (List.mem_of_find?_eq_some h)
theorem fE_at {p : Int} {w : List UInt8} {m : TyE} (h : fE I n E p w = some m) : ∃ j : Nat, E[j]? = some m := List.getElem?_of_mem (List.mem_of_find?_eq_some h)
theorem SPk_none (ws : List (List UInt8)) : SPk I n M E ws none (-1) := by
  cases ws with
  | nil => rfl
  | cons w ws =>
    cases ws with
    | nil => rfl
    | cons w' ws => rfl
theorem res_L78 {f : TyF} (hf : f ∈ F) (hn : n ≤ 1000) : ∀ (c N1 k : Nat) (p : Option Int) (σ : ST), SFr y σ I n ob L sd root M E V F O R N a0 → k + c = fPa f → c + 1 < N1 → (∀ p', p = some p' → ∃ s, scA M root p' = some s) → sR σ 137 f.1 = none → sR σ 138 f.1 = none →
    ∃ σ' v, (∀ bb : Nat × Nat, ck_resolve_L78 bb (some f.1) N1 (p.bind (scA M root)) (k : Int) σ = some σ') ∧ RX σ σ' ∧ sI σ' = sI σ ∧ (∀ j x, x ≠ f.1 → sR σ' j x = sR σ j x) ∧ SPk I n M E ((fTx I n f).drop k) p v ∧ KRs σ' M E f.1 v
  | c, 0, k, p, σ, _, _, h, _, _, _ => by omega
  | c, N1 + 1, k, p, σ, h, hk, hN, hp, h137, h138 => by
    obtain ⟨H, Q, B, W, C, k1, k2, k3⟩ := id h
    obtain ⟨of, f9, -, -, -, -, -, -, -, flen, frow⟩ := B.2.2.2.1 f hf
    have f9 : sc σ f.1 = 9 := f9
    have wf := W.2.2.2.2.1 f hf
    obtain ⟨l, l1, l2, l3, l4, l5, -⟩ := H.get (k := 139) of (by decide) f9
    have l4 : sc σ l = 16 := l4
    have l5 := l5 rfl
    have bp : fPa f ≤ n + 1 := by
      have := (wf.2.2.2.2.2.1 (fPa f - 1) (by have := wf.2.2.2.2.1; omega)).2
      omega
    have hlen : (fTx I n f).length = fPa f := by unfold fTx; rw [List.length_map, List.length_range]
    have hd0 : ∀ (bb : Nat × Nat) (w2 : Option Nat) (σ1 : ST) (N2 : Nat), sc σ1 = sc σ → sR σ1 139 f.1 = some l → sA σ1 = sA σ → ck_resolve_L78 bb (some f.1) (N2 + 1) w2 ((fPa f : Nat) : Int) σ1 = some σ1 := fun bb w2 σ1 N2 e1 e2 e3 => by
      have l41 : sc σ1 l = 16 := by rw [e1]; exact l4
      rw [ck_resolve_L78, bind_some', gd_pos (by rw [e1]; exact f9), e2, bind_some', gd_pos l41, l_sz l41, bind_some', e3, l5.1, flen, gd_pos (by omega), gd_pos (by omega), if_pos (Or.inl (by omega))]
    cases c with
    | zero =>
      refine ⟨σ, -1, fun bb => ?_, RX.refl _, rfl, fun _ _ _ => rfl, ?_, Or.inl ⟨rfl, h137, h138⟩⟩
      · rw [show k = fPa f by omega]; exact hd0 bb _ σ N1 rfl l1 rfl
      · rw [List.drop_of_length_le (by omega)]; rfl
    | succ c =>
      cases p with
      | none =>
        refine ⟨σ, -1, fun bb => ?_, RX.refl _, rfl, fun _ _ _ => rfl, SPk_none _, Or.inl ⟨rfl, h137, h138⟩⟩
        show ck_resolve_L78 bb (some f.1) (N1 + 1) none (k : Int) σ = some σ
        rw [ck_resolve_L78, bind_some', gd_pos f9, l1, bind_some', gd_pos l4, l_sz l4, bind_some', l5.1, flen, gd_pos (by omega), gd_pos (by omega), if_pos (Or.inr rfl)]
      | some p =>
        obtain ⟨s, hs⟩ := hp p rfl
        obtain ⟨-, s3⟩ := B.sc3 hs
        obtain ⟨r, r1, -, -⟩ := drop_at (show k < (L 139 f.1).length by omega)
        obtain ⟨-, -, r4, rw4⟩ := frow k r r1
        have rw4 : sW σ r = tx I n (fTy f + 2 * k) := rw4
        have eg : l_get l (k : Int) σ = some (some r) := by
          rw [l_gt l4 (i := k) (by rw [l5.1]; omega) rfl, l5.1, List.getD_eq_getElem?_getD, r1]; rfl
        obtain ⟨tt, t1, -, hd⟩ := drop_at (show k < (fTx I n f).length by omega)
        have et : tt = tx I n (fTy f + 2 * k) := by
          unfold fTx at t1
          rw [List.getElem?_map, List.getElem?_range (by omega)] at t1
          exact (Option.some.inj t1).symm
        subst et
        have m1 := scpm_eq h hs r4 rw4
        have hop : ∀ bb : Nat × Nat, ck_resolve_L78 bb (some f.1) (N1 + 1) ((some p).bind (scA M root)) (k : Int) σ = (Option.bind (gd (rg (((k : Int) + 1))) (gd (rg ((fPa f : Nat) : Int)) (if ((k : Int) + 1) = ((fPa f : Nat) : Int) then (some (1 : Int)) else (some 0)))) fun (v87 : Int) => Option.bind (gd (rg v87) (if v87 = 0 then (some σ) else (nm (pR σ 137 f.1 ((fM I n M p (tx I n (fTy f + 2 * k))).map (fun m => m.1))) fun σ117 => Option.bind (if ((fM I n M p (tx I n (fTy f + 2 * k))).map (fun m => m.1)) = none then (gd (sc σ117 s = 3) (Option.bind (scp_enumOf s (some r) σ117) fun y129 => some y129)) else (some none)) fun (v122 : Option Nat) => gd (sc σ117 f.1 = 9) (nm (pR σ117 138 f.1 v122) fun σ127 => some σ127)))) fun (v97 : ST) => Option.bind (if ((fM I n M p (tx I n (fTy f + 2 * k))).map (fun m => m.1)) = none then (some none) else (Option.bind ((fM I n M p (tx I n (fTy f + 2 * k))).map (fun m => m.1)) fun p110 => gd (sc v97 p110 = 7) (some ((sR v97 98 p110))))) fun (v106 : Option Nat) => ck_resolve_L78 bb (some f.1) N1 v106 ((k : Int) + 1) v97) := fun bb => by
          show ck_resolve_L78 bb (some f.1) (N1 + 1) (scA M root p) (k : Int) σ = _
          rw [hs, ck_resolve_L78, bind_some', gd_pos f9, l1, bind_some', gd_pos l4, l_sz l4, bind_some', l5.1, flen, gd_pos (by omega), gd_pos (by omega), if_neg (by
            intro w
            rcases w with w | w
            · omega
            · cases w), eg, bind_some', bind_some', gd_pos r4, bind_some']
          refine congrArg (Option.bind _) (funext fun v87 => ?_)
          rw [bind_some', gd_pos s3, m1, bind_some']
        by_cases last : k + 1 = fPa f
        · -- the last part
          have hd2 : (fTx I n f).drop (k + 1) = [] := List.drop_of_length_le (by omega)
          rw [hd, hd2]
          have e87 : (gd (rg (((k : Int) + 1))) (gd (rg ((fPa f : Nat) : Int)) (if ((k : Int) + 1) = ((fPa f : Nat) : Int) then (some (1 : Int)) else (some 0)))) = some 1 := by
            rw [gd_pos (by omega), gd_pos (by omega), if_pos (by omega)]
          cases cM : fM I n M p (tx I n (fTy f + 2 * k)) with
          | some m =>
            obtain ⟨j, hj⟩ := fM_at cM
            obtain ⟨-, -, m7, -⟩ := B.2.1 j m hj
            refine ⟨pR (pR σ 137 f.1 (some m.1)) 138 f.1 none, 16 + (j : Int), fun bb => ?_, (RX.pR σ (Or.inl rfl) _ _).tr (RX.pR _ (Or.inr rfl) _ _), rfl, fun q x hx => ?_, Or.inl ⟨j, m, cM, hj, rfl⟩, Or.inr (Or.inl ⟨j, m, rfl, hj, ?_, ?_⟩)⟩
            · rw [hop, e87, bind_some', gd_pos (by omega), if_neg (by omega), nm_eq, cM, if_neg (by intro w; cases w), bind_some', gd_pos (by exact f9), nm_eq, bind_some', if_neg (by intro w; cases w)]
              show Option.bind (Option.bind (some m.1) _) _ = _
              rw [bind_some', gd_pos (by exact m7), bind_some', show (k : Int) + 1 = ((fPa f : Nat) : Int) by omega]
              obtain ⟨N1, rfl⟩ : ∃ N', N1 = N' + 1 := ⟨N1 - 1, by omega⟩
              exact hd0 bb _ _ N1 rfl (by rw [sR_pR, if_neg (by omega), sR_pR, if_neg (by omega)]; exact l1) rfl
            · rw [sR_pR, if_neg (fun e => hx e.2), sR_pR, if_neg (fun e => hx e.2)]
            · rw [sR_pR, if_neg (by omega), sR_pR, if_pos ⟨rfl, rfl⟩]
            · rw [sR_pR, if_pos ⟨rfl, rfl⟩]
          | none =>
            have rx1 := RX.pR σ (k := 137) (Or.inl rfl) f.1 none
            have m2 := scpe_eq (h.rx rx1) hs (r := r) (by exact r4) (by exact rw4)
            have run : ∀ bb : Nat × Nat, ck_resolve_L78 bb (some f.1) (N1 + 1) ((some p).bind (scA M root)) (k : Int) σ = some (pR (pR σ 137 f.1 none) 138 f.1 ((fE I n E p (tx I n (fTy f + 2 * k))).map (fun m => m.1))) := fun bb => by
              rw [hop, e87, bind_some', gd_pos (by omega), if_neg (by omega), nm_eq, cM, if_pos (show Option.map (fun m : TyM => m.1) none = none from rfl)]
              show Option.bind (Option.bind (gd (sc (pR σ 137 f.1 none) s = 3) (Option.bind (scp_enumOf s (some r) (pR σ 137 f.1 none)) fun y129 => some y129)) _) _ = _
              rw [gd_pos (by exact s3), m2, bind_some', bind_some', gd_pos (by exact f9), nm_eq, bind_some', if_pos (show Option.map (fun m : TyM => m.1) none = none from rfl), bind_some', show (k : Int) + 1 = ((fPa f : Nat) : Int) by omega]
              obtain ⟨N1, rfl⟩ : ∃ N', N1 = N' + 1 := ⟨N1 - 1, by omega⟩
              exact hd0 bb _ _ N1 rfl (by rw [sR_pR, if_neg (by omega), sR_pR, if_neg (by omega)]; exact l1) rfl
            cases cE : fE I n E p (tx I n (fTy f + 2 * k)) with
            | some e =>
              obtain ⟨j, hj⟩ := fE_at cE
              rw [cE] at run
              refine ⟨_, 32 + (j : Int), run, rx1.tr (RX.pR _ (Or.inr rfl) _ _), rfl, fun q x hx => ?_, Or.inr (Or.inl ⟨cM, j, e, cE, hj, rfl⟩), Or.inr (Or.inr ⟨j, e, rfl, hj, ?_, ?_⟩)⟩
              · rw [sR_pR, if_neg (fun e => hx e.2), sR_pR, if_neg (fun e => hx e.2)]
              · rw [sR_pR, if_neg (by omega), sR_pR, if_pos ⟨rfl, rfl⟩]
              · rw [sR_pR, if_pos ⟨rfl, rfl⟩]; rfl
            | none =>
              rw [cE] at run
              refine ⟨_, -1, run, rx1.tr (RX.pR _ (Or.inr rfl) _ _), rfl, fun q x hx => ?_, Or.inr (Or.inr ⟨cM, cE, rfl⟩), Or.inl ⟨rfl, ?_, ?_⟩⟩
              · rw [sR_pR, if_neg (fun e => hx e.2), sR_pR, if_neg (fun e => hx e.2)]
              · rw [sR_pR, if_neg (by omega), sR_pR, if_pos ⟨rfl, rfl⟩]
              · rw [sR_pR, if_pos ⟨rfl, rfl⟩]; rfl
        · have e87 : (gd (rg (((k : Int) + 1))) (gd (rg ((fPa f : Nat) : Int)) (if ((k : Int) + 1) = ((fPa f : Nat) : Int) then (some (1 : Int)) else (some 0)))) = some 0 := by
            rw [gd_pos (by omega), gd_pos (by omega), if_neg (by omega)]
          obtain ⟨t2, -, -, hd2⟩ := drop_at (show k + 1 < (fTx I n f).length by omega)
          cases cM : fM I n M p (tx I n (fTy f + 2 * k)) with
          | some m =>
            obtain ⟨j, hj⟩ := fM_at cM
            obtain ⟨-, -, m7, -, -, m98, -⟩ := B.2.1 j m hj
            have hsj : scA M root (j : Int) = some m.2.1 := by rw [scA_n, hj]; rfl
            obtain ⟨σ', v, w1, w2, w3, w4, w5, w6⟩ := res_L78 hf hn c N1 (k + 1) (some (j : Int)) σ h (by omega) (by omega) (fun p' e => by
              have e := Option.some.inj e
              subst e
              exact ⟨_, hsj⟩) h137 h138
            refine ⟨σ', v, fun bb => ?_, w2, w3, w4, ?_, w6⟩
            · rw [hop, e87, bind_some', gd_pos (by omega), if_pos rfl, bind_some', cM, if_neg (by intro w; cases w)]
              show Option.bind (Option.bind (some m.1) _) _ = _
              rw [bind_some', gd_pos m7, bind_some', m98, show (k : Int) + 1 = ((k + 1 : Nat) : Int) by omega]
              have := w1 bb
              rw [show (some (j : Int)).bind (scA M root) = some m.2.1 from hsj] at this
              exact this
            · rw [hd, hd2]
              rw [hd2] at w5
              exact Or.inr ⟨j, m, cM, hj, w5⟩
          | none =>
            obtain ⟨σ', v, w1, w2, w3, w4, w5, w6⟩ := res_L78 hf hn c N1 (k + 1) none σ h (by omega) (by omega) (fun p' e => by cases e) h137 h138
            refine ⟨σ', v, fun bb => ?_, w2, w3, w4, ?_, w6⟩
            · rw [hop, e87, bind_some', gd_pos (by omega), if_pos rfl, bind_some', cM, if_pos (show Option.map (fun m : TyM => m.1) none = none from rfl), bind_some', show (k : Int) + 1 = ((k + 1 : Nat) : Int) by omega]
              exact w1 bb
            · rw [hd, hd2]
              rw [hd2] at w5
              have e : v = -1 := by
                cases hh : (fTx I n f).drop (k + 1 + 1) with
                | nil => rw [hh] at w5; exact w5
                | cons a b => rw [hh] at w5; exact w5
              exact Or.inl ⟨cM, e⟩
end Sc
