set_option maxRecDepth 100000
/-! THE WIRE, READ: messages in messages, as the system takes them -/
section Tm
variable {z : Nat} {S : SC} {fa ma ea : Nat → Nat} {od : Nat → List Nat} {a b n p f m v d : Nat} {I : Nat → Nat} {σ : ST} {rec : Nat × Nat → Option Nat → Option Nat → Int → Int → ST → Option (Option Unit × ST)} {dp : Int} {sp : Nat → Nat → Nat → TV d → Option (TV d)}
theorem wt_rec (hR : ¬ 8 ≤ dp → WM z S fa ma ea od a b I n d rec (dp + 1) sp) (h8 : 8 ≤ dp → ∀ m p e T, sp m p e T = none) (hdp : 1 ≤ dp ∧ dp ≤ 8) {U : ST} {s va m' : Nat} {T0 : TV d} {Fo : Nat → Prop} {l : Nat × Nat} (hs : sc U s = 13) (h195 : sR U 195 s = some va) (hW : WRd U a b I n l.1) (hH : HSc z U S fa ma ea od) (hV : ¬ 8 ≤ dp → HV S fa ma d U va m' T0 Fo) (hF : ∀ x, Fo x → z ≤ x ∧ x < sZ U ∧ x ≠ a ∧ x ≠ b) (hT : TP d T0 l.1) (hm : m' < S.1) (hl : l.1 ≤ l.2 ∧ l.2 ≤ n) : Rn st2 U (fun bb => (Option.bind (gd (rg dp) (if 8 ≤ dp then (some 0) else (some 1))) fun (v91 : Int) => Option.bind (s_must bb v91 U) (tB (fun z => Sum.inl ((none, z))) fun y96 σ97 => gd (sc σ97 s = 13) (Option.bind (rec bb (some a) (sR σ97 195 s) (l.2 : Int) (dp + 1) σ97) (tB (fun z => Sum.inl ((none, z))) fun y100 σ101 => some (Sum.inr σ101)))) : Option ((Option Unit × ST) ⊕ ST))) (fun y => FR (fun x => x = a ∨ Fo x) U (st2 y) ∧ (match sp m' l.1 l.2 T0 with | some T1 => y = Sum.inr (st2 y) ∧ ∃ F', WRd (st2 y) a b I n l.2 ∧ HV S fa ma d (st2 y) va m' T1 F' ∧ (∀ x, F' x → Fo x ∨ (sZ U ≤ x ∧ x < sZ (st2 y))) ∧ (∀ x, Fo x → F' x) ∧ sS (st2 y) ≤ sS U + 8 * (l.2 - l.1) ∧ sC (st2 y) ≤ sC U + 5 * (l.2 - l.1) | none => y = Sum.inl (none, st2 y) ∧ sS (st2 y) ≤ sS U + (8 * (n - l.1) + 40) ∧ sC (st2 y) ≤ sC U + (5 * (n - l.1) + 40))) := by
  by_cases c8 : 8 ≤ dp
  · refine Rn_eq (fun bb => by rw [gd_pos (by omega), if_pos c8, bind_some']) ?_
    rw [h8 c8]
    refine Rn_must (Or.inl rfl) (fun _ => ⟨rfl, FR.nX _ U, rfl, ?_, ?_⟩) (fun w => by omega)
    · show sS U + 6 ≤ _; omega
    · show sC U + 1 ≤ _; omega
  · refine Rn_eq (fun bb => by rw [gd_pos (by omega), if_neg c8, bind_some']) ?_
    refine Rn_must (Or.inr rfl) (fun w => by omega) (fun _ => ?_)
    refine Rn_eq (fun bb => by rw [gd_pos hs, h195]) ?_
    refine Rn_tB (hR c8 m' l.1 l.2 va T0 Fo U hm hl.1 hl.2 hH hW (hV c8) hF hT) (fun σ' _ hr => ⟨rfl, ?_⟩) (fun y σ' _ hr => ?_)
    · cases es : sp m' l.1 l.2 T0 with
      | none => rw [es] at hr; exact ⟨hr.1, rfl, hr.2.2⟩
      | some T1 => rw [es] at hr; exact absurd hr.2.1 (by simp)
    · cases es : sp m' l.1 l.2 T0 with
      | none => rw [es] at hr; exact absurd hr.2.1 (by simp)
      | some T1 => rw [es] at hr; exact Rn_some (Le.refl _) ⟨hr.1, rfl, hr.2.2⟩
set_option maxHeartbeats 4000000 in
theorem wt_msg (hS : SW S) (hR : ¬ 8 ≤ dp → WM z S fa ma ea od a b I n d rec (dp + 1) sp) (h8 : 8 ≤ dp → ∀ m p e T, sp m p e T = none) (hdp : 1 ≤ dp ∧ dp ≤ 8) (hd1 : ¬ 8 ≤ dp → 1 ≤ d) (hH : HSc z σ S fa ma ea od) (hW : WRd σ a b I n p) (hza : z ≤ a) (hf : f < nF_ S) (hM : isM S f) {T : TV (d + 1)} {F : Nat → Prop} (hV : HV S fa ma (d + 1) σ v m T F) (hF : ∀ x, F x → z ≤ x ∧ x < sZ σ ∧ x ≠ a ∧ x ≠ b) (hT : TP (d + 1) T p) {l : Nat × Nat} (hl : p < l.1 ∧ l.1 ≤ l.2 ∧ l.2 ≤ n) {p0 : Nat} (hp0 : p0 < p) : Rn (fun r : Option Unit × ST => r.2) (nSl (pI σ 177 a (l.1 : Int)) (fa f)) (fun bb => Option.bind (Option.bind (gd (rg (sI (nSl (pI σ 177 a (l.1 : Int)) (fa f)) 135 (fa f))) (if (sI (nSl (pI σ 177 a (l.1 : Int)) (fa f)) 135 (fa f)) = 0 then (Option.bind (some v) fun p117 => gd (sc (nSl (pI σ 177 a (l.1 : Int)) (fa f)) p117 = 11) (Option.bind (vlu_get p117 (some (fa f)) (nSl (pI σ 177 a (l.1 : Int)) (fa f))) fun y120 => some y120)) else (some none))) fun (v73 : Option Nat) => Option.bind (if v73 = none then (gd (rm bb (nSl (pI σ 177 a (l.1 : Int)) (fa f)) 4) (nm (nO (nSl (pI σ 177 a (l.1 : Int)) (fa f)) 11 4) fun σ107 => gd (sc σ107 (fa f) = 9) (Option.bind (vlu_init bb (sZ (nSl (pI σ 177 a (l.1 : Int)) (fa f))) (sR σ107 137 (fa f)) σ107) fun y109 => some ((some (sZ (nSl (pI σ 177 a (l.1 : Int)) (fa f))), y109))))) else (Option.bind v73 fun p110 => gd (sc (nSl (pI σ 177 a (l.1 : Int)) (fa f)) p110 = 13) (some ((sR (nSl (pI σ 177 a (l.1 : Int)) (fa f)) 195 p110, (nSl (pI σ 177 a (l.1 : Int)) (fa f))))))) fun (v82 : Option Nat × ST) => gd (sc v82.2 (sZ σ) = 13) (nm (pR v82.2 195 (sZ σ) v82.1) fun σ87 => (Option.bind (gd (rg dp) (if 8 ≤ dp then (some 0) else (some 1))) fun (v91 : Int) => Option.bind (s_must bb v91 σ87) (tB (fun z => Sum.inl ((none, z))) fun y96 σ97 => gd (sc σ97 (sZ σ) = 13) (Option.bind (rec bb (some a) (sR σ97 195 (sZ σ)) (l.2 : Int) (dp + 1) σ97) (tB (fun z => Sum.inl ((none, z))) fun y100 σ101 => some (Sum.inr σ101)))) : Option ((Option Unit × ST) ⊕ ST)))) (Sum.elim some fun (v21 : ST) => Option.bind (some v) fun p25 => gd (sc v21 p25 = 11) (Option.bind (vlu_put bb p25 (some (sZ σ)) v21) fun y28 => some ((some (), y28))))) (fun r => RK S fa ma a b I n v m d F σ p0 ((sp (qk S f - 16) l.1 l.2 (if qr S f = 1 then emp d else subT f T)).map fun T1 => (put S T (f, 0, [], T1), l.2)) r.1.isSome r.2) := by
  have hz := hH.1
  have hb := hW.2.2.2.2.2.2.2.2.2
  have ha := hW.2.2.2.2.2.2.2.2.1
  have hn := hW.2.2.2.2.2.1
  have hsk := (hS.2.2.2.2.1 f hf).2.2.2.1
  have r01 := (hS.2.2.2.2.1 f hf).2.2.2.2.2.2.1
  have hE := hS.2.2.2.1
  have hm' : qk S f - 16 < S.1 := by omega
  obtain ⟨X0, hX0⟩ : ∃ X0, X0 = pI σ 177 a (l.1 : Int) := ⟨_, rfl⟩
  have hW0 : WRd X0 a b I n l.1 := by rw [hX0]; exact hW.to (by omega)
  have F0 : FR (fun x => x = a) σ X0 := by rw [hX0]; exact FR.at1 (at_pI σ 177 a (l.1 : Int)) rfl
  have zX : sZ X0 = sZ σ := by rw [hX0]; rfl
  have sX : sS X0 = sS σ := by rw [hX0]; rfl
  have cX : sC X0 = sC σ := by rw [hX0]; rfl
  rw [← hX0]
  obtain ⟨y1, y2, y3, y4, y5, y6, y7⟩ := nSl_at X0 (fa f)
  have FY := nSl_fr X0 (fa f)
  obtain ⟨Y, hY⟩ : ∃ Y, Y = nSl X0 (fa f) := ⟨_, rfl⟩
  rw [← hY] at y1 y2 y3 y4 y5 y6 y7 FY ⊢
  rw [zX] at y1 y2 y3 y4 y5
  have FσY : FR (fun x => x = a) σ Y := F0.tr FY (fun x _ q => q.elim)
  have hHY : HSc z Y S fa ma ea od := hH.ge hS FσY (fun x q => by rw [q]; exact hza)
  have hWY : WRd Y a b I n l.1 := hW0.fr FY (fun q => q) (fun q => q)
  have smF : ∀ x, F x → Sm1 σ Y x := fun x w => ⟨(FσY.2 x (hF x w).2.1).2 (fun q => (hF x w).2.2.1 q), (FσY.2 x (hF x w).2.1).1⟩
  have hVY : HV S fa ma (d + 1) Y v m T F := HV_kept (d + 1) v m T F hV (fun x w _ => smF x w) FσY.1.1
  obtain ⟨b1, b2, -, -, -, -, -, -, b9, -, b11, -⟩ := hHY.2.1 f hf
  rw [if_pos hM] at b11
  have hlenT : (t1 T).length < 1000 := by have := hT.1; omega
  have v11 : sc Y v = 11 := hVY.1
  have hFv : F v := hV.2.2.1
  have nFs : ¬ F (sZ σ) := fun w => by have := (hF _ w).2.1; omega
  have hTl : TP (d + 1) T l.1 := hT.mono (by omega)
  -- behind the choice of the message
  have fin : ∀ (V : ST) (va : Nat) (T0 : TV d) (Fo : Nat → Prop), FR (fun _ => False) Y V → sc V (sZ σ) = 13 → sR V 192 (sZ σ) = some (fa f) → (∀ k, k ≠ 192 → sR V k (sZ σ) = none) → sJ V 193 (sZ σ) = 0 → (¬ 8 ≤ dp → HV S fa ma d V va (qk S f - 16) T0 Fo) → (∀ x, Fo x → z ≤ x ∧ x < sZ V ∧ x ≠ a ∧ x ≠ b ∧ x ≠ sZ σ) → TP d T0 l.1 → sS V ≤ sS σ + 9 → sC V ≤ sC σ + 2 → (∀ x, Fo x → F x ∨ sZ σ ≤ x) → (∀ (R : ST) (T1 : TV d) (F' : Nat → Prop), FR (fun x => x = a ∨ Fo x) (pR V 195 (sZ σ) (some va)) R → HSl S fa (HV S fa ma d R) R (sZ σ) (f, 0, [], T1) F' → sR R 196 (sZ σ) = none → (∀ x, F' x → Fo x ∨ (sZ V ≤ x ∧ x < sZ R)) → HSc z R S fa ma ea od → ∃ σ', (∀ bb, vlu_put bb v (some (sZ σ)) R = some σ') ∧ HV S fa ma (d + 1) σ' v m (put S T (f, 0, [], T1)) (fun x => F x ∨ x = sZ σ ∨ F' x) ∧ FR (fun x => F x ∨ x = sZ σ) R σ' ∧ sS σ' = sS R ∧ sC σ' = sC R ∧ sZ σ' = sZ R) → Rn (fun r : Option Unit × ST => r.2) V (fun bb => Option.bind (gd (sc V (sZ σ) = 13) (nm (pR V 195 (sZ σ) (some va)) fun σ87 => (Option.bind (gd (rg dp) (if 8 ≤ dp then (some 0) else (some 1))) fun (v91 : Int) => Option.bind (s_must bb v91 σ87) (tB (fun z => Sum.inl ((none, z))) fun y96 σ97 => gd (sc σ97 (sZ σ) = 13) (Option.bind (rec bb (some a) (sR σ97 195 (sZ σ)) (l.2 : Int) (dp + 1) σ97) (tB (fun z => Sum.inl ((none, z))) fun y100 σ101 => some (Sum.inr σ101)))) : Option ((Option Unit × ST) ⊕ ST)))) (Sum.elim some fun (v21 : ST) => Option.bind (some v) fun p25 => gd (sc v21 p25 = 11) (Option.bind (vlu_put bb p25 (some (sZ σ)) v21) fun y28 => some ((some (), y28))))) (fun r => RK S fa ma a b I n v m d F σ p0 ((sp (qk S f - 16) l.1 l.2 T0).map fun T1 => (put S T (f, 0, [], T1), l.2)) r.1.isSome r.2) := fun V va T0 Fo FV u1 u2 u3 u4 u5 u6 u7 u8 u9 u10 u11 => by
    obtain ⟨U, hU⟩ : ∃ U, U = pR V 195 (sZ σ) (some va) := ⟨_, rfl⟩
    have FU' : FR (fun x => x = sZ σ) V U := by rw [hU]; exact FR.at1 (at_pR V 195 (sZ σ) (some va)) rfl
    have zU : sZ U = sZ V := by rw [hU]; rfl
    have zVY := FV.1.1
    have FYU : FR (fun _ => False) X0 U := ((FY.tr FV (fun x _ q => q)).tr FU' (fun x hx q => by omega))
    have hWU : WRd U a b I n l.1 := hW0.fr FYU (fun q => q) (fun q => q)
    have FσU : FR (fun x => x = a) σ U := F0.tr FYU (fun x _ q => q.elim)
    have hHU : HSc z U S fa ma ea od := hH.ge hS FσU (fun x q => by rw [q]; exact hza)
    have k13 : sc U (sZ σ) = 13 := by rw [hU]; exact u1
    have k195 : sR U 195 (sZ σ) = some va := by rw [hU, sR_pR, if_pos ⟨rfl, rfl⟩]
    have kR : ∀ k, k ≠ 195 → sR U k (sZ σ) = sR V k (sZ σ) := fun k hk => by rw [hU, sR_pR, if_neg (fun q => hk q.1)]
    have kJ : sJ U 193 (sZ σ) = 0 := by rw [hU]; exact u4
    have sU : sS U = sS V := by rw [hU]; rfl
    have cU : sC U = sC V := by rw [hU]; rfl
    have hVU : ¬ 8 ≤ dp → HV S fa ma d U va (qk S f - 16) T0 Fo := fun q => HV_kept d va _ T0 Fo (u5 q) (fun x w lx => ⟨(FU'.2 x lx).2 (u6 x w).2.2.2.2, (FU'.2 x lx).1⟩) FU'.1.1
    refine Rn_eq (fun bb => by rw [gd_pos u1, nm_eq, ← hU]) ?_
    refine Rn_le (σ1 := U) FU'.1 ?_
    refine Rn_bind (su := st2) (wt_rec hR h8 hdp k13 k195 hWU hHU hVU (fun x w => ⟨(u6 x w).1, by rw [zU]; exact (u6 x w).2.1, (u6 x w).2.2.1, (u6 x w).2.2.2.1⟩) u7 hm' ⟨hl.2.1, hl.2.2⟩) (fun y _ hy => ?_)
    have FσR : FR (fun x => x = a ∨ F x) σ (st2 y) := by
      have q1 : FR (fun x => x = a ∨ F x) σ U := ⟨FσU.1, fun x hx => ⟨(FσU.2 x hx).1, fun w => (FσU.2 x hx).2 (fun q => w (Or.inl q))⟩⟩
      exact q1.tr hy.1 (fun x hx w => by
        rcases w with w | w
        · exact Or.inl w
        · rcases u10 x w with q | q
          · exact Or.inr q
          · omega)
    cases es : sp (qk S f - 16) l.1 l.2 T0 with
    | none =>
      rw [es] at hy
      obtain ⟨-, e1, e2, e3⟩ := hy
      rw [e1]
      refine Rn_some (Le.refl _) ⟨?_, rfl, ?_, ?_⟩
      · rw [e1] at FσR; exact FσR
      · rw [e1] at e2; show sS (st2 y) ≤ _; rw [e1]; omega
      · rw [e1] at e3; show sC (st2 y) ≤ _; rw [e1]; omega
    | some T1 =>
      rw [es] at hy
      obtain ⟨hy1, e1, F', hWR, hVR, hF', hFF, e2, e3⟩ := hy
      obtain ⟨R, hRR⟩ : ∃ R, R = st2 y := ⟨_, rfl⟩
      rw [← hRR] at e1 hy1 hWR hVR hF' e2 e3 FσR
      subst e1
      have ns : sZ σ < sZ U := by omega
      have nsF : ¬ Fo (sZ σ) := fun w => (u6 _ w).2.2.2.2 rfl
      have sms : Sm1 U R (sZ σ) := ⟨(hy1.2 _ ns).2 (by
        rintro (w | w)
        · omega
        · exact nsF w), (hy1.2 _ ns).1⟩
      have hHR : HSc z R S fa ma ea od := hHU.ge hS hy1 (fun x q => by
        rcases q with q | q
        · rw [q]; exact hza
        · exact (u6 x q).1)
      have hst : HSl S fa (HV S fa ma d R) R (sZ σ) (f, 0, [], T1) F' := by
        refine ⟨by rw [sms.2]; exact k13, hf, by rw [sms.1.2.2.2.2.2.2.2.2.2, kR 192 (by decide)]; exact u2, ?_⟩
        rw [if_pos hM]
        refine ⟨by rw [sms.1.2.2.2.2.2.2.2.2.1]; exact kJ, by rw [sms.1.2.2.2.2.2.2.2.2.2, kR 194 (by decide)]; exact u3 194 (by decide), rfl, rfl, va, by rw [sms.1.2.2.2.2.2.2.2.2.2]; exact k195, hVR⟩
      rw [hU] at hy1
      obtain ⟨σ', g1, g2, g3, g4, g5, g6⟩ := u11 R T1 F' hy1 hst (by rw [sms.1.2.2.2.2.2.2.2.2.2, kR 196 (by decide)]; exact u3 196 (by decide)) (fun x w => by rw [← zU]; exact hF' x w) hHR
      have vR : sc R v = 11 := by
        rw [(FσR.2 v (hF v hFv).2.1).1]; exact hV.1
      refine Rn_eq (fun bb => by rw [elim_r, bind_some', gd_pos vR, g1 bb, bind_some']) ?_
      refine Rn_some (σ := R) ⟨by rw [g6]; exact Nat.le_refl _, by rw [g5]; exact Nat.le_refl _, by rw [g4]; exact Nat.le_refl _⟩ ⟨?_, rfl, fun x => F x ∨ x = sZ σ ∨ F' x, ?_, g2, ?_, fun x w => Or.inl w, ?_, ?_⟩
      · exact FσR.tr g3 (fun x hx w => by
          rcases w with w | w
          · exact Or.inr w
          · omega)
      · exact hWR.fr g3 (by
          rintro (w | w)
          · exact (hF a w).2.2.1 rfl
          · omega) (by
          rintro (w | w)
          · exact (hF b w).2.2.2 rfl
          · omega)
      · intro x w
        have zz := FσR.1.1
        rcases w with w | w | w
        · exact Or.inl w
        · right; rw [g6, w]
          have := hy1.1.1
          have z3 : sZ (pR V 195 (sZ σ) (some va)) = sZ V := rfl
          omega
        · rcases hF' x w with q | q
          · rcases u10 x q with r | r
            · exact Or.inl r
            · right
              have := (u6 x q).2.1
              have := hy1.1.1
              have z3 : sZ (pR V 195 (sZ σ) (some va)) = sZ V := rfl
              rw [g6]; omega
          · right; rw [g6]; omega
      · show sS σ' ≤ sS σ + 8 * (l.2 - p0); rw [g4]; omega
      · show sC σ' ≤ sC σ + 5 * (l.2 - p0); rw [g5]; omega
  by_cases cm : qr S f = 1 ∨ hdS f (t1 T) = none
  · -- a new message
    have eg : (gd (rg (sI Y 135 (fa f))) (if (sI Y 135 (fa f)) = 0 then (Option.bind (some v) fun p117 => gd (sc Y p117 = 11) (Option.bind (vlu_get p117 (some (fa f)) Y) fun y120 => some y120)) else (some none)) : Option (Option Nat)) = some none := by
      rw [b9, gd_pos (by omega)]
      by_cases cr : qr S f = 0
      · have hn' : hdS f (t1 T) = none := by
          rcases cm with q | q
          · omega
          · exact q
        rw [if_pos cr, bind_some', gd_pos v11, get_none hHY hf hlenT hVY hn', bind_some']
      · rw [if_neg cr]
    have eT : (if qr S f = 1 then emp d else subT f T) = emp d := by
      rcases cm with q | q
      · rw [if_pos q]
      · by_cases cr : qr S f = 1
        · rw [if_pos cr]
        · rw [if_neg cr]; unfold subT; rw [q]
    rw [eT]
    obtain ⟨V, hVd⟩ : ∃ V, V = pR (nO Y 11 4) 160 (sZ Y) (some (ma (qk S f - 16))) := ⟨_, rfl⟩
    have FV : FR (fun _ => False) Y V := by
      rw [hVd]
      exact (FR.nO (fun _ => False) Y 11 4).tr (FR.at1 (W := fun x => x = sZ Y) (at_pR _ 160 (sZ Y) _) rfl) (fun x hx q => by omega)
    have zV : sZ V = sZ Y + 1 := by rw [hVd]; rfl
    have eV : ∀ bb, vlu_init bb (sZ Y) (sR (nO Y 11 4) 137 (fa f)) (nO Y 11 4) = some V := fun bb => by
      unfold vlu_init
      have w : sR (nO Y 11 4) 137 (fa f) = some (ma (qk S f - 16)) := by
        rw [sR_nO_, if_neg (by have := b1; omega)]; exact b11
      rw [gd_pos (by rw [sc_nO_, if_pos rfl]), nm_eq, w, hVd]
    have b2' : sc (nO Y 11 4) (fa f) = 9 := by rw [sc_nO_, if_neg (by omega)]; exact b2
    have sms := (FV.2 (sZ σ) (by omega)).2 (fun q => q)
    refine Rn_eq (fun bb => by rw [eg, bind_some', if_pos rfl]) ?_
    refine Rn_eq (fun bb => by rw [Option.bind_assoc]) ?_
    have e4 : ∀ bb, (gd (rm bb Y 4) (nm (nO Y 11 4) fun σ107 => gd (sc σ107 (fa f) = 9) (Option.bind (vlu_init bb (sZ Y) (sR σ107 137 (fa f)) σ107) fun y109 => some ((some (sZ Y), y109)))) : Option (Option Nat × ST)) = gd (rm bb Y 4) (some (some (sZ Y), V)) := fun bb => by
      rw [nm_eq, gd_pos b2', eV bb, bind_some']
    refine Rn_bind (su := fun y : Option Nat × ST => y.2) (J := fun y => y = (some (sZ Y), V)) (Rn_eq e4 (Rn_rm (σ1 := V) (by rw [hVd]; exact Nat.le_refl _) (by rw [hVd]; exact Nat.le_refl _) (by rw [zV]; exact Nat.le_succ _) (Rn_some (Le.refl _) rfl))) (fun y _ hy => ?_)
    subst hy
    show Rn _ V _ _
    have hmF : ∀ x, (x = sZ Y) → z ≤ x ∧ x < sZ V ∧ x ≠ a ∧ x ≠ b ∧ x ≠ sZ σ := fun x q => by omega
    refine fin V (sZ Y) (emp d) (fun x => x = sZ Y) FV (by rw [(FV.2 (sZ σ) (by omega)).1]; exact y1) (by rw [sms.2.2.2.2.2.2.2.2.2]; exact y2) (fun k hk => by rw [sms.2.2.2.2.2.2.2.2.2]; exact y3 k hk) (by rw [sms.2.2.2.2.2.2.2.2.1]; exact y4) (fun q8 => ?_) hmF (TP_emp d _) (by rw [hVd]; show sS Y + 4 ≤ _; omega) (by rw [hVd]; show sC Y + 1 ≤ _; omega) (fun x q => Or.inr (by omega)) (fun R T1 F' FR' hst h196 hF' hHR => ?_)
    · obtain ⟨d', rfl⟩ : ∃ d', d = d' + 1 := ⟨d - 1, by have := hd1 q8; omega⟩
      refine HV_new ?_ (by omega) rfl ?_ ?_ ?_
      · rw [hVd]; show sc (nO Y 11 4) _ = _; rw [sc_nO_, if_pos rfl]
      · rw [hVd, sR_pR, if_pos ⟨rfl, rfl⟩]
      · rw [hVd, sR_pR, if_neg (by omega), sR_nO_, if_pos rfl]
      · rw [hVd, sR_pR, if_neg (by omega), sR_nO_, if_pos rfl]
    · have z3 : sZ (pR V 195 (sZ σ) (some (sZ Y))) = sZ V := rfl
      have smR : ∀ x, F x → Sm1 σ R x := fun x w => by
        have hx := hF x w
        have q1 := FV.2 x (by omega)
        have q2 := (FR.at1 (W := fun y => y = sZ σ) (at_pR V 195 (sZ σ) (some (sZ Y))) rfl).2 x (by omega)
        have q3 := FR'.2 x (by omega)
        exact ⟨((((smF x w).1.tr (q1.2 (fun q => q))).tr (q2.2 (by omega))).tr (q3.2 (by omega))), by rw [q3.1, q2.1, q1.1]; exact (smF x w).2⟩
      have zR := FR'.1.1
      have hVR : HV S fa ma (d + 1) R v m T F := HV_kept (d + 1) v m T F hV (fun x w _ => smR x w) (by omega)
      exact vlu_put_eq hS hHR (fun x w => (hF x w).1) hVR (by omega) hst h196 nFs (fun x w u => by
        have hx := hF x w
        rcases hF' x u with q | q <;> omega) (fun u => by rcases hF' _ u with q | q <;> omega) hlenT
  · -- the message that is there
    have cr : qr S f = 0 := by
      have : ¬ qr S f = 1 := fun q => cm (Or.inl q)
      omega
    obtain ⟨s0, hs0⟩ : ∃ s0, hdS f (t1 T) = some s0 := by
      cases e : hdS f (t1 T) with
      | none => exact absurd (Or.inr e) cm
      | some s0 => exact ⟨s0, rfl⟩
    obtain ⟨la, lb, G, F2, o, Fo, hX, o1, o2, o3, o4, o5, o6, o7, o8, o9, o10, o11, o12⟩ := HV_x hHY hf hlenT hVY hs0
    have hs1 : s0.1 = f := (drp_head (t1 T) s0 ((drp f (t1 T)).tail) (by
      unfold hdS at hs0
      cases e : drp f (t1 T) with
      | nil => rw [e] at hs0; cases hs0
      | cons x r => rw [e] at hs0; cases hs0; rfl)).1
    have eT : (if qr S f = 1 then emp d else subT f T) = s0.2.2.2 := by rw [if_neg (by omega)]; unfold subT; rw [hs0]
    rw [eT]
    obtain ⟨p1, p2, p3, p4⟩ := o2
    rw [hs1, if_pos hM] at p4
    obtain ⟨q1, q2, q3, q4, va, q5, q6⟩ := p4
    have eg : (gd (rg (sI Y 135 (fa f))) (if (sI Y 135 (fa f)) = 0 then (Option.bind (some v) fun p117 => gd (sc Y p117 = 11) (Option.bind (vlu_get p117 (some (fa f)) Y) fun y120 => some y120)) else (some none)) : Option (Option Nat)) = some (some o) := by
      rw [b9, gd_pos (by omega), if_pos cr, bind_some', gd_pos v11, o12, bind_some']
    refine Rn_eq (fun bb => by rw [eg, bind_some', if_neg (by simp), bind_some', gd_pos p1, q5, bind_some']) ?_
    show Rn _ Y _ _
    have hFo : ∀ x, Fo x → z ≤ x ∧ x < sZ Y ∧ x ≠ a ∧ x ≠ b ∧ x ≠ sZ σ := fun x w => by
      have := hF x (o7 x w)
      omega
    refine fin Y va s0.2.2.2 Fo (FR.refl _ _) y1 y2 y3 y4 (fun _ => q6) hFo ?_ (by omega) (by omega) (fun x w => Or.inl (o7 x w)) (fun R T1 F' FR' hst h196 hF' hHR => ?_)
    · have := subT_TP (f := f) hTl
      unfold subT at this
      rw [hs0] at this
      exact this
    · have z3 : sZ (pR Y 195 (sZ σ) (some va)) = sZ Y := rfl
      have zR := FR'.1.1
      have smR : ∀ x, F x → ¬ Fo x → Sm1 Y R x := fun x w u => by
        have hx := hF x w
        have q2 := (FR.at1 (W := fun y => y = sZ σ) (at_pR Y 195 (sZ σ) (some va)) rfl).2 x (by omega)
        have q3 := FR'.2 x (by omega)
        exact ⟨(q2.2 (by omega)).tr (q3.2 (by
          rintro (e | e)
          · omega
          · exact u e)), by rw [q3.1, q2.1]⟩
      have hXR : HVx S fa ma d R v m f T la lb G F2 := hX.kept (smR v o3 o8) (fun x hx => smR x (o4 x hx) (o9 x hx)) (fun x w _ => smR x (o5 x w) (fun u => o10 x u w)) (fun x w _ => smR x (o6 x w) (fun u => o11 x u w)) (by omega)
      have nF' : ∀ x, F x → ¬ Fo x → ¬ F' x := fun x w u k => by
        have hx := hF x w
        rcases hF' x k with r | r
        · exact u r
        · omega
      have nss : ¬ F' (sZ σ) := fun u => by
        rcases hF' _ u with r | r
        · exact (hFo _ r).2.2.2.2 rfl
        · omega
      obtain ⟨σ', g1, g2, g3, g4⟩ := vlu_put_m (F := fun x => F x ∨ x = sZ σ ∨ F' x) (t := (f, 0, [], T1)) hS hHR hXR (hF v o3).1 (fun x hx => (hF x (o4 x hx)).1) hM (show qr S f ≠ 1 by omega) (by omega) hst (fun q => nFs (by rw [q]; exact o3)) (fun q => nFs (o4 _ q)) (fun q => nFs (o5 _ q)) (fun q => nFs (o6 _ q)) nss (nF' v o3 o8) (fun x hx => nF' x (o4 x hx) (o9 x hx)) (fun x w u => nF' x (o5 x u) (fun k => o10 x k u) w) (fun x w u => nF' x (o6 x u) (fun k => o11 x k u) w) hlenT (Or.inl o3) (fun x w => Or.inl (o5 x w)) (fun x w => Or.inl (o6 x w)) (Or.inr (Or.inl rfl)) (fun x w => Or.inr (Or.inr w)) (fun x hx => Or.inl (o4 x hx))
      exact ⟨σ', g1, g2, ⟨g3.1, fun x hx => ⟨(g3.2 x hx).1, fun w => (g3.2 x hx).2 (by
        rintro (e | e | e)
        · exact w (Or.inl (by rw [e]; exact o3))
        · exact w (Or.inl (o4 x e))
        · exact w (Or.inr e))⟩⟩, g4⟩
end Tm
