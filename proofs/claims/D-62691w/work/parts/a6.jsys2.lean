set_option maxRecDepth 100000
/-! JSON, WRITTEN: rows and messages, as the system writes them -/
section Jz
variable {z : Nat} {S : SC} {fa ma ea : Nat → Nat} {od : Nat → List Nat} {a d f : Nat} {rec : Nat × Nat → Option Nat → Option Nat → ST → Option ST}
theorem cm_cons (b : Bool) (x : List UInt8) (xs : List (List UInt8)) : cm b (x :: xs) = (if b = true then [44] else []) ++ (x ++ cm true xs) := rfl
set_option maxHeartbeats 1000000 in
theorem jw_rL (hS : SW S) (hJ : JWc z S fa ma ea od a d rec) (hf : f < nF_ S) (s1 : Nat) : ∀ (c : Nat) (la : List Nat) (T : List (SV d)) (F : Nat → Prop) (N : Nat) (σ : ST) (b : Bool), T.length ≤ c → c < N → HL S fa (HV S fa ma d σ) σ la T F → chain σ la.head? la → drp f T = T → HSn a z σ S fa ma ea od → RW σ a → a < sZ σ → ¬ F a → (∀ x, F x → x < sZ σ) → (∀ s ∈ T, TZ d s.2.2.2 ∧ s.2.2.1.length ≤ 1000 ∧ TS d s.2.2.2) → (b = false → la.head? = some s1) → (b = true → ¬ F s1) → (sW σ a).length + (cm b ((rws f T).map (slT S (js S od d)))).length ≤ 6000000 → T.length ≤ 1000 → Rn id σ (fun bb => jw_row_L8 bb (rec bb) (some a) (some s1) N la.head? σ) (RA σ a (cm b ((rws f T).map (slT S (js S od d)))))
  | c, la, T, F, 0, σ, b, _, h, _, _, _, _, _, _, _, _, _, _, _, _, _ => by omega
  | c, [], [], F, N + 1, σ, b, h1, h2, h, hc, hd, hH, hR, haz, hFa, hFz, hT, hb1, hb2, hl, hk => by
    refine Rn_eq (fun bb => by rw [jw_row_L8, if_pos (show ([] : List Nat).head? = none from rfl)]) ?_
    refine Rn_some (Le.refl _) ?_
    show RA σ a (cm b []) σ
    cases b <;> exact RA.nil hR
  | c, [], _ :: _, F, N + 1, σ, b, h1, h2, h, hc, hd, hH, hR, haz, hFa, hFz, hT, hb1, hb2, hl, hk => h.elim
  | c, _ :: _, [], F, N + 1, σ, b, h1, h2, h, hc, hd, hH, hR, haz, hFa, hFz, hT, hb1, hb2, hl, hk => h.elim
  | 0, s :: la, t :: T, F, N + 1, σ, b, h1, h2, h, hc, hd, hH, hR, haz, hFa, hFz, hT, hb1, hb2, hl, hk => by simp at h1
  | c + 1, s :: la, t :: T, F, N + 1, σ, b, h1, h2, h, hc, hd, hH, hR, haz, hFa, hFz, hT, hb1, hb2, hl, hk => by
    obtain ⟨tf, er, -⟩ := drp_head (t :: T) t T hd
    obtain ⟨h3, h4, Fn, F2, h5, h6, h7, h8, h9, h10, h11⟩ := h
    obtain ⟨-, hc2⟩ : some s = some s ∧ chain σ (sR σ 196 s) la := hc
    rw [er, List.map_cons, cm_cons, List.length_append, List.length_append] at hl
    rw [er, List.map_cons, cm_cons]
    simp only [List.length_cons] at h1 hk
    have hTt := hT t List.mem_cons_self
    refine Rn_eq (fun bb => by rw [jw_row_L8, if_neg (show ¬ (s :: la).head? = none by simp)]) ?_
    refine Rn_bind (su := id) (J := RA σ a (if b = true then [44] else [])) ?_ (fun σ0 _ g0 => ?_)
    · by_cases cb : b = true
      · rw [if_pos cb]
        refine Rn_eq (fun bb => by rw [if_neg (show ¬ (s :: la).head? = some s1 from fun q => hb2 cb (by rw [← show s = s1 from Option.some.inj q]; exact h3)), bind_some', gd_pos hR.1]) ?_
        exact Rn_bind (rn_add hR (by omega) 44) (fun σ1 _ g => Rn_some (Le.refl _) g)
      · rw [if_neg cb]
        refine Rn_eq (fun bb => by rw [if_pos (hb1 (by cases b; rfl; exact absurd rfl cb))]) ?_
        exact Rn_some (Le.refl _) (RA.nil hR)
    · change RA σ a (if b = true then [44] else []) σ0 at g0
      have hz0 := g0.2.1.1.1
      have hH0 := hH.frA hR.1 g0.2.1
      have hl0 := g0.len
      have hsa : s ≠ a := fun e => hFa (by rw [← e]; exact h3)
      have h50 : HSl S fa (HV S fa ma d σ0) σ0 s t Fn := HSl_kept h5 (Sm1.x ⟨(g0.2.1.2 s h4).2 hsa, (g0.2.1.2 s h4).1⟩) (fun x w lx => ⟨(g0.2.1.2 x lx).2 (fun e => hFa (by rw [← e]; exact h7 x w)), (g0.2.1.2 x lx).1⟩) hz0 (fun va m T u => HV_kept d va m T Fn u (fun x w lx => ⟨(g0.2.1.2 x lx).2 (fun e => hFa (by rw [← e]; exact h7 x w)), (g0.2.1.2 x lx).1⟩) hz0)
      show Rn id σ0 _ _
      refine Rn_bind (jw_slot_eq hS hJ hH0 g0.rw (Nat.lt_of_lt_of_le haz hz0) h50 (Nat.lt_of_lt_of_le h4 hz0) (fun w => hFa (h7 a w)) (fun x w => Nat.lt_of_lt_of_le (hFz x (h7 x w)) hz0) hTt.1 hTt.2 (by omega)) (fun σ1 _ g1 => ?_)
      have g := g0.tr g1
      have hH1 := hH.frA hR.1 g.2.1
      have hl1 := g.len
      rw [List.length_append] at hl1
      have nF2 : ¬ F2 a := fun w => hFa (h8 a w)
      have m2 := (HL_mem la T F2 h6).1
      have s13 : sc σ1 s = 13 := by rw [(g.2.1.2 s h4).1]; exact h5.1
      have e196 : sR σ1 196 s = sR σ 196 s := ((g.2.1.2 s h4).2 hsa).2.2.2.2.2.2.2.2.2 196
      have e192 : sR σ1 192 s = some (fa f) := by rw [((g.2.1.2 s h4).2 hsa).2.2.2.2.2.2.2.2.2 192, ← tf]; exact h5.2.2.1
      have hL1 := h6.fr g.2.1 nF2
      have hc1 := chain_fr hc2 g.2.1 (fun x hx => ⟨fun e => nF2 (by rw [← e]; exact (m2 x hx).1), (m2 x hx).2⟩)
      obtain ⟨la', F', q1, q2, q3, q4⟩ := vlu_of_at hH1.1 hf hL1 hc1 (by omega)
      refine Rn_eq (fun bb => by rw [show (s :: la).head? = some s from rfl, bind_some', gd_pos s13, e192, e196, q1, bind_some']) ?_
      have hdl := drp_len (f := f) T
      have ih := jw_rL hS hJ hf s1 c la' (drp f T) F' N σ1 true (by omega) (by omega) q2 q3 (drp_drp T) hH1 g.rw (Nat.lt_of_lt_of_le haz g.2.1.1.1) (fun w => nF2 (q4 a w)) (fun x w => Nat.lt_of_lt_of_le (hFz x (h8 x (q4 x w))) g.2.1.1.1) (fun x hx => hT x (List.mem_cons_of_mem _ (drp_mem T x hx))) (fun q => by cases q) (fun _ w => by
        by_cases cb : b = true
        · exact hb2 cb (h8 s1 (q4 s1 w))
        · have e := hb1 (by cases b; rfl; exact absurd rfl cb)
          rw [← show s = s1 from Option.some.inj e] at w
          exact h10 (q4 s w)) (by rw [rws_drp]; omega) (by omega)
      rw [rws_drp] at ih
      refine ih.mono (fun σ2 _ g2 => ?_)
      have := g.tr g2
      rw [List.append_assoc] at this
      exact this
theorem jw_row_eq (hS : SW S) (hJ : JWc z S fa ma ea od a d rec) (hf : f < nF_ S) {σ : ST} {s : Nat} {la : List Nat} {t : SV d} {T : List (SV d)} {F : Nat → Prop} (h : HL S fa (HV S fa ma d σ) σ (s :: la) (t :: T) F) (hc : chain σ (some s) (s :: la)) (hd : drp f (t :: T) = t :: T) (hH : HSn a z σ S fa ma ea od) (hR : RW σ a) (haz : a < sZ σ) (hFa : ¬ F a) (hFz : ∀ x, F x → x < sZ σ) (hT : ∀ s ∈ t :: T, TZ d s.2.2.2 ∧ s.2.2.1.length ≤ 1000 ∧ TS d s.2.2.2) (hk : (t :: T).length ≤ 1000) (hl : (sW σ a).length + (cm false ((rws f (t :: T)).map (slT S (js S od d)))).length + 2 ≤ 6000000) : Rn id σ (fun bb => jw_row bb (rec bb) (some a) (some s) σ) (RA σ a (91 :: (cm false ((rws f (t :: T)).map (slT S (js S od d))) ++ [93]))) := by
  unfold jw_row
  refine Rn_eq (fun bb => by rw [bind_some', gd_pos hR.1]) ?_
  refine Rn_bind (rn_add hR (by omega) 91) (fun σ1 _ g => ?_)
  have hl1 := g.len
  simp only [List.length_cons, List.length_nil] at hl1
  have hz1 := g.2.1.1.1
  have m1 := (HL_mem _ _ F h).1
  have hL1 := h.fr g.2.1 hFa
  have hc1 := chain_fr hc g.2.1 (fun x hx => ⟨fun e => hFa (by rw [← e]; exact (m1 x hx).1), (m1 x hx).2⟩)
  refine Rn_bind (jw_rL hS hJ hf s (t :: T).length (s :: la) (t :: T) F FU σ1 false (Nat.le_refl _) (FU_gt (by omega)) hL1 hc1 hd (hH.frA hR.1 g.2.1) g.rw (Nat.lt_of_lt_of_le haz hz1) hFa (fun x w => Nat.lt_of_lt_of_le (hFz x w) hz1) hT (fun _ => rfl) (fun q => by cases q) (by show (sW σ1 a).length + _ ≤ _; omega) hk) (fun σ2 _ g2 => ?_)
  have g3 := g.tr g2
  have hl2 := g3.len
  rw [List.length_append] at hl2
  simp only [List.length_cons, List.length_nil] at hl2
  refine Rn_gd g3.rw.1 ?_
  refine Rn_bind (rn_add g3.rw (by show (sW σ2 a).length < _; omega) 93) (fun σ3 _ g4 => Rn_some (Le.refl _) ?_)
  have := g3.tr g4
  exact this
variable {va m oa : Nat} {T : TV (d + 1)} {F : Nat → Prop}
set_option maxHeartbeats 4000000 in
theorem jw_wL (hS : SW S) (hJ : JWc z S fa ma ea od a d rec) (hm : m < S.1) (hTZ : TZ (d + 1) T) (hTS : TS (d + 1) T) : ∀ (c k N : Nat) (σ : ST) (b : Bool), k + c = (od m).length → c < N → HSn a z σ S fa ma ea od → sR σ 103 (ma m) = some oa → HV S fa ma (d + 1) σ va m T F → RW σ a → a < sZ σ → (∀ x, F x → x < sZ σ ∧ x ≠ a) → (sW σ a).length + (cm b (((od m).drop k).filterMap (mbT2 S (js S od d) T))).length ≤ 6000000 → Rn id σ (fun bb => jw_write_L23 bb (rec bb) (some a) (some va) (some oa) ((od m).length : Int) N (if b = true then 1 else 0) (k : Int) σ) (RA σ a (cm b (((od m).drop k).filterMap (mbT2 S (js S od d) T))))
  | c, k, 0, σ, b, _, h, _, _, _, _, _, _, _ => by omega
  | 0, k, N + 1, σ, b, h1, h2, hH, hoa, hV, hR, haz, hFz, hl => by
    have h50 := (hH.1.2.2.2.1 m hm).2.2.2.2.1
    rw [List.drop_eq_nil_of_le (by omega)]
    refine Rn_eq (fun bb => by rw [jw_write_L23, gd_pos (by omega), gd_pos (by omega), if_pos (by omega)]) ?_
    refine Rn_some (Le.refl _) ?_
    show RA σ a (cm b []) σ
    cases b <;> exact RA.nil hR
  | c + 1, k, N + 1, σ, b, h1, h2, hH, hoa, hV, hR, haz, hFz, hl => by
    obtain ⟨m1, m2, m3, ⟨oa', o1, o2, o3, o4, o5⟩, h50, o6, o7⟩ := hH.1.2.2.2.1 m hm
    rw [hoa] at o1
    cases o1
    have hz := hH.1.1
    have hk : k < (od m).length := by omega
    have ed : (od m).drop k = (od m).getD k 0 :: (od m).drop (k + 1) := by
      rw [List.drop_eq_getElem_cons hk, List.getD_eq_getElem?_getD, List.getElem?_eq_getElem hk]; rfl
    obtain ⟨f, hfe⟩ : ∃ f, f = (od m).getD k 0 := ⟨_, rfl⟩
    rw [← hfe] at ed
    have hf := ((o6 f).mp (by rw [hfe]; exact getD_mem hk)).1
    obtain ⟨k1, k2, k3, k4, k5, k6, k7, k8, k9, k10, -⟩ := hH.1.2.1 f hf
    have hr := (hS.2.2.2.2.1 f hf).2.2.2.2.2.2.1
    have hqw := (hS.2.2.2.2.1 f hf).2.2.2.2.2.2.2.2.1
    have hjl : (jsn (qw S f)).length ≤ 24 := Nat.le_trans (jsL_len _ _) hqw
    have hma : ma m ≠ a := fun e => by rw [e, hR.1] at m2; cases m2
    rw [ed] at hl ⊢
    obtain ⟨h1', h2', h3', h4', la, lb, F1, F2, c1, c2, c3, c4, c5, c6, c7, c8, c9, c10⟩ := hV
    have hV : HV S fa ma (d + 1) σ va m T F := ⟨h1', h2', h3', h4', la, lb, F1, F2, c1, c2, c3, c4, c5, c6, c7, c8, c9, c10⟩
    obtain ⟨z1, z2, z3, z4⟩ := hTZ
    obtain ⟨t3, t4⟩ := hTS
    -- the rest
    have rest : ∀ (σ1 : ST) (u : List UInt8) (b1 : Bool), RA σ a u σ1 → (sW σ a).length + u.length + (cm b1 (((od m).drop (k + 1)).filterMap (mbT2 S (js S od d) T))).length ≤ 6000000 → Rn id σ1 (fun bb => jw_write_L23 bb (rec bb) (some a) (some va) (some oa) ((od m).length : Int) N (if b1 = true then 1 else 0) ((k : Int) + 1) σ1) (RA σ a (u ++ cm b1 (((od m).drop (k + 1)).filterMap (mbT2 S (js S od d) T)))) := fun σ1 u b1 g hl' => by
      have hl1 := g.len
      rw [show (k : Int) + 1 = ((k + 1 : Nat) : Int) by omega]
      refine (jw_wL hS hJ hm ⟨z1, z2, z3, z4⟩ ⟨t3, t4⟩ c (k + 1) N σ1 b1 (by omega) (by omega) (hH.frA hR.1 g.2.1) (by rw [((g.2.1.2 _ (by omega)).2 hma).2.2.2.2.2.2.2.2.2 103]; exact hoa) (HV_kept _ va m T F hV (fun x w l => ⟨(g.2.1.2 x l).2 (hFz x w).2, (g.2.1.2 x l).1⟩) g.2.1.1.1) g.rw (Nat.lt_of_lt_of_le haz g.2.1.1.1) (fun x w => ⟨Nat.lt_of_lt_of_le (hFz x w).1 g.2.1.1.1, (hFz x w).2⟩) (by omega)).mono (fun σ2 _ g2 => ?_)
      exact g.tr g2
    -- a field's values and what is written of them
    have key : ∃ v49 : Option Nat, (gd (rg (sI σ 135 (fa f))) (if (sI σ 135 (fa f)) = 0 then (Option.bind (some va) fun p94 => gd (sc σ p94 = 11) (Option.bind (vlu_get p94 (some (fa f)) σ) fun y97 => some y97)) else (Option.bind (some va) fun p98 => gd (sc σ p98 = 11) (Option.bind (vlu_of (some (fa f)) (sR σ 162 p98) σ) fun y101 => some y101))) : Option (Option Nat)) = some v49 ∧ (match fldT S (js S od d) T f with | none => v49 = none | some tx => v49 ≠ none ∧ ∀ (σ1 : ST) (u : List UInt8), RA σ a u σ1 → (sW σ a).length + u.length + tx.length ≤ 6000000 → Rn (fun y : Int × ST => y.2) σ1 (fun bb => gd (rg (sI σ1 135 (fa f))) (if (sI σ1 135 (fa f)) = 0 then (Option.bind (jw_slot bb (rec bb) (some a) v49 σ1) fun y76 => some ((1, y76))) else (Option.bind (jw_row bb (rec bb) (some a) v49 σ1) fun y77 => some ((1, y77))))) (fun y => y.1 = 1 ∧ RA σ a (u ++ tx) y.2)) := by
      have nFa : ¬ F a := fun w => (hFz a w).2 rfl
      rw [k9, gd_pos (by omega)]
      unfold fldT
      rcases hr with hr | hr
      · have hn1 : ¬ qr S f = 1 := by omega
        obtain ⟨la', F', q1, q2, q3, q4⟩ := of_L hH.1 hf la (t1 T) F1 FU (sR σ 161 va) c4 c1 (by rw [HL_len la _ F1 c4]; exact FU_gt (by omega))
        have eg : vlu_get va (some (fa f)) σ = some la'.head? := by
          unfold vlu_get
          rw [gd_pos h1', nm_eq, get_of, q1]
        refine ⟨la'.head?, by rw [if_pos hr, bind_some', gd_pos h1', eg]; rfl, ?_⟩
        rw [if_neg hn1]
        unfold hdS
        cases ed2 : drp f (t1 T) with
        | nil =>
          rw [ed2] at q2
          have := HL_nil q2
          subst this
          rfl
        | cons t T2 =>
          have hdh := drp_head (t1 T) t T2 ed2
          have tmem : t ∈ t1 T := drp_mem _ _ (by rw [ed2]; exact List.mem_cons_self)
          rw [ed2] at q2
          obtain ⟨s, la2, e⟩ := HL_cons q2
          subst e
          obtain ⟨g1, g2, Fn, F3, g3, g4, g5, g6, g7, g8, g9⟩ := q2
          show (s :: la2).head? ≠ none ∧ ∀ (σ1 : ST) (u : List UInt8), RA σ a u σ1 → (sW σ a).length + u.length + (slT S (js S od d) t).length ≤ 6000000 → _
          refine ⟨by simp, fun σ1 u g hl' => ?_⟩
          have hsF : F s := c6 s (q4 s g1)
          have hFn : ∀ x, Fn x → F x := fun x w => c6 x (q4 x (g5 x w))
          have hz1 := g.2.1.1.1
          have hH1 := hH.frA hR.1 g.2.1
          have e135 : sI σ1 135 (fa f) = 0 := by rw [(hH1.1.2.1 f hf).2.2.2.2.2.2.2.2.1]; exact hr
          have g31 : HSl S fa (HV S fa ma d σ1) σ1 s t Fn := HSl_kept g3 (Sm1.x ⟨(g.2.1.2 s g2).2 (hFz s hsF).2, (g.2.1.2 s g2).1⟩) (fun x w lx => ⟨(g.2.1.2 x lx).2 (hFz x (hFn x w)).2, (g.2.1.2 x lx).1⟩) hz1 (fun va m T u => HV_kept d va m T Fn u (fun x w lx => ⟨(g.2.1.2 x lx).2 (hFz x (hFn x w)).2, (g.2.1.2 x lx).1⟩) hz1)
          have hl1 := g.len
          refine Rn_eq (fun bb => by rw [e135, gd_pos (by omega), if_pos rfl, show (s :: la2).head? = some s from rfl]) ?_
          refine Rn_bind (jw_slot_eq hS hJ hH1 g.rw (Nat.lt_of_lt_of_le haz hz1) g31 (Nat.lt_of_lt_of_le g2 hz1) (fun w => nFa (hFn a w)) (fun x w => Nat.lt_of_lt_of_le (hFz x (hFn x w)).1 hz1) (z3 t tmem) (t3 t tmem) (by omega)) (fun σ2 _ gg => Rn_some (Le.refl _) ⟨rfl, g.tr gg⟩)
      · obtain ⟨lb', F', q1, q2, q3, q4⟩ := vlu_of_at hH.1 hf c5 c2 z2
        refine ⟨lb'.head?, by rw [if_neg (by omega), bind_some', gd_pos h1', q1]; rfl, ?_⟩
        rw [if_pos hr]
        cases ed2 : drp f (t2 T) with
        | nil =>
          rw [ed2] at q2
          have := HL_nil q2
          subst this
          rw [if_pos (drp_nil _ ed2)]
          rfl
        | cons t T2 =>
          have hdh := drp_head (t2 T) t T2 ed2
          have hrw : rws f (t :: T2) = rws f (t2 T) := by rw [← ed2, rws_drp]
          have hne : ¬ rws f (t2 T) = [] := by rw [hdh.2.1]; simp
          rw [if_neg hne]
          rw [ed2] at q2
          obtain ⟨s, la2, e⟩ := HL_cons q2
          subst e
          show (s :: la2).head? ≠ none ∧ ∀ (σ1 : ST) (u : List UInt8), RA σ a u σ1 → (sW σ a).length + u.length + (91 :: (cm false ((rws f (t2 T)).map (slT S (js S od d))) ++ [93])).length ≤ 6000000 → _
          refine ⟨by simp, fun σ1 u g hl' => ?_⟩
          rw [List.length_cons, List.length_append] at hl'
          simp only [List.length_cons, List.length_nil] at hl'
          have hz1 := g.2.1.1.1
          have hH1 := hH.frA hR.1 g.2.1
          have e135 : sI σ1 135 (fa f) = 1 := by rw [(hH1.1.2.1 f hf).2.2.2.2.2.2.2.2.1]; exact hr
          have hFF : ∀ x, F' x → F x := fun x w => c7 x (q4 x w)
          have nF' : ¬ F' a := fun w => nFa (hFF a w)
          have mm := (HL_mem _ _ F' q2).1
          have hL1 := q2.fr g.2.1 nF'
          have hc1 : chain σ1 (some s) (s :: la2) := chain_fr q3 g.2.1 (fun x hx => ⟨fun e => nF' (by rw [← e]; exact (mm x hx).1), (mm x hx).2⟩)
          have hl1 := g.len
          have hsub : ∀ x ∈ t :: T2, x ∈ t2 T := fun x hx => drp_mem _ _ (by rw [ed2]; exact hx)
          have hdl := drp_len (f := f) (t2 T)
          rw [ed2] at hdl
          refine Rn_eq (fun bb => by rw [e135, gd_pos (by omega), if_neg (by omega), show (s :: la2).head? = some s from rfl]) ?_
          refine Rn_bind (jw_row_eq hS hJ hf hL1 hc1 (by rw [← ed2]; exact drp_drp _) hH1 g.rw (Nat.lt_of_lt_of_le haz hz1) nF' (fun x w => Nat.lt_of_lt_of_le (hFz x (hFF x w)).1 hz1) (fun x hx => ⟨z4 x (hsub x hx), t4 x (hsub x hx)⟩) (by omega) (by rw [hrw]; omega)) (fun σ2 _ gg => Rn_some (Le.refl _) ⟨rfl, ?_⟩)
          rw [hrw] at gg
          exact g.tr gg
    obtain ⟨v49, e49, p49⟩ := key
    refine Rn_eq (fun bb => by rw [jw_write_L23, gd_pos (by omega), gd_pos (by omega), if_neg (by omega), bind_some', gd_pos o3, o4, gd_pos (by omega), nm_eq, Int.toNat_natCast, o5 k hk, ← hfe, bind_some', gd_pos k2, e49, bind_some']) ?_
    cases eT : fldT S (js S od d) T f with
    | none =>
      rw [eT] at p49
      have em : mbT2 S (js S od d) T f = none := by unfold mbT2; rw [eT]; rfl
      rw [List.filterMap_cons_none em] at hl ⊢
      rw [p49]
      refine Rn_eq (fun bb => by rw [if_pos rfl, bind_some']) ?_
      exact rest σ [] b (RA.nil hR) (by simp only [List.length_nil]; omega)
    | some tx =>
      rw [eT] at p49
      obtain ⟨hne, p49⟩ := p49
      have em : mbT2 S (js S od d) T f = some (escT (jsn (qw S f)) ++ (58 :: tx)) := by unfold mbT2; rw [eT]; rfl
      rw [List.filterMap_cons_some em, cm_cons, List.length_append, List.length_append, List.length_append, List.length_cons] at hl
      rw [List.filterMap_cons_some em, cm_cons]
      refine Rn_eq (fun bb => by rw [if_neg hne]) ?_
      refine Rn_bind (su := fun y : Int × ST => y.2) (J := fun y => y.1 = 1 ∧ RA σ a ((if b = true then [44] else []) ++ (escT (jsn (qw S f)) ++ (58 :: tx))) y.2) ?_ (fun y _ hy => ?_)
      · refine Rn_bind (su := id) (J := RA σ a (if b = true then [44] else [])) ?_ (fun σ0 _ g0 => ?_)
        · by_cases cb : b = true
          · rw [if_pos cb, if_pos cb]
            refine Rn_eq (fun bb => by rw [gd_pos (by omega), if_neg (by omega), bind_some', gd_pos hR.1]) ?_
            exact Rn_bind (rn_add hR (by omega) 44) (fun σ1 _ g => Rn_some (Le.refl _) g)
          · rw [if_neg cb, if_neg cb]
            refine Rn_eq (fun bb => by rw [gd_pos (by omega), if_pos rfl]) ?_
            exact Rn_some (Le.refl _) (RA.nil hR)
        · change RA σ a (if b = true then [44] else []) σ0 at g0
          have hz0 := g0.2.1.1.1
          have hH0 := hH.frA hR.1 g0.2.1
          have hl0 := g0.len
          obtain ⟨kk1, kk2, -, -, ⟨jr, j1, j2, j3, j4⟩, -⟩ := hH0.1.2.1 f hf
          show Rn (fun y : Int × ST => y.2) σ0 _ _
          refine Rn_eq (fun bb => by rw [gd_pos kk2, j1]) ?_
          refine Rn_bind (rn_text (b := jr) (by omega) (fun e => (hH0.2.1 f hf).2 (by rw [j1, e])) (by have := hH0.1.1; omega) j3 j4 g0.rw (by omega)) (fun σ1 _ g1 => ?_)
          have g01 := g0.tr g1
          have hl1 := g01.len
          rw [List.length_append] at hl1
          refine Rn_eq (fun bb => by rw [bind_some', gd_pos g01.rw.1]) ?_
          refine Rn_bind (rn_add g01.rw (by show (sW σ1 a).length < _; omega) 58) (fun σ2 _ g2 => ?_)
          have g02 := g01.tr g2
          have hH2 := hH.frA hR.1 g02.2.1
          refine Rn_gd (hH2.1.2.1 f hf).2.1 ?_
          refine (p49 σ2 _ g02 (by simp only [List.length_append, List.length_cons, List.length_nil]; omega)).mono (fun y _ hy => ⟨hy.1, ?_⟩)
          have := hy.2
          simp only [List.append_assoc] at this
          exact this
      · obtain ⟨y1, σ1⟩ := y
        obtain ⟨e1, g⟩ := hy
        change y1 = 1 at e1
        subst e1
        change RA σ a _ σ1 at g
        have q := rest σ1 _ true g (by simp only [List.length_append, List.length_cons]; omega)
        rw [if_pos rfl] at q
        refine q.mono (fun σ2 _ g2 => ?_)
        simp only [List.append_assoc] at g2
        simp only [List.append_assoc]
        exact g2
theorem jw_writeb_eq (hS : SW S) (hJ : JWc z S fa ma ea od a d rec) : JWc z S fa ma ea od a (d + 1) (fun bb => jw_writeb bb (rec bb)) := by
  intro σ va m T F hH hV hR haz hFa hFz hm hTZ hTS hl
  obtain ⟨m1, m2, m3, ⟨oa, o1, o2, o3, o4, o5⟩, h50, o6, o7⟩ := hH.1.2.2.2.1 m hm
  have hz := hH.1.1
  have ejs : js S od (d + 1) m T = 123 :: (cm false (((od m).drop 0).filterMap (mbT2 S (js S od d) T)) ++ [125]) := rfl
  rw [ejs, List.length_cons, List.length_append] at hl
  rw [ejs]
  simp only [List.length_cons, List.length_nil] at hl
  show Rn id σ (fun bb => jw_writeb bb (rec bb) (some a) (some va) σ) _
  unfold jw_writeb
  refine Rn_eq (fun bb => by rw [bind_some', gd_pos hR.1]) ?_
  refine Rn_bind (rn_add hR (by omega) 123) (fun σ1 _ g => ?_)
  have hl1 := g.len
  simp only [List.length_cons, List.length_nil] at hl1
  have hz1 := g.2.1.1.1
  have hH1 := hH.frA hR.1 g.2.1
  have hne : ∀ x, F x → x < sZ σ ∧ x ≠ a := fun x w => ⟨hFz x w, fun e => hFa (by rw [← e]; exact w)⟩
  have hV1 : HV S fa ma (d + 1) σ1 va m T F := HV_kept _ va m T F hV (fun x w l => ⟨(g.2.1.2 x l).2 (hne x w).2, (g.2.1.2 x l).1⟩) hz1
  obtain ⟨m1', m2', m3', ⟨oa1, o1', o2', o3', o4', o5'⟩, -⟩ := hH1.1.2.2.2.1 m hm
  have r160 : sR σ1 160 va = some (ma m) := hV1.2.2.2.1
  refine Rn_eq (fun bb => by rw [bind_some', gd_pos hV1.1, r160, bind_some', gd_pos m2', nm_eq, o1', bind_some', gd_pos o3', nm_eq, o4']) ?_
  have q := jw_wL (oa := oa1) (va := va) (F := F) hS hJ hm hTZ hTS (od m).length 0 FU σ1 false (by omega) (FU_gt (by omega)) hH1 o1' hV1 g.rw (Nat.lt_of_lt_of_le haz hz1) (fun x w => ⟨Nat.lt_of_lt_of_le (hne x w).1 hz1, (hne x w).2⟩) (by show (sW σ1 a).length + _ ≤ _; omega)
  rw [if_neg (by decide)] at q
  refine Rn_bind q (fun σ2 _ g2 => ?_)
  have g3 := g.tr g2
  have hl2 := g3.len
  rw [List.length_append] at hl2
  simp only [List.length_cons, List.length_nil] at hl2
  refine Rn_gd g3.rw.1 ?_
  refine Rn_bind (rn_add g3.rw (by show (sW σ2 a).length < _; omega) 125) (fun σ3 _ g4 => Rn_some (Le.refl _) ?_)
  have := g3.tr g4
  exact this
theorem jw_write_eq (hS : SW S) : ∀ (d N : Nat), d ≤ N → JWc z S fa ma ea od a d (fun bb => jw_write bb N)
  | 0, N, _ => fun σ va m T F hH hV => hV.elim
  | d + 1, 0, h => by omega
  | d + 1, N + 1, h => jw_writeb_eq hS (rec := fun bb => jw_write bb N) (jw_write_eq hS d N (by omega))
end Jz
