set_option maxRecDepth 100000
/-! WIRE: messages, as the system writes them, all depths -/
section Wmg
variable {z : Nat} {S : SC} {fa ma ea : Nat → Nat} {od : Nat → List Nat} {a d : Nat} {rec : Nat × Nat → Option Nat → ST → Option (Option Nat × ST)} {va m oa : Nat} {T : TV (d + 1)} {F : Nat → Prop}
theorem head_none {l : List Nat} : l.head? = none ↔ l = [] := by cases l <;> simp
theorem HL_nil {σ : ST} {hv : Nat → Nat → TV d → (Nat → Prop) → Prop} {la : List Nat} {F : Nat → Prop} (h : HL S fa hv σ la [] F) : la = [] := by cases la with | nil => rfl | cons => exact h.elim
theorem HL_cons {σ : ST} {hv : Nat → Nat → TV d → (Nat → Prop) → Prop} {la : List Nat} {t : SV d} {T : List (SV d)} {F : Nat → Prop} (h : HL S fa hv σ la (t :: T) F) : ∃ s la2, la = s :: la2 := by cases la with | nil => exact h.elim | cons s la2 => exact ⟨s, la2, rfl⟩
/-- one field of a message -/
def wfld (bb : Nat × Nat) (rec : Option Nat → ST → Option (Option Nat × ST)) (u0 : Option Nat) (u1 : Nat) (u2 : Option Nat) (u3 w4 : Int) (x26 : Option Nat) (p27 : Nat) (v41 : Option Nat) (σ : ST) : Option ST := if v41 = none then (some σ) else (gd (rg (sI σ 135 p27)) (gd (¬ ((sI σ 135 p27) = 0) → ok (fd_isPlain p27 σ)) (gd (¬ ((sI σ 135 p27) = 0) → rg (vv (fd_isPlain p27 σ))) (if ((sI σ 135 p27) = 0) ∨ ((vv (fd_isPlain p27 σ)) = 0) then (ww_write_L86 bb rec u0 u1 u2 u3 w4 x26 FU v41 σ) else (gd (rm bb σ 2) (nm (nW σ) fun σ87 => Option.bind (ww_write_L133 bb rec u0 u1 u2 u3 w4 x26 (sZ σ) FU v41 σ87) fun (v88 : ST) => Option.bind (ww_tag bb (some u1) x26 2 v88) fun y92 => Option.bind (ww_part bb (some u1) (some (sZ σ)) y92) fun y93 => some y93))))))
theorem L22_step (bb : Nat × Nat) (rec : Option Nat → ST → Option (Option Nat × ST)) (u0 : Option Nat) (u1 : Nat) (u2 : Option Nat) (u3 : Int) (N : Nat) (w4 : Int) (σ : ST) : ww_write_L22 bb rec u0 u1 u2 u3 (N + 1) w4 σ = gd (rg w4) (gd (rg u3) (if u3 ≤ w4 then (some ((some u1, σ))) else (Option.bind u2 fun p22 => gd (sc σ p22 = 103) (gd (ib w4 (sN σ p22)) (nm (sF σ p22 w4.toNat) fun x26 => Option.bind x26 fun p27 => gd (sc σ p27 = 9) (Option.bind (gd (rg (sI σ 135 p27)) (if (sI σ 135 p27) = 0 then (Option.bind u0 fun p118 => gd (sc σ p118 = 11) (Option.bind (vlu_get p118 x26 σ) fun y121 => some y121)) else (Option.bind u0 fun p122 => gd (sc σ p122 = 11) (Option.bind (vlu_of x26 (sR σ 162 p122) σ) fun y125 => some y125)))) fun (v41 : Option Nat) => Option.bind (wfld bb rec u0 u1 u2 u3 w4 x26 p27 v41 σ) fun (v48 : ST) => ww_write_L22 bb rec u0 u1 u2 u3 N (w4 + 1) v48)))))) := by
  rw [ww_write_L22]; rfl
set_option maxHeartbeats 1000000 in
theorem wfld_eq (hS : SW S) (hW : WS z S fa ma ea od d rec) (hza : z ≤ a) (u2 : Option Nat) (u3 w4 : Int) {f : Nat} (hf : f < nF_ S) {σ : ST} (hH : HSc z σ S fa ma ea od) (hV : HV S fa ma (d + 1) σ va m T F) (hR : RW σ a) (haz : a < sZ σ) (hFz : ∀ x, F x → x < sZ σ ∧ x ≠ a) (hTZ : TZ (d + 1) T) (hl : (sW σ a).length + (encF S (enc S od d) T f).length ≤ 4000) : ∃ v41, (if (sI σ 135 (fa f)) = 0 then (Option.bind (some va) fun p118 => gd (sc σ p118 = 11) (Option.bind (vlu_get p118 (some (fa f)) σ) fun y121 => some y121)) else (Option.bind (some va) fun p122 => gd (sc σ p122 = 11) (Option.bind (vlu_of (some (fa f)) (sR σ 162 p122) σ) fun y125 => some y125))) = some v41 ∧ Rn id σ (fun bb => wfld bb (rec bb) (some va) a u2 u3 w4 (some (fa f)) (fa f) v41 σ) (WA σ a (encF S (enc S od d) T f) (fC rwS S (wc rwS S od d) T f) (fC rwC S (wc rwC S od d) T f)) := by
  obtain ⟨h1, h2, h3, h4, la, lb, F1, F2, c1, c2, c3, c4, c5, c6, c7, c8, c9, c10⟩ := hV
  obtain ⟨z1, z2, z3, z4⟩ := hTZ
  obtain ⟨k1, k2, k3, k4, k5, k6, k7, k8, k9, k10, -⟩ := hH.2.1 f hf
  have hr := (hS.2.2.2.2.1 f hf).2.2.2.2.2.2.1
  have hpl := fd_plain_eq hS hH hf
  unfold wfld
  rcases hr with hr | hr
  · have e135 : sI σ 135 (fa f) = 0 := by rw [k9, hr]
    obtain ⟨la', F', q1, q2, q3, q4⟩ := of_L hH hf la (t1 T) F1 FU (sR σ 161 va) c4 c1 (by rw [HL_len la _ F1 c4]; exact FU_gt (by omega))
    have eg : vlu_get va (some (fa f)) σ = some la'.head? := by
      unfold vlu_get
      rw [gd_pos h1, nm_eq, get_of, q1]
    refine ⟨la'.head?, by rw [if_pos e135, bind_some', gd_pos h1, eg]; rfl, ?_⟩
    have hn1 : ¬ qr S f = 1 := by omega
    cases ed : drp f (t1 T) with
    | nil =>
      rw [ed] at q2
      have := HL_nil q2
      subst this
      have eE : encF S (enc S od d) T f = [] := by unfold encF; rw [if_neg hn1, ed]
      have eC : ∀ r cn, fC r S cn T f = 0 := fun r cn => by unfold fC; rw [if_neg hn1, ed]
      rw [eE, eC, eC]
      exact Rn_eq (fun bb => by rw [if_pos (show ([] : List Nat).head? = none from rfl)]) (Rn_some (Le.refl _) (WA.nil hR))
    | cons t T2 =>
      rw [ed] at q2
      obtain ⟨s, la2, e⟩ := HL_cons q2
      subst e
      obtain ⟨p3, p4, Fn, Fr, p5, p6, p7, p8, p9, p10, p11⟩ := q2
      have eE : encF S (enc S od d) T f = slE S (enc S od d) t := by unfold encF; rw [if_neg hn1, ed]
      have eC : ∀ r cn, fC r S cn T f = slC S cn t := fun r cn => by unfold fC; rw [if_neg hn1, ed]
      rw [eE] at hl
      rw [eE, eC, eC]
      have ht : t ∈ t1 T := drp_mem (f := f) _ t (by rw [ed]; exact List.mem_cons_self)
      refine Rn_eq (fun bb => by rw [if_neg (show ¬ (s :: la2).head? = none by simp), e135, gd_pos (by omega), gd_pos (by exact fun w => absurd rfl w), gd_pos (by exact fun w => absurd rfl w), if_pos (Or.inl rfl), show (s :: la2).head? = some s from rfl]) ?_
      exact w86s hS hW hf hr (some va) u2 u3 w4 hza p5 p4 (fun w => (hFz a (c6 a (q4 a (p7 a w)))).2 rfl) (fun x w => (hFz x (c6 x (q4 x (p7 x w)))).1) hH hR haz (z3 t ht) hl
  · have e135 : sI σ 135 (fa f) = 1 := by rw [k9, hr]
    obtain ⟨la', F', q1, q2, q3, q4⟩ := vlu_of_at (f := f) hH hf c5 c2 z2
    refine ⟨la'.head?, by rw [if_neg (by omega), bind_some', gd_pos h1, q1]; rfl, ?_⟩
    have hdl := drp_len (f := f) (t2 T)
    cases ed : drp f (t2 T) with
    | nil =>
      rw [ed] at q2
      have := HL_nil q2
      subst this
      have er := drp_nil _ ed
      have eE : encF S (enc S od d) T f = [] := by unfold encF; rw [if_pos hr, if_pos er]
      have eC : ∀ r cn, fC r S cn T f = 0 := fun r cn => by unfold fC; rw [if_pos hr, if_pos er]
      rw [eE, eC, eC]
      exact Rn_eq (fun bb => by rw [if_pos (show ([] : List Nat).head? = none from rfl)]) (Rn_some (Le.refl _) (WA.nil hR))
    | cons t T2 =>
      obtain ⟨-, er, -⟩ := drp_head _ _ _ ed
      have ne : ¬ rws f (t2 T) = [] := by rw [er]; simp
      have hn : ¬ la'.head? = none := by
        rw [ed] at q2
        obtain ⟨s, la2, e⟩ := HL_cons q2
        subst e
        simp
      refine Rn_eq (fun bb => by rw [if_neg hn, e135, gd_pos (by omega), hpl, gd_pos (by exact fun _ => rfl), gd_pos (by exact fun _ => by rw [vv_s]; split <;> omega), vv_s]) ?_
      by_cases cp : plain S f
      · have eE : encF S (enc S od d) T f = tagE S f 2 ++ (lenE (pkE S f (rws f (t2 T))) ++ pkE S f (rws f (t2 T))) := by unfold encF; rw [if_pos hr, if_neg ne, if_pos cp]
        have eC : ∀ r cn, fC r S cn T f = r (pkE S f (rws f (t2 T))).length := fun r cn => by unfold fC; rw [if_pos hr, if_neg ne, if_pos cp]
        rw [eE, List.length_append, List.length_append] at hl
        rw [eE, eC, eC]
        rw [if_pos cp]
        refine Rn_neg (by omega) ?_
        refine Rn_rm (σ1 := nW σ) (Nat.le_refl _) (Nat.le_refl _) (Nat.le_succ _) ?_
        refine Rn_eq (fun bb => by rw [nm_eq]) ?_
        have FW := FR.nW (fun b => b = sZ σ) σ
        have hH1 := hH.frA hS hH.1 FW
        have hRb : RW (nW σ) (sZ σ) := ⟨by rw [sc_nW_, if_pos rfl], by rw [sW_nW_, if_pos rfl]; exact Nat.zero_le _, Or.inl (by rw [sN_nW_, if_pos rfl])⟩
        have hFz' : ¬ F' (sZ σ) := fun w => by have := (hFz _ (c7 _ (q4 _ w))).1; omega
        have m2 := (HL_mem la' _ F' q2).1
        have q3' := chain_fr q3 FW (fun x hx => ⟨by have := (m2 x hx).2; omega, (m2 x hx).2⟩)
        have hW133 := w133 (rec := rec) hS hf cp (some va) u2 a u3 w4 (b := sZ σ) hH.1 1000 la' (drp f (t2 T)) F' FU (nW σ) (by omega) (FU_gt (by omega)) (q2.fr FW hFz') q3' (drp_drp _) hH1 hRb hFz' (by rw [sW_nW_, if_pos rfl, rws_drp]; simp only [List.length_nil]; omega) (by omega)
        rw [rws_drp] at hW133
        refine Rn_bind hW133 (fun σ1 _ g => ?_)
        have gc := g.2.2.2.2
        have hcap : sN σ1 (sZ σ) = cpF (pkE S f (rws f (t2 T))).length := by
          have := gc.cp (by rw [sN_nW_, if_pos rfl, sW_nW_, if_pos rfl]; rfl)
          rw [this, g.1, sW_nW_, if_pos rfl, List.nil_append]
        have ew : sW σ1 (sZ σ) = pkE S f (rws f (t2 T)) := by rw [g.1, sW_nW_, if_pos rfl, List.nil_append]
        have hz1 : sZ σ + 1 ≤ sZ σ1 := g.2.1.1.1
        have F0 : FR (fun _ => False) σ σ1 := by
          refine (FR.nW (fun _ => False) σ).tr g.2.1 (fun x hx e => ?_)
          omega
        have hS1 : sS σ1 ≤ sS σ + rwS (pkE S f (rws f (t2 T))).length := by
          have := gc.1
          rw [sN_nW_, if_pos rfl, hcap, sS_nW_, show rp 0 = 0 from rfl] at this
          unfold rwS
          omega
        have hC1 : sC σ1 ≤ sC σ + rwC (pkE S f (rws f (t2 T))).length := by
          have := gc.2.1
          rw [sN_nW_, if_pos rfl, hcap, sC_nW_] at this
          unfold rwC
          omega
        have w1 := (WA.nil hR).more haz F0 hS1 hC1
        have hH2 := hH1.frA hS hH.1 g.2.1
        have hl1 : (sW σ1 a).length = (sW σ a).length + 0 := w1.len
        refine Rn_bind (rn_tag hS hH2 hf w1.2.2.1 (by show (sW σ1 a).length + 10 ≤ 8000000; omega) 2) (fun σ2 _ g2 => ?_)
        have hl2 : (sW σ2 a).length = (sW σ1 a).length + (tagE S f 2).length := g2.len
        have hbz : sZ σ < sZ σ1 := by omega
        have hba : sZ σ ≠ a := by omega
        have sm := (g2.2.1.2 (sZ σ) hbz)
        refine Rn_bind (rn_part (b := sZ σ) g2.rw (sm.1.trans g.rw.1) ((sm.2 hba).1.trans ew) hba (Nat.lt_of_lt_of_le hbz g2.2.1.1.1) (by show (sW σ2 a).length + _ + 10 ≤ 8000000; omega) (by omega)) (fun σ3 _ g3 => Rn_some (Le.refl _) ?_)
        have := (w1.tr g2.toW).tr g3.toW
        simp only [Nat.zero_add, Nat.add_zero, List.nil_append] at this
        exact this
      · have eE : encF S (enc S od d) T f = (rws f (t2 T)).flatMap (slE S (enc S od d)) := by unfold encF; rw [if_pos hr, if_neg ne, if_neg cp]
        have eC : ∀ r cn, fC r S cn T f = ((rws f (t2 T)).map (slC S cn)).sum := fun r cn => by unfold fC; rw [if_pos hr, if_neg ne, if_neg cp]
        rw [eE] at hl
        rw [eE, eC, eC]
        rw [if_neg cp]
        refine Rn_pos (Or.inr rfl) ?_
        have := w86 hS hW hf hr (some va) u2 u3 w4 hza 1000 la' (drp f (t2 T)) F' FU σ (by omega) (FU_gt (by omega)) q2 q3 (drp_drp _) hH hR haz (fun w => (hFz a (c7 a (q4 a w))).2 rfl) (fun x w => (hFz x (c7 x (q4 x w))).1) (fun s hs => z4 s (drp_mem _ s hs)) (by rw [rws_drp]; exact hl) (by omega)
        rw [rws_drp] at this
        exact this
theorem w22 (hS : SW S) (hW : WS z S fa ma ea od d rec) (hza : z ≤ a) (hm : m < S.1) (hTZ : TZ (d + 1) T) : ∀ (c k N : Nat) (σ : ST), k + c = (od m).length → c < N → HSc z σ S fa ma ea od → sR σ 103 (ma m) = some oa → HV S fa ma (d + 1) σ va m T F → RW σ a → a < sZ σ → (∀ x, F x → x < sZ σ ∧ x ≠ a) → (sW σ a).length + (((od m).drop k).flatMap (encF S (enc S od d) T)).length ≤ 4000 → Rn (·.2) σ (fun bb => ww_write_L22 bb (rec bb) (some va) a (some oa) ((od m).length : Int) N (k : Int) σ) (fun r => r.1 = some a ∧ WA σ a (((od m).drop k).flatMap (encF S (enc S od d) T)) (((od m).drop k).map (fC rwS S (wc rwS S od d) T)).sum (((od m).drop k).map (fC rwC S (wc rwC S od d) T)).sum r.2)
  | c, k, 0, σ, _, h, _, _, _, _, _, _, _ => by omega
  | 0, k, N + 1, σ, h1, h2, hH, hoa, hV, hR, haz, hFz, hl => by
    have h50 := (hH.2.2.2.1 m hm).2.2.2.2.1
    rw [List.drop_eq_nil_of_le (by omega)]
    refine Rn_eq (fun bb => by rw [L22_step, gd_pos (by omega), gd_pos (by omega), if_pos (by omega)]) ?_
    exact Rn_some (Le.refl _) ⟨rfl, WA.nil hR⟩
  | c + 1, k, N + 1, σ, h1, h2, hH, hoa, hV, hR, haz, hFz, hl => by
    obtain ⟨m1, m2, m3, ⟨oa', o1, o2, o3, o4, o5⟩, h50, o6, o7⟩ := hH.2.2.2.1 m hm
    rw [hoa] at o1
    cases o1
    have hk : k < (od m).length := by omega
    have ed : (od m).drop k = (od m).getD k 0 :: (od m).drop (k + 1) := by
      rw [List.drop_eq_getElem_cons hk, List.getD_eq_getElem?_getD, List.getElem?_eq_getElem hk]; rfl
    obtain ⟨f, hfe⟩ : ∃ f, f = (od m).getD k 0 := ⟨_, rfl⟩
    rw [← hfe] at ed
    have hf := ((o6 f).mp (by rw [hfe]; exact getD_mem hk)).1
    rw [ed, List.flatMap_cons, List.length_append] at hl
    rw [ed, List.flatMap_cons, List.map_cons, List.sum_cons, List.map_cons, List.sum_cons]
    obtain ⟨v41, e1, e2⟩ := wfld_eq hS hW hza (some oa) ((od m).length : Int) (k : Int) hf hH hV hR haz hFz hTZ (by omega)
    obtain ⟨k1, k2, k3, k4, k5, k6, k7, k8, k9, k10, -⟩ := hH.2.1 f hf
    have hr := (hS.2.2.2.2.1 f hf).2.2.2.2.2.2.1
    refine Rn_eq (fun bb => by rw [L22_step, gd_pos (by omega), gd_pos (by omega), if_neg (by omega), bind_some', gd_pos o3, o4, gd_pos (by omega), nm_eq, Int.toNat_natCast, o5 k hk, ← hfe, bind_some', gd_pos k2, gd_pos (by rw [k9]; omega), e1, bind_some']) ?_
    refine Rn_bind e2 (fun σ1 _ g => ?_)
    have hlen : (sW σ1 a).length = (sW σ a).length + (encF S (enc S od d) T f).length := g.len
    have hma : ma m ≠ a := by omega
    have hz := hH.1
    rw [show (k : Int) + 1 = ((k + 1 : Nat) : Int) by omega]
    refine (w22 hS hW hza hm hTZ c (k + 1) N σ1 (by omega) (by omega) (hH.frA hS hza g.2.1) (by rw [((g.2.1.2 _ (by omega)).2 hma).2.2.2.2.2.2.2.2.2 103]; exact hoa) (HV_kept _ va m T F hV (fun x w l => ⟨(g.2.1.2 x l).2 (hFz x w).2, (g.2.1.2 x l).1⟩) g.2.1.1.1) g.2.2.1 (Nat.lt_of_lt_of_le haz g.2.1.1.1) (fun x w => ⟨Nat.lt_of_lt_of_le (hFz x w).1 g.2.1.1.1, (hFz x w).2⟩) (by rw [hlen]; omega)).mono (fun r _ hr => ⟨hr.1, g.tr hr.2⟩)
theorem ww_writeb_eq (hS : SW S) (hW : WS z S fa ma ea od d rec) : WS z S fa ma ea od (d + 1) (fun bb => ww_writeb bb (rec bb)) := by
  intro σ va m T F hH hV hFz hm hTZ hl
  obtain ⟨m1, m2, m3, ⟨oa, o1, o2, o3, o4, o5⟩, h50, o6, o7⟩ := hH.2.2.2.1 m hm
  have hz := hH.1
  have FW := FR.nW (fun b => b = sZ σ) σ
  have hH1 := hH.frA hS hz FW
  have hRb : RW (nW σ) (sZ σ) := ⟨by rw [sc_nW_, if_pos rfl], by rw [sW_nW_, if_pos rfl]; exact Nat.zero_le _, Or.inl (by rw [sN_nW_, if_pos rfl])⟩
  have hV' : HV S fa ma (d + 1) (nW σ) va m T F := HV_kept _ va m T F hV (fun x w l => ⟨(FW.2 x l).2 (by omega), (FW.2 x l).1⟩) (Nat.le_succ _)
  have hma : ma m ≠ sZ σ := by omega
  have x1 : sc (nW σ) va = 11 := hV'.1
  have x2 : sR (nW σ) 160 va = some (ma m) := hV'.2.2.2.1
  have x3 : sc (nW σ) (ma m) = 7 := (hH1.2.2.2.1 m hm).2.1
  have x4 : sR (nW σ) 103 (ma m) = some oa := by rw [sR_nW_]; exact o1
  have x5 : sc (nW σ) oa = 103 := by rw [sc_nW_, if_neg (by omega)]; exact o3
  have x6 : sN (nW σ) oa = (od m).length := by rw [sN_nW_, if_neg (by omega)]; exact o4
  have el : (enc S od (d + 1) m T) = ((od m).drop 0).flatMap (encF S (enc S od d) T) := rfl
  show Rn (·.2) σ (fun bb => ww_writeb bb (rec bb) (some va) σ) _
  unfold ww_writeb
  refine Rn_rm (σ1 := nW σ) (Nat.le_refl _) (Nat.le_refl _) (Nat.le_succ _) ?_
  refine Rn_eq (fun bb => by rw [nm_eq, bind_some', gd_pos x1, x2, bind_some', gd_pos x3, nm_eq, x4, bind_some', gd_pos x5, nm_eq, x6]) ?_
  refine (w22 hS hW hz hm hTZ (od m).length 0 FU (nW σ) (by omega) (FU_gt (by omega)) hH1 x4 hV' hRb (Nat.lt_succ_self _) (fun x w => ⟨Nat.lt_succ_of_lt (hFz x w), Nat.ne_of_lt (hFz x w)⟩) (by rw [sW_nW_, if_pos rfl, ← el]; simp only [List.length_nil]; omega)).mono (fun r _ hr => ?_)
  obtain ⟨r1, σ'⟩ := r
  obtain ⟨e, g⟩ := hr
  change r1 = some (sZ σ) at e
  subst e
  rw [← el] at g
  change WA (nW σ) (sZ σ) _ _ _ σ' at g
  have hw : sW σ' (sZ σ) = enc S od (d + 1) m T := by rw [g.1, sW_nW_, if_pos rfl, List.nil_append]
  have hcap : sN σ' (sZ σ) = cpF (enc S od (d + 1) m T).length := by
    have := g.2.2.2.2.2.2 (by rw [sN_nW_, if_pos rfl, sW_nW_, if_pos rfl]; rfl)
    rw [this, hw]
  have hs := g.2.2.2.1
  have hk := g.2.2.2.2.1
  rw [sN_nW_, if_pos rfl, hcap, sS_nW_, show rp 0 = 0 from rfl] at hs
  rw [sN_nW_, if_pos rfl, hcap, sC_nW_] at hk
  refine ⟨σ', rfl, g.2.2.1, hw, g.2.1.1.1, (FR.nW (fun _ => False) σ).tr g.2.1 (fun x hx e => by omega), ?_, ?_, hcap⟩
  · rw [wc]
    rw [List.drop_zero] at hs
    have e1 : rwS (enc S od (d + 1) m T).length = 2 + rp (cpF (enc S od (d + 1) m T).length) := rfl
    rw [e1]
    omega
  · rw [wc]
    rw [List.drop_zero] at hk
    have e1 : rwC (enc S od (d + 1) m T).length = 1 + cpF (enc S od (d + 1) m T).length / 8 := rfl
    rw [e1]
    omega
theorem ww_write_eq (hS : SW S) : ∀ (d N : Nat), d ≤ N → WS z S fa ma ea od d (fun bb => ww_write bb N)
  | 0, N, _ => fun σ va m T F hH hV => hV.elim
  | d + 1, 0, h => by omega
  | d + 1, N + 1, h => ww_writeb_eq hS (rec := fun bb => ww_write bb N) (ww_write_eq hS d N (by omega))
end Wmg
