set_option maxRecDepth 100000
/-! WIRE: messages, as the system writes them -/
section Dr2
variable {d f : Nat}
theorem drp_len : ∀ l : List (SV d), (drp f l).length ≤ l.length
  | [] => Nat.le_refl _
  | t :: l => by
    rw [drp_cons]
    split
    · exact Nat.le_refl _
    · have := drp_len l; simp only [List.length_cons]; omega
theorem drp_mem : ∀ (l : List (SV d)) (s : SV d), s ∈ drp f l → s ∈ l
  | [], s, h => by cases h
  | t :: l, s, h => by
    rw [drp_cons] at h
    split at h
    · exact h
    · exact List.mem_cons_of_mem _ (drp_mem l s h)
theorem drp_drp : ∀ l : List (SV d), drp f (drp f l) = drp f l
  | [] => rfl
  | t :: l => by
    rw [drp_cons]
    by_cases c : t.1 = f
    · rw [if_pos c, drp_cons, if_pos c]
    · rw [if_neg c]; exact drp_drp l
end Dr2
theorem chain_fr {σ σ1 : ST} {a : Nat} {la : List Nat} {o : Option Nat} (h : chain σ o la) (g : FR (fun b => b = a) σ σ1) (hm : ∀ x ∈ la, x ≠ a ∧ x < sZ σ) : chain σ1 o la := chain_kept la o o rfl (fun x hx => ((g.2 x (hm x hx).2).2 (hm x hx).1).2.2.2.2.2.2.2.2.2 196) h
section Wlp
variable {z : Nat} {σ σ1 : ST} {S : SC} {fa ma ea : Nat → Nat} {od : Nat → List Nat} {a f d : Nat} {rec : Nat × Nat → Option Nat → ST → Option (Option Nat × ST)}
theorem vlu_of_at (hH : HSc z σ S fa ma ea od) (hf : f < nF_ S) {hv : Nat → Nat → TV d → (Nat → Prop) → Prop} {la : List Nat} {T : List (SV d)} {F : Nat → Prop} {o : Option Nat} (h : HL S fa hv σ la T F) (hc : chain σ o la) (hl : T.length ≤ 1000) : ∃ la' F', vlu_of (some (fa f)) o σ = some la'.head? ∧ HL S fa hv σ la' (drp f T) F' ∧ chain σ la'.head? la' ∧ ∀ x, F' x → F x := by
  unfold vlu_of
  exact of_L hH hf la T F FU o h hc (by rw [HL_len la T F h]; exact FU_gt (by omega))
theorem w86 (hS : SW S) (hW : WS z S fa ma ea od d rec) (hf : f < nF_ S) (hr : qr S f = 1) (u0 u2 : Option Nat) (u3 u4 : Int) (hza : z ≤ a) : ∀ (c : Nat) (la : List Nat) (T : List (SV d)) (F : Nat → Prop) (N : Nat) (σ : ST), T.length ≤ c → c < N → HL S fa (HV S fa ma d σ) σ la T F → chain σ la.head? la → drp f T = T → HSc z σ S fa ma ea od → RW σ a → a < sZ σ → ¬ F a → (∀ x, F x → x < sZ σ) → (∀ s ∈ T, TZ d s.2.2.2) → (sW σ a).length + ((rws f T).flatMap (slE S (enc S od d))).length ≤ 4000 → T.length ≤ 1000 → Rn id σ (fun bb => ww_write_L86 bb (rec bb) u0 a u2 u3 u4 (some (fa f)) N la.head? σ) (WA σ a ((rws f T).flatMap (slE S (enc S od d))) ((rws f T).map (slC S (wc rwS S od d))).sum ((rws f T).map (slC S (wc rwC S od d))).sum)
  | c, la, T, F, 0, σ, _, h, _, _, _, _, _, _, _, _, _, _, _ => by omega
  | c, [], [], F, N + 1, σ, h1, h2, h, hc, hd, hH, hR, haz, hFa, hFz, hT, hl, hk => by
    refine Rn_eq (fun bb => by rw [ww_write_L86, if_pos (show ([] : List Nat).head? = none from rfl)]) ?_
    exact Rn_some (Le.refl _) (WA.nil hR)
  | c, [], _ :: _, F, N + 1, σ, h1, h2, h, hc, hd, hH, hR, haz, hFa, hFz, hT, hl, hk => h.elim
  | c, _ :: _, [], F, N + 1, σ, h1, h2, h, hc, hd, hH, hR, haz, hFa, hFz, hT, hl, hk => h.elim
  | 0, s :: la, t :: T, F, N + 1, σ, h1, h2, h, hc, hd, hH, hR, haz, hFa, hFz, hT, hl, hk => by simp at h1
  | c + 1, s :: la, t :: T, F, N + 1, σ, h1, h2, h, hc, hd, hH, hR, haz, hFa, hFz, hT, hl, hk => by
    obtain ⟨tf, er, -⟩ := drp_head (t :: T) t T hd
    obtain ⟨h3, h4, Fn, F2, h5, h6, h7, h8, h9, h10, h11⟩ := h
    obtain ⟨-, hc2⟩ : some s = some s ∧ chain σ (sR σ 196 s) la := hc
    rw [er, List.flatMap_cons, List.length_append] at hl
    rw [er, List.flatMap_cons, List.map_cons, List.sum_cons, List.map_cons, List.sum_cons]
    simp only [List.length_cons] at h1 hk
    have m2 := (HL_mem la T F2 h6).1
    refine Rn_eq (fun bb => by rw [ww_write_L86, if_neg (show ¬ (s :: la).head? = none by simp)]) ?_
    refine Rn_bind (ww_slot_eq hS hW hH hR hza haz h5 h4 (fun w => hFa (h7 a w)) (fun x w => hFz x (h7 x w)) (hT t List.mem_cons_self) (by omega)) (fun σ1 _ g => ?_)
    have hH1 := hH.frA hS hza g.2.1
    have nF2 : ¬ F2 a := fun w => hFa (h8 a w)
    have hsa : s ≠ a := fun e => hFa (by rw [← e]; exact h3)
    have s13 : sc σ1 s = 13 := by rw [(g.2.1.2 s h4).1]; exact h5.1
    have e196 : sR σ1 196 s = sR σ 196 s := ((g.2.1.2 s h4).2 hsa).2.2.2.2.2.2.2.2.2 196
    have hL1 := h6.fr g.2.1 nF2
    have hc1 := chain_fr hc2 g.2.1 (fun x hx => ⟨fun e => nF2 (by rw [← e]; exact (m2 x hx).1), (m2 x hx).2⟩)
    obtain ⟨k1, k2, k3, k4, k5, k6, k7, k8, k9, k10, -⟩ := hH1.2.1 f hf
    obtain ⟨la', F', q1, q2, q3, q4⟩ := vlu_of_at hH1 hf hL1 hc1 (by omega)
    refine Rn_eq (fun bb => by rw [bind_some', gd_pos k2, k9.trans hr, gd_pos (by omega), if_neg (by omega), show (s :: la).head? = some s from rfl, bind_some', gd_pos s13, e196, q1, bind_some', bind_some']) ?_
    have hlen : (sW σ1 a).length = (sW σ a).length + (slE S (enc S od d) t).length := g.len
    have hdl := drp_len (f := f) T
    have ih := w86 hS hW hf hr u0 u2 u3 u4 hza c la' (drp f T) F' N σ1 (by omega) (by omega) q2 q3 (drp_drp T) hH1 g.2.2.1 (Nat.lt_of_lt_of_le haz g.2.1.1.1) (fun w => nF2 (q4 a w)) (fun x w => Nat.lt_of_lt_of_le (hFz x (h8 x (q4 x w))) g.2.1.1.1) (fun x hx => hT x (List.mem_cons_of_mem _ (drp_mem T x hx))) (by rw [rws_drp]; omega) (by omega)
    rw [rws_drp] at ih
    exact ih.mono (fun σ2 _ g2 => g.tr g2)
theorem w86s (hS : SW S) (hW : WS z S fa ma ea od d rec) (hf : f < nF_ S) (hr : qr S f = 0) (u0 u2 : Option Nat) (u3 u4 : Int) (hza : z ≤ a) {s : Nat} {t : SV d} {Fn : Nat → Prop} (hs : HSl S fa (HV S fa ma d σ) σ s t Fn) (hsl : s < sZ σ) (hFa : ¬ Fn a) (hFz : ∀ x, Fn x → x < sZ σ) (hH : HSc z σ S fa ma ea od) (hR : RW σ a) (haz : a < sZ σ) (hTZ : TZ d t.2.2.2) (hl : (sW σ a).length + (slE S (enc S od d) t).length ≤ 4000) : Rn id σ (fun bb => ww_write_L86 bb (rec bb) u0 a u2 u3 u4 (some (fa f)) FU (some s) σ) (WA σ a (slE S (enc S od d) t) (slC S (wc rwS S od d) t) (slC S (wc rwC S od d) t)) := by
  rw [show FU = 999998 + 1 + 1 from rfl]
  refine Rn_eq (fun bb => by rw [ww_write_L86, if_neg (show ¬ some s = none by simp)]) ?_
  refine Rn_bind (ww_slot_eq hS hW hH hR hza haz hs hsl hFa hFz hTZ hl) (fun σ1 _ g => ?_)
  have hH1 := hH.frA hS hza g.2.1
  obtain ⟨k1, k2, k3, k4, k5, k6, k7, k8, k9, k10, -⟩ := hH1.2.1 f hf
  refine Rn_eq (fun bb => by rw [bind_some', gd_pos k2, k9.trans hr, gd_pos (by omega), if_pos rfl, bind_some', ww_write_L86, if_pos rfl]) ?_
  exact Rn_some (Le.refl _) g
theorem w133 (hS : SW S) (hf : f < nF_ S) (hp : plain S f) (u0 u2 : Option Nat) (u1 : Nat) (u3 u4 : Int) {b : Nat} (hzb : z ≤ b) : ∀ (c : Nat) (la : List Nat) (T : List (SV d)) (F : Nat → Prop) (N : Nat) (σ : ST), T.length ≤ c → c < N → HL S fa (HV S fa ma d σ) σ la T F → chain σ la.head? la → drp f T = T → HSc z σ S fa ma ea od → RW σ b → ¬ F b → (sW σ b).length + (pkE S f (rws f T)).length ≤ 4000 → T.length ≤ 1000 → Rn id σ (fun bb => ww_write_L133 bb (rec bb) u0 u1 u2 u3 u4 (some (fa f)) b N la.head? σ) (RA σ b (pkE S f (rws f T)))
  | c, la, T, F, 0, σ, _, h, _, _, _, _, _, _, _, _ => by omega
  | c, [], [], F, N + 1, σ, h1, h2, h, hc, hd, hH, hR, hFa, hl, hk => by
    refine Rn_eq (fun bb => by rw [ww_write_L133, if_pos (show ([] : List Nat).head? = none from rfl)]) ?_
    exact Rn_some (Le.refl _) (RA.nil hR)
  | c, [], _ :: _, F, N + 1, σ, h1, h2, h, hc, hd, hH, hR, hFa, hl, hk => h.elim
  | c, _ :: _, [], F, N + 1, σ, h1, h2, h, hc, hd, hH, hR, hFa, hl, hk => h.elim
  | 0, s :: la, t :: T, F, N + 1, σ, h1, h2, h, hc, hd, hH, hR, hFa, hl, hk => by simp at h1
  | c + 1, s :: la, t :: T, F, N + 1, σ, h1, h2, h, hc, hd, hH, hR, hFa, hl, hk => by
    obtain ⟨tf, er, -⟩ := drp_head (t :: T) t T hd
    obtain ⟨h3, h4, Fn, F2, h5, h6, h7, h8, h9, h10, h11⟩ := h
    obtain ⟨-, hc2⟩ : some s = some s ∧ chain σ (sR σ 196 s) la := hc
    have ep : pkE S f (t :: rws f T) = numE S f t.2.1 ++ pkE S f (rws f T) := List.flatMap_cons
    rw [er, ep, List.length_append] at hl
    rw [er, ep]
    simp only [List.length_cons] at h1 hk
    have m2 := (HL_mem la T F2 h6).1
    have e193 : sJ σ 193 s = t.2.1 := by
      have q := h5.2.2.2
      rw [if_neg (by rw [tf]; exact ((plain_m hS hf).mp hp).2)] at q
      exact q.2.1
    refine Rn_eq (fun bb => by rw [ww_write_L133, if_neg (show ¬ (s :: la).head? = none by simp), show (s :: la).head? = some s from rfl, bind_some', gd_pos h5.1, e193]) ?_
    refine Rn_bind (rn_number hS hH hf hR hzb (by omega) _) (fun σ1 _ g => ?_)
    have hH1 := hH.frA hS hzb g.2.1
    have nF2 : ¬ F2 b := fun w => hFa (h8 b w)
    have hsa : s ≠ b := fun e => hFa (by rw [← e]; exact h3)
    have s13 : sc σ1 s = 13 := by rw [(g.2.1.2 s h4).1]; exact h5.1
    have e196 : sR σ1 196 s = sR σ 196 s := ((g.2.1.2 s h4).2 hsa).2.2.2.2.2.2.2.2.2 196
    have hL1 := h6.fr g.2.1 nF2
    have hc1 := chain_fr hc2 g.2.1 (fun x hx => ⟨fun e => nF2 (by rw [← e]; exact (m2 x hx).1), (m2 x hx).2⟩)
    obtain ⟨la', F', q1, q2, q3, q4⟩ := vlu_of_at hH1 hf hL1 hc1 (by omega)
    refine Rn_eq (fun bb => by rw [gd_pos s13, e196, q1, bind_some']) ?_
    have hlen : (sW σ1 b).length = (sW σ b).length + (numE S f t.2.1).length := g.len
    have hdl := drp_len (f := f) T
    have ih := w133 hS hf hp u0 u2 u1 u3 u4 hzb c la' (drp f T) F' N σ1 (by omega) (by omega) q2 q3 (drp_drp T) hH1 g.rw (fun w => nF2 (q4 b w)) (by rw [rws_drp]; omega) (by omega)
    rw [rws_drp] at ih
    exact ih.mono (fun σ2 _ g2 => g.tr g2)
end Wlp
