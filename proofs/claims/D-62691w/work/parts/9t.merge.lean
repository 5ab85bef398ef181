set_option maxRecDepth 100000
/-! VALUES: a message that a field has is read on -/
section Mg
variable {z : Nat} {S : SC} {fa ma ea : Nat → Nat} {od : Nat → List Nat} {σ : ST} {v f : Nat}
/-- the slots that stay when a field gets a value -/
def kpl {d : Nat} (S : SC) (f : Nat) (la : List Nat) (T : List (SV d)) : List Nat := ((la.zip T).filter (fun q => !decide (goes S f q.2.1))).map (·.1)
theorem kpl_cons {d : Nat} (s : Nat) (la : List Nat) (t : SV d) (T : List (SV d)) : kpl S f (s :: la) (t :: T) = if goes S f t.1 then kpl S f la T else s :: kpl S f la T := by
  unfold kpl
  rw [List.zip_cons_cons]
  by_cases c : goes S f t.1
  · rw [if_pos c, List.filter_cons_of_neg (by simp only [decide_eq_true c]; decide)]
  · rw [if_neg c, List.filter_cons_of_pos (by simp only [decide_eq_false c]; decide), List.map_cons]
theorem flt_cons {d : Nat} (t : SV d) (T : List (SV d)) : (t :: T).filter (fun t' => !decide (goes S f t'.1)) = if goes S f t.1 then T.filter (fun t' => !decide (goes S f t'.1)) else t :: T.filter (fun t' => !decide (goes S f t'.1)) := by
  by_cases c : goes S f t.1
  · rw [if_pos c, List.filter_cons_of_neg (by simp only [decide_eq_true c]; decide)]
  · rw [if_neg c, List.filter_cons_of_pos (by simp only [decide_eq_false c]; decide)]
theorem HL_tight {d : Nat} {hv : Nat → Nat → TV d → (Nat → Prop) → Prop} : ∀ (la : List Nat) (T : List (SV d)) (F : Nat → Prop), HL S fa hv σ la T F → ∃ G, HL S fa hv σ (kpl S f la T) (T.filter (fun t => !decide (goes S f t.1))) G ∧ (∀ x, G x → F x) ∧ (∀ x ∈ la, G x → x ∈ kpl S f la T)
  | [], [], F, _ => ⟨fun _ => False, True.intro, fun x w => w.elim, fun x hx => by cases hx⟩
  | [], _ :: _, F, h => h.elim
  | _ :: _, [], F, h => h.elim
  | s :: la, t :: T, F, h => by
    obtain ⟨h1, h2, Fn, F2, h3, h4, h5, h6, h7, h8, h9⟩ := h
    obtain ⟨q1, q2, q3⟩ := HL_mem la T F2 h4
    obtain ⟨G, a1, a2, a3⟩ := HL_tight la T F2 h4
    have sG : ¬ G s := fun w => h8 (a2 s w)
    rw [kpl_cons, flt_cons]
    by_cases cg : goes S f t.1
    · rw [if_pos cg, if_pos cg]
      refine ⟨G, a1, fun x w => h6 x (a2 x w), fun x hx w => ?_⟩
      rcases List.mem_cons.mp hx with e | e
      · rw [e] at w; exact absurd w sG
      · exact a3 x e w
    · rw [if_neg cg, if_neg cg]
      refine ⟨fun x => x = s ∨ Fn x ∨ G x, ⟨Or.inl rfl, h2, Fn, G, h3, a1, fun x w => Or.inr (Or.inl w), fun x w => Or.inr (Or.inr w), h7, sG, fun x w u => h9 x w (a2 x u)⟩, fun x w => ?_, fun x hx w => ?_⟩
      · rcases w with w | w | w
        · rw [w]; exact h1
        · exact h5 x w
        · exact h6 x (a2 x w)
      · rcases List.mem_cons.mp hx with e | e
        · rw [e]; exact List.mem_cons_self
        · rcases w with w | w | w
          · rw [w]; exact List.mem_cons_self
          · exact absurd (q1 x e).1 (h9 x w)
          · exact List.mem_cons_of_mem _ (a3 x e w)
/-- the first slot of a field, apart from those that stay -/
theorem HL_split {d : Nat} {hv : Nat → Nat → TV d → (Nat → Prop) → Prop} (hH : HSc z σ S fa ma ea od) (hf : f < nF_ S) : ∀ (la : List Nat) (T : List (SV d)) (F : Nat → Prop) (s0 : SV d), HL S fa hv σ la T F → hdS f T = some s0 → ∃ o Fo G, o ∈ la ∧ HSl S fa hv σ o s0 Fo ∧ (∀ x, Fo x → F x) ∧ HL S fa hv σ (kpl S f la T) (T.filter (fun t => !decide (goes S f t.1))) G ∧ (∀ x, G x → F x) ∧ (∀ x, Fo x → ¬ G x) ∧ (∀ x ∈ la, ¬ Fo x) ∧ (∀ x ∈ la, G x → x ∈ kpl S f la T) ∧ ¬ G o ∧ (∀ (N : Nat) (o0 : Option Nat), chain σ o0 la → la.length < N → vlu_of_L2 (some (fa f)) σ N o0 = some (some o))
  | [], [], F, s0, _, h => by cases h
  | [], _ :: _, F, s0, h, _ => h.elim
  | _ :: _, [], F, s0, h, _ => h.elim
  | s :: la, t :: T, F, s0, h, h0 => by
    obtain ⟨h1, h2, Fn, F2, h3, h4, h5, h6, h7, h8, h9⟩ := h
    obtain ⟨q1, q2, q3⟩ := HL_mem la T F2 h4
    rw [hdS_cons] at h0
    rw [kpl_cons, flt_cons]
    by_cases c : t.1 = f
    · rw [if_pos c] at h0
      cases h0
      rw [if_pos (Or.inl c), if_pos (Or.inl c)]
      obtain ⟨G, g1, g2, g3⟩ := HL_tight (f := f) la T F2 h4
      refine ⟨s, Fn, G, List.mem_cons_self, h3, h5, g1, fun x w => h6 x (g2 x w), fun x w u => h9 x w (g2 x u), fun x hx => ?_, fun x hx w => ?_, fun w => h8 (g2 s w), fun N o0 hc hN => ?_⟩
      · rcases List.mem_cons.mp hx with e | e
        · rw [e]; exact h7
        · exact fun w => h9 x w (q1 x e).1
      · rcases List.mem_cons.mp hx with e | e
        · rw [e] at w; exact absurd (g2 s w) h8
        · exact g3 x e w
      · obtain ⟨N, rfl⟩ : ∃ m, N = m + 1 := ⟨N - 1, by omega⟩
        have eo : o0 = some s := hc.1
        subst eo
        rw [vlu_of_L2, gd_pos (by exact fun w => w), gd_pos (by exact fun _ => h3.1), if_pos (Or.inr (by rw [show ad (some s) = s from rfl, h3.2.2.1, c]))]
    · rw [if_neg c] at h0
      obtain ⟨o, Fo, G, a1, a2, a3, a4, a5, a6, a7, a8, a9, a10⟩ := HL_split hH hf la T F2 s0 h4 h0
      have a10' : ∀ (N : Nat) (o0 : Option Nat), chain σ o0 (s :: la) → (s :: la).length < N → vlu_of_L2 (some (fa f)) σ N o0 = some (some o) := fun N o0 hc hN => by
        obtain ⟨N, rfl⟩ : ∃ m, N = m + 1 := ⟨N - 1, by omega⟩
        have eo : o0 = some s := hc.1
        subst eo
        rw [vlu_of_L2, gd_pos (by exact fun w => w), gd_pos (by exact fun _ => h3.1), if_neg (by
          rintro (w | w)
          · cases w
          · rw [show ad (some s) = s from rfl, h3.2.2.1] at w; exact c (hH.2.2.1 _ _ h3.2.1 hf (Option.some.inj w))), bind_some', gd_pos h3.1, nm_eq, a10 N _ hc.2 (by simp only [List.length_cons] at hN; omega)]
      have sFo : ¬ Fo s := fun w => h8 (a3 s w)
      have sG : ¬ G s := fun w => h8 (a5 s w)
      by_cases cg : goes S f t.1
      · rw [if_pos cg, if_pos cg]
        refine ⟨o, Fo, G, List.mem_cons_of_mem _ a1, a2, fun x w => h6 x (a3 x w), a4, fun x w => h6 x (a5 x w), a6, fun x hx => ?_, fun x hx w => ?_, a9, a10'⟩
        · rcases List.mem_cons.mp hx with e | e
          · rw [e]; exact sFo
          · exact a7 x e
        · rcases List.mem_cons.mp hx with e | e
          · rw [e] at w; exact absurd w sG
          · exact a8 x e w
      · rw [if_neg cg, if_neg cg]
        refine ⟨o, Fo, fun x => x = s ∨ Fn x ∨ G x, List.mem_cons_of_mem _ a1, a2, fun x w => h6 x (a3 x w), ⟨Or.inl rfl, h2, Fn, G, h3, a4, fun x w => Or.inr (Or.inl w), fun x w => Or.inr (Or.inr w), h7, sG, fun x w u => h9 x w (a5 x u)⟩, fun x w => ?_, fun x w u => ?_, fun x hx => ?_, fun x hx w => ?_, ?_, a10'⟩
        · rcases w with w | w | w
          · rw [w]; exact h1
          · exact h5 x w
          · exact h6 x (a5 x w)
        · rcases u with u | u | u
          · rw [u] at w; exact sFo w
          · exact h9 x u (a3 x w)
          · exact a6 x w u
        · rcases List.mem_cons.mp hx with e | e
          · rw [e]; exact sFo
          · exact a7 x e
        · rcases List.mem_cons.mp hx with e | e
          · rw [e]; exact List.mem_cons_self
          · rcases w with w | w | w
            · rw [w]; exact List.mem_cons_self
            · exact absurd (q1 x e).1 (h9 x w)
            · exact List.mem_cons_of_mem _ (a8 x e w)
        · rintro (w | w | w)
          · rw [w] at a1; exact h8 (q1 s a1).1
          · exact h9 o w (q1 o a1).1
          · exact a9 w
/-- a message's value, but for the message of one field -/
def HVx (S : SC) (fa ma : Nat → Nat) (d : Nat) (σ : ST) (v m f : Nat) (T : TV (d + 1)) (la lb : List Nat) (G F2 : Nat → Prop) : Prop := sc σ v = 11 ∧ v < sZ σ ∧ sR σ 160 v = some (ma m) ∧ chain σ (sR σ 161 v) la ∧ chain σ (sR σ 162 v) lb ∧ (lb ≠ [] → sR σ 163 v = lb.getLast?) ∧ la.Nodup ∧ la.length = (t1 T).length ∧ (∀ q ∈ la.zip (t1 T), q.2.1 < nF_ S ∧ sc σ q.1 = 13 ∧ sR σ 192 q.1 = some (fa q.2.1)) ∧ (∀ x ∈ la, x < sZ σ) ∧ HL S fa (HV S fa ma d σ) σ (kpl S f la (t1 T)) ((t1 T).filter (fun t => !decide (goes S f t.1))) G ∧ HL S fa (HV S fa ma d σ) σ lb (t2 T) F2 ∧ v ∉ la ∧ ¬ G v ∧ ¬ F2 v ∧ (∀ x, G x → ¬ F2 x) ∧ (∀ x ∈ la, ¬ F2 x) ∧ (∀ x ∈ la, G x → x ∈ kpl S f la (t1 T))
theorem HV_x {d m : Nat} {T : TV (d + 1)} {F : Nat → Prop} {s0 : SV d} (hH : HSc z σ S fa ma ea od) (hf : f < nF_ S) (hlen : (t1 T).length < 1000) (hV : HV S fa ma (d + 1) σ v m T F) (h0 : hdS f (t1 T) = some s0) : ∃ la lb G F2 o Fo, HVx S fa ma d σ v m f T la lb G F2 ∧ o ∈ la ∧ HSl S fa (HV S fa ma d σ) σ o s0 Fo ∧ F v ∧ (∀ x ∈ la, F x) ∧ (∀ x, G x → F x) ∧ (∀ x, F2 x → F x) ∧ (∀ x, Fo x → F x) ∧ ¬ Fo v ∧ (∀ x ∈ la, ¬ Fo x) ∧ (∀ x, Fo x → ¬ G x) ∧ (∀ x, Fo x → ¬ F2 x) ∧ vlu_get v (some (fa f)) σ = some (some o) := by
  obtain ⟨h1, h2, h3, h4, la, lb, F1, F2, c1, c2, c3, c4, c5, c6, c7, c8, c9, c10⟩ := hV
  obtain ⟨m1, n1, e1⟩ := HL_mem la _ F1 c4
  obtain ⟨o, Fo, G, a1, a2, a3, a4, a5, a6, a7, a8, a9, a10⟩ := HL_split (f := f) hH hf la _ F1 s0 c4 h0
  exact ⟨la, lb, G, F2, o, Fo, ⟨h1, h2, h4, c1, c2, c3, n1, e1, HL_at la _ F1 c4, fun x hx => (m1 x hx).2, a4, c5, fun w => c8 (m1 v w).1, fun w => c8 (a5 v w), c9, fun x w => c10 x (a5 x w), fun x hx => c10 x (m1 x hx).1, a8⟩, a1, a2, h3, fun x hx => c6 x (m1 x hx).1, fun x w => c6 x (a5 x w), c7, fun x w => c6 x (a3 x w), fun w => c8 (a3 v w), a7, a6, fun x w => c10 x (a3 x w), by unfold vlu_get; rw [gd_pos h1, nm_eq, get_of]; exact a10 FU _ c1 (by rw [e1]; exact FU_gt (by omega))⟩
theorem of_none {d : Nat} {hv : Nat → Nat → TV d → (Nat → Prop) → Prop} (hH : HSc z σ S fa ma ea od) (hf : f < nF_ S) : ∀ (la : List Nat) (T : List (SV d)) (F : Nat → Prop) (N : Nat) (o0 : Option Nat), HL S fa hv σ la T F → hdS f T = none → chain σ o0 la → la.length < N → vlu_of_L2 (some (fa f)) σ N o0 = some none
  | [], [], F, N, o0, _, _, hc, hN => by
    obtain ⟨N, rfl⟩ : ∃ m, N = m + 1 := ⟨N - 1, by omega⟩
    have e : o0 = none := hc
    subst e
    rw [vlu_of_L2, gd_pos (by exact fun w => w), gd_pos (by exact fun w => absurd rfl w), if_pos (Or.inl rfl)]
  | [], _ :: _, F, N, o0, h, _, _, _ => h.elim
  | _ :: _, [], F, N, o0, h, _, _, _ => h.elim
  | s :: la, t :: T, F, N, o0, h, h0, hc, hN => by
    obtain ⟨h1, h2, Fn, F2, h3, h4, h5, h6, h7, h8, h9⟩ := h
    obtain ⟨N, rfl⟩ : ∃ m, N = m + 1 := ⟨N - 1, by omega⟩
    have eo : o0 = some s := hc.1
    subst eo
    rw [hdS_cons] at h0
    by_cases c : t.1 = f
    · rw [if_pos c] at h0; cases h0
    · rw [if_neg c] at h0
      rw [vlu_of_L2, gd_pos (by exact fun w => w), gd_pos (by exact fun _ => h3.1), if_neg (by
        rintro (w | w)
        · cases w
        · rw [show ad (some s) = s from rfl, h3.2.2.1] at w; exact c (hH.2.2.1 _ _ h3.2.1 hf (Option.some.inj w))), bind_some', gd_pos h3.1, nm_eq]
      exact of_none hH hf la T F2 N _ h4 h0 hc.2 (by simp only [List.length_cons] at hN; omega)
theorem get_none {d m : Nat} {T : TV (d + 1)} {F : Nat → Prop} (hH : HSc z σ S fa ma ea od) (hf : f < nF_ S) (hlen : (t1 T).length < 1000) (hV : HV S fa ma (d + 1) σ v m T F) (h0 : hdS f (t1 T) = none) : vlu_get v (some (fa f)) σ = some none := by
  obtain ⟨h1, h2, h3, h4, la, lb, F1, F2, c1, c2, c3, c4, c5, c6, c7, c8, c9, c10⟩ := hV
  obtain ⟨m1, n1, e1⟩ := HL_mem la _ F1 c4
  unfold vlu_get
  rw [gd_pos h1, nm_eq, get_of]
  exact of_none hH hf la _ F1 FU _ c4 h0 c1 (by rw [e1]; exact FU_gt (by omega))
theorem HVx.kept {σ' : ST} {d m : Nat} {T : TV (d + 1)} {la lb : List Nat} {G F2 : Nat → Prop} (h : HVx S fa ma d σ v m f T la lb G F2) (hv : Sm1 σ σ' v) (hla : ∀ x ∈ la, Sm1 σ σ' x) (hG : ∀ x, G x → x < sZ σ → Sm1 σ σ' x) (hF2 : ∀ x, F2 x → x < sZ σ → Sm1 σ σ' x) (hz : sZ σ ≤ sZ σ') : HVx S fa ma d σ' v m f T la lb G F2 := by
  obtain ⟨h1, h2, h3, h4, h5, h6, h7, h8, h9, h10, h11, h12, h13⟩ := h
  have sR' : ∀ k, sR σ' k v = sR σ k v := hv.1.2.2.2.2.2.2.2.2.2
  obtain ⟨m2, -, -⟩ := HL_mem lb _ F2 h12
  obtain ⟨m1, -, -⟩ := HL_mem _ _ G h11
  refine ⟨by rw [hv.2]; exact h1, by omega, by rw [sR']; exact h3, chain_kept la _ _ (sR' 161) (fun x hx => (hla x hx).1.2.2.2.2.2.2.2.2.2 196) h4, chain_kept lb _ _ (sR' 162) (fun x hx => (hF2 x (m2 x hx).1 (m2 x hx).2).1.2.2.2.2.2.2.2.2.2 196) h5, fun w => by rw [sR']; exact h6 w, h7, h8, fun q hq => ?_, fun x hx => by have := h10 x hx; omega, ?_, ?_, h13⟩
  · obtain ⟨b1, b2, b3⟩ := h9 q hq
    have hs := hla q.1 (List.of_mem_zip hq).1
    exact ⟨b1, by rw [hs.2]; exact b2, by rw [hs.1.2.2.2.2.2.2.2.2.2]; exact b3⟩
  · exact HL_kept _ _ G h11 (fun x hx => (hG x (m1 x hx).1 (m1 x hx).2).x) (fun x w _ l => hG x w l) hz (fun Fn va m T w u => HV_kept d va m T Fn u (fun x r l => hG x (w x r).1 l) hz)
  · exact HL_kept lb _ F2 h12 (fun x hx => (hF2 x (m2 x hx).1 (m2 x hx).2).x) (fun x w _ l => hF2 x w l) hz (fun Fn va m T w u => HV_kept d va m T Fn u (fun x r l => hF2 x (w x r).1 l) hz)
set_option maxHeartbeats 4000000 in
/-- a message that was read on is put for its field -/
theorem vlu_put_m {d m : Nat} {T : TV (d + 1)} {la lb : List Nat} {G F2 Fn F : Nat → Prop} {s : Nat} {t : SV d} (hS : SW S) (hH : HSc z σ S fa ma ea od) (hX : HVx S fa ma d σ v m t.1 T la lb G F2) (hvz : z ≤ v) (hlz : ∀ x ∈ la, z ≤ x) (hM : isM S t.1) (hr : qr S t.1 ≠ 1) (hs : s < sZ σ) (hst : HSl S fa (HV S fa ma d σ) σ s t Fn) (hsv : s ≠ v) (hsl : s ∉ la) (hsG : ¬ G s) (hsF : ¬ F2 s) (hns : ¬ Fn s) (hFv : ¬ Fn v) (hFl : ∀ x ∈ la, ¬ Fn x) (hFG : ∀ x, Fn x → ¬ G x) (hF2 : ∀ x, Fn x → ¬ F2 x) (hlen : (t1 T).length < 1000) (w1 : F v) (w2 : ∀ x, G x → F x) (w3 : ∀ x, F2 x → F x) (w4 : F s) (w5 : ∀ x, Fn x → F x) (w6 : ∀ x ∈ la, F x) : ∃ σ', (∀ bb, vlu_put bb v (some s) σ = some σ') ∧ HV S fa ma (d + 1) σ' v m (put S T t) F ∧ FR (fun x => x = v ∨ x ∈ la ∨ x = s) σ σ' ∧ sS σ' = sS σ ∧ sC σ' = sC σ ∧ sZ σ' = sZ σ := by
  obtain ⟨h1, h2, h3, h4, h5, h6, h7, h8, h9, h10, h11, h12, h13, h14, h15, h16, h17, h18⟩ := hX
  have hf : t.1 < nF_ S := hst.2.1
  have s13 : sc σ s = 13 := hst.1
  have s192 : sR σ 192 s = some (fa t.1) := hst.2.2.1
  obtain ⟨b1, b2, -, -, -, -, -, -, b9, -⟩ := hH.2.1 t.1 hf
  have bf := (hS.2.2.2.2.1 t.1 hf).2.2.2.2
  -- the slots that go
  have hD0 : DX la v σ (pR σ 161 v none) := (DX.refl la v σ).first none
  have ezip : ((la.zip (t1 T)).map (fun q : Nat × SV d => (q.1, q.2.1))).map (·.1) = la := by rw [List.map_map]; exact zip_fst la _ h8
  have q := drop_L (v := v) hS hH hf h1 (0, 0) la ((la.zip (t1 T)).map (fun q : Nat × SV d => (q.1, q.2.1))) FU [] (sR σ 161 v) (pR σ 161 v none) hD0 (by rw [List.length_map, List.length_zip, h8, Nat.min_self]; exact FU_gt (by omega)) (fun q w => by
    obtain ⟨x, hx, ex⟩ := List.mem_map.mp w
    subst ex
    exact ⟨(List.of_mem_zip hx).1, h9 x hx⟩) (fun x w => by cases w) (by rw [List.nil_append, ezip]; exact h7) h13 (by rw [ezip]; exact chain_kept la _ _ rfl (fun x hx => by rw [sR_pR, if_neg (fun w => absurd w.1 (by decide))]) h4) (by rw [sR_pR, if_pos ⟨rfl, rfl⟩]; rfl)
  obtain ⟨σ1, g1, g2, g3⟩ := q
  have ek : kpt S t.1 ((la.zip (t1 T)).map (fun q : Nat × SV d => (q.1, q.2.1))) = kpl S t.1 la (t1 T) := by
    unfold kpt kpl
    rw [List.filter_map, List.map_map]
    rfl
  rw [List.nil_append, ek] at g3
  have eD : ∀ bb, vlu_drop bb v (some (fa t.1)) σ = some σ1 := fun bb => by
    unfold vlu_drop
    rw [gd_pos h1, nm_eq, nm_eq, bb_drop_L]
    exact g1
  have z1 : sZ σ1 = sZ σ := g2.1.2.2.2.2.2.2.2.2.2.2.1
  have hz : sZ σ ≤ sZ σ1 := by rw [z1]; exact Nat.le_refl _
  have FD : FR (fun x => x = v ∨ x ∈ la) σ σ1 := g2.fr (Or.inl rfl) (fun x w => Or.inr w)
  have hH1 : HSc z σ1 S fa ma ea od := hH.kept hS ⟨FD.1, fun x l => ⟨(FD.2 x l).1, fun w => (FD.2 x l).2 (fun u => w (by
    rcases u with u | u
    · rw [u]; exact hvz
    · exact hlz x u))⟩⟩
  have smG : ∀ x, G x → x ∉ kpl S t.1 la (t1 T) → Sm1 σ σ1 x := fun x w u => g2.sm (fun e => h14 (by rw [← e]; exact w)) (fun e => u (h18 x e w))
  have smF2 : ∀ x, F2 x → Sm1 σ σ1 x := fun x w => g2.sm (fun e => h15 (by rw [← e]; exact w)) (fun e => h17 x e w)
  have smFn : ∀ x, Fn x → Sm1 σ σ1 x := fun x w => g2.sm (fun e => hFv (by rw [← e]; exact w)) (fun e => hFl x e w)
  have sms : Sm1 σ σ1 s := g2.sm hsv hsl
  obtain ⟨mK, nK, eK⟩ := HL_mem _ _ G h11
  obtain ⟨m2, n2, e2⟩ := HL_mem lb _ F2 h12
  have kG : HL S fa (HV S fa ma d σ1) σ1 (kpl S t.1 la (t1 T)) _ G := HL_kept _ _ G h11 (fun x _ => g2.sx x) (fun x w u _ => smG x w u) hz (fun Fn va m T w u => HV_kept d va m T Fn u (fun x r l => smG x (w x r).1 (w x r).2) hz)
  have kF2 : HL S fa (HV S fa ma d σ1) σ1 lb (t2 T) F2 := HL_kept lb _ F2 h12 (fun x _ => g2.sx x) (fun x w _ _ => smF2 x w) hz (fun Fn va m T w u => HV_kept d va m T Fn u (fun x r l => smF2 x (w x r).1) hz)
  have kst : HSl S fa (HV S fa ma d σ1) σ1 s t Fn := HSl_kept hst sms.x (fun x w _ => smFn x w) hz (fun va m T u => HV_kept d va m T Fn u (fun x r _ => smFn x r) hz)
  have v11 : sc σ1 v = 11 := by rw [g2.1.1]; exact h1
  have s13' : sc σ1 s = 13 := kst.1
  have b2' : sc σ1 (fa t.1) = 9 := (hH1.2.1 t.1 hf).2.1
  have k1 := isDef_eq kst
  have k2 := keeps_eq hS hH1 hf
  rw [if_neg (fun w => w.1 hM)] at k1
  obtain ⟨Y, hY⟩ : ∃ Y, Y = pR (pR σ1 196 s (sR σ1 161 v)) 161 v (some s) := ⟨_, rfl⟩
  refine ⟨Y, fun bb => ?_, ?_, ?_, ?_, ?_, ?_⟩
  · unfold vlu_put
    rw [bind_some', gd_pos s13, nm_eq, s192, bind_some', gd_pos b2, b9, gd_pos (by omega), if_pos (by omega), gd_pos h1, eD bb, bind_some', gd_pos s13', k1, bind_some', k2, gd_pos (by omega), gd_pos (by exact fun _ => b2'), gd_pos (by exact fun _ => rfl), gd_pos (by exact fun _ => by rw [vv_s]; split <;> omega), if_pos (Or.inl rfl), gd_pos v11, nm_eq, gd_pos (show sc (pR σ1 196 s (sR σ1 161 v)) v = 11 from v11), nm_eq, hY]
  · have cd : ¬ ((¬ isM S t.1 ∧ t.2.1 = 0 ∧ t.2.2.1 = []) ∧ ¬ keeps S t.1) := fun w => w.1.1 hM
    have eput : put S T t = mk (t :: (t1 T).filter (fun t' => !decide (goes S t.1 t'.1))) (t2 T) := by unfold put; rw [if_neg hr, if_neg cd]
    rw [eput]
    have sm2 : ∀ x, x ≠ v → x ≠ s → Sm1 σ1 Y x := fun x w u => by
      rw [hY]
      exact ⟨⟨rfl, rfl, rfl, rfl, rfl, rfl, rfl, fun k => rfl, fun k => rfl, fun k => by rw [sR_pR, if_neg (fun q => w q.2), sR_pR, if_neg (fun q => u q.2)]⟩, rfl⟩
    have ssx : Sx σ1 Y s := by
      rw [hY]
      exact ⟨rfl, rfl, by rw [sR_pR, if_neg (fun q => absurd q.1 (by decide)), sR_pR, if_neg (fun q => absurd q.1 (by decide))], by rw [sR_pR, if_neg (fun q => absurd q.1 (by decide)), sR_pR, if_neg (fun q => absurd q.1 (by decide))], by rw [sR_pR, if_neg (fun q => absurd q.1 (by decide)), sR_pR, if_neg (fun q => absurd q.1 (by decide))]⟩
    have hzY : sZ σ1 ≤ sZ Y := by rw [hY]; exact Nat.le_refl _
    have yG : ∀ x, G x → Sm1 σ1 Y x := fun x w => sm2 x (fun e => h14 (by rw [← e]; exact w)) (fun e => hsG (by rw [← e]; exact w))
    have yF2 : ∀ x, F2 x → Sm1 σ1 Y x := fun x w => sm2 x (fun e => h15 (by rw [← e]; exact w)) (fun e => hsF (by rw [← e]; exact w))
    have yFn : ∀ x, Fn x → Sm1 σ1 Y x := fun x w => sm2 x (fun e => hFv (by rw [← e]; exact w)) (fun e => hns (by rw [← e]; exact w))
    have hla : HL S fa (HV S fa ma d Y) Y (kpl S t.1 la (t1 T)) _ G := HL_kept _ _ G kG (fun x hx => (yG x (mK x hx).1).x) (fun x w _ _ => yG x w) hzY (fun Fn' va m T w u => HV_kept d va m T Fn' u (fun x r _ => yG x (w x r).1) hzY)
    have hlb : HL S fa (HV S fa ma d Y) Y lb _ F2 := HL_kept lb _ F2 kF2 (fun x hx => (yF2 x (m2 x hx).1).x) (fun x w _ _ => yF2 x w) hzY (fun Fn' va m T w u => HV_kept d va m T Fn' u (fun x r _ => yF2 x (w x r).1) hzY)
    have hst2 : HSl S fa (HV S fa ma d Y) Y s t Fn := HSl_kept kst ssx (fun x w _ => yFn x w) hzY (fun va m T u => HV_kept d va m T Fn u (fun x r _ => yFn x r) hzY)
    have yR : ∀ k, k ≠ 161 → sR Y k v = sR σ1 k v := fun k hk => by rw [hY, sR_pR, if_neg (fun q => hk q.1), sR_pR, if_neg (fun q => hsv q.2.symm)]
    have r160 : sR σ1 160 v = sR σ 160 v := g2.2 160 v (fun w => absurd w.1 (by decide)) (fun w => absurd w.1 (by decide))
    have r162 : sR σ1 162 v = sR σ 162 v := g2.2 162 v (fun w => absurd w.1 (by decide)) (fun w => absurd w.1 (by decide))
    have r163 : sR σ1 163 v = sR σ 163 v := g2.2 163 v (fun w => absurd w.1 (by decide)) (fun w => absurd w.1 (by decide))
    refine ⟨by rw [hY]; exact v11, by rw [hY]; show v < sZ σ1; omega, w1, by rw [yR 160 (by decide), r160]; exact h3, s :: kpl S t.1 la (t1 T), lb, fun x => G x ∨ x = s ∨ Fn x, F2, ⟨by rw [hY, sR_pR, if_pos ⟨rfl, rfl⟩], ?_⟩, chain_kept lb _ _ ((yR 162 (by decide)).trans r162) (fun x hx => by rw [(yF2 x (m2 x hx).1).1.2.2.2.2.2.2.2.2.2 196]; exact (smF2 x (m2 x hx).1).1.2.2.2.2.2.2.2.2.2 196) h5, fun w => by rw [yR 163 (by decide), r163]; exact h6 w, ⟨Or.inr (Or.inl rfl), by rw [hY]; show s < sZ σ1; omega, Fn, G, hst2, hla, fun x w => Or.inr (Or.inr w), fun x w => Or.inl w, hns, hsG, hFG⟩, hlb, fun x w => ?_, w3, ?_, h15, fun x w u => ?_⟩
    · exact chain_kept _ _ _ (by rw [hY, sR_pR, if_neg (fun q => absurd q.1 (by decide)), sR_pR, if_pos ⟨rfl, rfl⟩]) (fun x hx => (yG x (mK x hx).1).1.2.2.2.2.2.2.2.2.2 196) g3
    · rcases w with w | w | w
      · exact w2 x w
      · rw [w]; exact w4
      · exact w5 x w
    · rintro (w | w | w)
      · exact h14 w
      · exact hsv w.symm
      · exact hFv w
    · rcases w with w | w | w
      · exact h16 x w u
      · rw [w] at u; exact hsF u
      · exact hF2 x w u
  · rw [hY]
    have F0 : FR (fun x => x = v ∨ x ∈ la ∨ x = s) σ σ1 := ⟨FD.1, fun x l => ⟨(FD.2 x l).1, fun w => (FD.2 x l).2 (fun u => w (u.imp id Or.inl))⟩⟩
    exact (F0.tr (FR.at1 (W := fun x => x = v ∨ x ∈ la ∨ x = s) (at_pR σ1 196 s _) (Or.inr (Or.inr rfl))) (fun _ _ w => w)).tr (FR.at1 (W := fun x => x = v ∨ x ∈ la ∨ x = s) (at_pR _ 161 v _) (Or.inl rfl)) (fun _ _ w => w)
  · rw [hY]; exact g2.1.2.2.2.2.2.2.2.2.2.2.2.2
  · rw [hY]; exact g2.1.2.2.2.2.2.2.2.2.2.2.2.1
  · rw [hY]; exact z1
end Mg
