set_option maxRecDepth 100000
/-! WIRE: slots, as the system writes them -/
def TZ : (d : Nat) → TV d → Prop
  | 0, _ => True
  | d + 1, T => (t1 T).length ≤ 1000 ∧ (t2 T).length ≤ 1000 ∧ (∀ s ∈ t1 T, TZ d s.2.2.2) ∧ ∀ s ∈ t2 T, TZ d s.2.2.2
/-- the system's writer of messages of a depth: what it makes and what it costs -/
def WS (z : Nat) (S : SC) (fa ma ea : Nat → Nat) (od : Nat → List Nat) (d : Nat) (rec : Nat × Nat → Option Nat → ST → Option (Option Nat × ST)) : Prop := ∀ (σ : ST) (va m : Nat) (T : TV d) (F : Nat → Prop), HSc z σ S fa ma ea od → HV S fa ma d σ va m T F → (∀ x, F x → x < sZ σ) → m < S.1 → TZ d T → (enc S od d m T).length ≤ 4000 → Rn (·.2) σ (fun bb => rec bb (some va) σ) (fun r => ∃ σ', r = (some (sZ σ), σ') ∧ RW σ' (sZ σ) ∧ sW σ' (sZ σ) = enc S od d m T ∧ sZ σ < sZ σ' ∧ FR (fun _ => False) σ σ' ∧ sS σ' ≤ sS σ + wc rwS S od d m T ∧ sC σ' ≤ sC σ + wc rwC S od d m T ∧ sN σ' (sZ σ) = cpF (enc S od d m T).length)
section Wsl
variable {z : Nat} {σ σ1 : ST} {S : SC} {fa ma ea : Nat → Nat} {od : Nat → List Nat} {a f d : Nat} {rec : Nat × Nat → Option Nat → ST → Option (Option Nat × ST)}
theorem HSc.frA (hH : HSc z σ S fa ma ea od) (hS : SW S) (hza : z ≤ a) (g : FR (fun b => b = a) σ σ1) : HSc z σ1 S fa ma ea od := hH.kept hS ⟨g.1, fun x hx => ⟨(g.2 x hx).1, fun w => (g.2 x hx).2 (fun u => w (by rw [u]; exact hza))⟩⟩
theorem HL.fr {la : List Nat} {T : List (SV d)} {F : Nat → Prop} (h : HL S fa (HV S fa ma d σ) σ la T F) (g : FR (fun b => b = a) σ σ1) (hFa : ¬ F a) : HL S fa (HV S fa ma d σ1) σ1 la T F := by
  have k : ∀ x, F x → x < sZ σ → Sm1 σ σ1 x := fun x w l => ⟨(g.2 x l).2 (fun e => hFa (by rw [← e]; exact w)), (g.2 x l).1⟩
  obtain ⟨m1, -, -⟩ := HL_mem la T F h
  exact HL_kept la T F h (fun x hx => (k x (m1 x hx).1 (m1 x hx).2).x) (fun x w _ l => k x w l) g.1.1 (fun Fn va m T w u => HV_kept d va m T Fn u (fun x r l => k x (w x r).1 l) g.1.1)
theorem plain_m (hS : SW S) (hf : f < nF_ S) : plain S f ↔ ¬ (qk S f = 9 ∨ qk S f = 10) ∧ ¬ isM S f := by
  have h1 := (hS.2.2.2.2.1 f hf).2.2.2.1
  have := hS.2.2.1
  have := hS.2.2.2.1
  unfold plain
  omega
set_option maxHeartbeats 1000000 in
theorem ww_slot_eq (hS : SW S) (hW : WS z S fa ma ea od d rec) (hH : HSc z σ S fa ma ea od) (hR : RW σ a) (hza : z ≤ a) (haz : a < sZ σ) {sl : Nat} {s : SV d} {Fn : Nat → Prop} (hs : HSl S fa (HV S fa ma d σ) σ sl s Fn) (hsl : sl < sZ σ) (hFa : ¬ Fn a) (hFz : ∀ x, Fn x → x < sZ σ) (hTZ : TZ d s.2.2.2) (hl : (sW σ a).length + (slE S (enc S od d) s).length ≤ 4000) : Rn id σ (fun bb => ww_slot bb (rec bb) (some a) (some sl) σ) (WA σ a (slE S (enc S od d) s) (slC S (wc rwS S od d) s) (slC S (wc rwC S od d) s)) := by
  obtain ⟨s13, hf, s192, s4⟩ := hs
  have hsa : sl ≠ a := fun e => by rw [e] at s13; rw [hR.1] at s13; cases s13
  obtain ⟨f, x, o, t⟩ := s
  change f < nF_ S at hf
  change sR σ 192 sl = some (fa f) at s192
  have b2 := (hH.2.1 f hf).2.1
  have hpm := plain_m hS hf
  unfold ww_slot
  refine Rn_eq (fun bb => by rw [bind_some', gd_pos s13, nm_eq, s192, bind_some', gd_pos b2, fd_wire_eq hS hH hf, bind_some']) ?_
  have hsle : (slE S (enc S od d) (f, x, o, t)) = tagE S f (wrK S f) ++ (if plain S f then numE S f x else lenE (bdE S (enc S od d) (f, x, o, t)) ++ bdE S (enc S od d) (f, x, o, t)) := rfl
  rw [hsle, List.length_append] at hl
  rw [hsle]
  refine Rn_bind (rn_tag hS hH hf hR (by omega) (wrK S f)) (fun σ1 _ g => ?_)
  have hl1 := g.len
  have hH1 := hH.frA hS hza g.2.1
  have c2 := (hH1.2.1 f hf).2.1
  have q13 : sc σ1 sl = 13 := by rw [g.2.2.1]; exact s13
  have sm := (g.2.1.2 sl hsl).2 hsa
  have haz1 : a < sZ σ1 := Nat.lt_of_lt_of_le haz g.2.1.1.1
  refine Rn_eq (fun bb => by rw [gd_pos c2, fd_plain_eq hS hH1 hf, bind_some', gd_pos (by split <;> omega)]) ?_
  by_cases cp : plain S f
  · have nM := (hpm.mp cp).2
    rw [if_neg nM] at s4
    rw [if_pos cp] at hl ⊢
    refine Rn_neg (by omega) ?_
    rw [if_pos cp]
    refine Rn_eq (fun bb => by rw [gd_pos q13, sm.2.2.2.2.2.2.2.2.1 193, s4.2.1]) ?_
    refine Rn_bind (rn_number hS hH1 hf g.rw hza (by show (sW σ1 a).length + 10 ≤ 8000000; omega) x) (fun σ2 _ g2 => Rn_some (Le.refl _) ?_)
    have := g.toW.tr g2.toW
    have e0 : ∀ cn : Nat → TV d → Nat, slC S cn (f, x, o, t) = 0 := fun cn => if_neg nM
    rw [e0, e0]
    exact this
  · rw [if_neg cp] at hl ⊢
    refine Rn_pos rfl ?_
    rw [if_neg cp]
    refine Rn_gd q13 ?_
    by_cases cm : isM S f
    · have eb : bdE S (enc S od d) (f, x, o, t) = enc S od d (qk S f - 16) t := if_pos cm
      rw [eb, List.length_append] at hl
      rw [eb]
      rw [if_pos cm] at s4
      obtain ⟨-, -, -, -, va, e195, hv⟩ := s4
      have hm : qk S f - 16 < S.1 := by
        have h1 := (hS.2.2.2.2.1 f hf).2.2.2.1
        have := hS.2.2.1
        omega
      have hv1 : HV S fa ma d σ1 va (qk S f - 16) t Fn := HV_kept d va _ t Fn hv (fun x r l => ⟨(g.2.1.2 x l).2 (fun e => hFa (by rw [← e]; exact r)), (g.2.1.2 x l).1⟩) g.2.1.1.1
      have e195' : sR σ1 195 sl = some va := by rw [sm.2.2.2.2.2.2.2.2.2 195]; exact e195
      refine Rn_bind (su := (·.2)) (J := fun r : Option Nat × ST => ∃ σ', r = (some (sZ σ1), σ') ∧ RW σ' (sZ σ1) ∧ sW σ' (sZ σ1) = enc S od d (qk S f - 16) t ∧ sZ σ1 < sZ σ' ∧ FR (fun _ => False) σ1 σ' ∧ sS σ' ≤ sS σ1 + wc rwS S od d (qk S f - 16) t ∧ sC σ' ≤ sC σ1 + wc rwC S od d (qk S f - 16) t) ?_ (fun r _ hr => ?_)
      · refine Rn_neg (by rw [e195']; exact fun w => by cases w) ?_
        rw [e195']
        refine Rn_bind (hW σ1 va _ t Fn hH1 hv1 (fun x w => Nat.lt_of_lt_of_le (hFz x w) g.2.1.1.1) hm hTZ (by omega)) (fun r _ hr => Rn_some (Le.refl _) (by
          obtain ⟨σ2, e, q1, q2, q3, q4, q5, q6, -⟩ := hr
          exact ⟨σ2, e, q1, q2, q3, q4, q5, q6⟩))
      · obtain ⟨σ2, e, q1, q2, q3, q4, q5, q6⟩ := hr
        subst e
        have w2 := g.toW.more haz q4 q5 q6
        have hl2 : (sW σ2 a).length = (sW σ a).length + (tagE S f (wrK S f)).length := w2.len
        refine Rn_bind (rn_part (b := sZ σ1) w2.2.2.1 q1.1 q2 (by omega) q3 (by show (sW σ2 a).length + _ + 10 ≤ 8000000; omega) (by omega)) (fun σ3 _ g3 => Rn_some (Le.refl _) ?_)
        have := w2.tr g3.toW
        have e0 : ∀ cn : Nat → TV d → Nat, slC S cn (f, x, o, t) = cn (qk S f - 16) t := fun cn => if_pos cm
        rw [e0, e0]
        simp only [Nat.zero_add, Nat.add_zero] at this
        exact this
    · have eb : bdE S (enc S od d) (f, x, o, t) = o := if_neg cm
      rw [eb, List.length_append] at hl
      rw [eb]
      rw [if_neg cm, if_pos (by
        by_cases w : qk S f = 9 ∨ qk S f = 10
        · exact w
        · exact absurd (hpm.mpr ⟨w, cm⟩) cp)] at s4
      obtain ⟨e195, -, -, rw', e194, k1, k2, k3, k4⟩ := s4
      have e195' : sR σ1 195 sl = none := by rw [sm.2.2.2.2.2.2.2.2.2 195]; exact e195
      have e194' : sR σ1 194 sl = some rw' := by rw [sm.2.2.2.2.2.2.2.2.2 194]; exact e194
      have hra : rw' ≠ a := fun e => hFa (by rw [← e]; exact k1)
      have k4' : sW σ1 rw' = o := by rw [((g.2.1.2 rw' k2).2 hra).1]; exact k4
      have k3' : sc σ1 rw' = 4 := by rw [g.2.2.1]; exact k3
      refine Rn_eq (fun bb => by rw [if_pos e195', bind_some', e194']) ?_
      refine Rn_bind (rn_part (b := rw') g.rw k3' k4' hra (Nat.lt_of_lt_of_le k2 g.2.1.1.1) (by show (sW σ1 a).length + _ + 10 ≤ 8000000; omega) (by omega)) (fun σ3 _ g3 => Rn_some (Le.refl _) ?_)
      have := g.toW.tr g3.toW
      have e0 : ∀ cn : Nat → TV d → Nat, slC S cn (f, x, o, t) = 0 := fun cn => if_neg cm
      rw [e0, e0]
      exact this
end Wsl
