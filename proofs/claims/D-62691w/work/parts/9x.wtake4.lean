set_option maxRecDepth 100000
/-! THE WIRE, READ: a record, as the system takes it -/
section Tn
variable {S : SC} {I : Nat → Nat} {f e q kd : Nat}
theorem bod_num (hS : SW S) (hf : f < nF_ S) (hpl : plain S f) (hk : (kd : Int) = wrK S f) : (∀ y, nmS S I f e q = some y → bodS I e kd q = some (q, y.1) ∧ nmS S I f y.1 q = some y) ∧ (nmS S I f e q = none → bodS I e kd q = none) := by
  have hw := wrK_plain hS hf
  have hr := wrK_rg S f
  have h015 : wrK S f = 0 ∨ wrK S f = 1 ∨ wrK S f = 5 := by
    have h2 : ¬ wrK S f = 2 := fun w => hw.mp w hpl
    unfold wrK at h2 ⊢
    split
    · omega
    · rename_i c6
      rw [if_neg c6] at h2
      split
      · omega
      · rename_i c7
        rw [if_neg c7] at h2
        split
        · rename_i c; rw [if_pos c] at h2; omega
        · omega
  unfold nmS bodS
  rcases h015 with h | h | h
  · rw [if_neg (by omega), if_neg (by omega), if_pos (by omega)]
    refine ⟨fun y hy => ⟨by rw [hy]; rfl, ?_⟩, fun hy => by rw [hy]; rfl⟩
    rw [if_neg (by omega), if_neg (by omega)]
    exact vrL_end _ _ _ _ _ y.1 hy (Nat.le_refl _)
  · have k1 : kd = 1 := by omega
    rw [if_pos h, if_neg (show ¬ kd = 0 by omega), if_neg (show ¬ kd = 2 by omega), if_pos (show kd = 1 ∨ kd = 5 from Or.inl k1), if_pos k1]
    unfold fxS
    refine ⟨fun y hy => ?_, fun hy => ?_⟩
    · split at hy
      · cases hy
      · rename_i c
        cases hy
        exact ⟨by rw [if_neg c], by rw [if_pos h, if_neg (by simp only; omega)]⟩
    · split at hy
      · rename_i c; rw [if_pos c]
      · cases hy
  · have k5 : kd = 5 := by omega
    rw [if_neg (show ¬ wrK S f = 1 by omega), if_pos h, if_neg (show ¬ kd = 0 by omega), if_neg (show ¬ kd = 2 by omega), if_pos (show kd = 1 ∨ kd = 5 from Or.inr k5), if_neg (show ¬ kd = 1 by omega)]
    unfold fxS
    refine ⟨fun y hy => ?_, fun hy => ?_⟩
    · split at hy
      · cases hy
      · rename_i c
        cases hy
        exact ⟨by rw [if_neg c], by rw [if_neg (by omega), if_pos h, if_neg (by simp only; omega)]⟩
    · split at hy
      · rename_i c; rw [if_pos c]
      · cases hy
def pkN (S : SC) (I : Nat → Nat) (f e : Nat) : Nat → Nat → Option (List Int64)
  | 0, _ => none
  | c + 1, p => if e ≤ p then some [] else (nmS S I f e p).bind fun r => (pkN S I f e c r.1).map (fun l => r.2 :: l)
theorem pkL_N : ∀ (c p : Nat) (acc : List Int64), pkL S I f e c p acc = (pkN S I f e c p).map (fun l => acc ++ l)
  | 0, p, acc => rfl
  | c + 1, p, acc => by
    rw [pkL, pkN]
    by_cases h : e ≤ p
    · rw [if_pos h, if_pos h]
      show some acc = some (acc ++ [])
      rw [List.append_nil]
    · rw [if_neg h, if_neg h]
      cases nmS S I f e p with
      | none => rfl
      | some r =>
        show pkL S I f e c r.1 (acc ++ [r.2]) = ((pkN S I f e c r.1).map (fun l => r.2 :: l)).map _
        rw [pkL_N c r.1]
        cases pkN S I f e c r.1 with
        | none => rfl
        | some l => show some (acc ++ [r.2] ++ l) = some (acc ++ r.2 :: l); rw [List.append_assoc]; rfl
end Tn
abbrev st3 (y : ((Option Unit × ST) ⊕ ST) ⊕ ST) : ST := match y with
  | Sum.inl u => st2 u
  | Sum.inr u => u
section To
variable {z : Nat} {S : SC} {fa ma ea : Nat → Nat} {od : Nat → List Nat} {a b n f m v d : Nat} {I : Nat → Nat} {rec : Nat × Nat → Option Nat → Option Nat → Int → Int → ST → Option (Option Unit × ST)} {dp : Int} {sp : Nat → Nat → Nat → TV d → Option (TV d)}
/-- a slot with a number is put -/
theorem num_put (hS : SW S) {σ σ1 : ST} {T : TV (d + 1)} {F : Nat → Prop} (hH : HSc z σ S fa ma ea od) (hza : z ≤ a) (hf : f < nF_ S) (hpl : plain S f) (hV : HV S fa ma (d + 1) σ v m T F) (hF : ∀ x, F x → z ≤ x ∧ x < sZ σ ∧ x ≠ a ∧ x ≠ b) (hlen : (t1 T).length < 1000) (g : FR (fun y => y = a) σ σ1) {x : Int64} (hs : Sl σ1 (sZ σ) (sZ σ) S fa f (mnt S f x) []) (hz1 : sZ σ1 = sZ σ + 1) : ∃ σ', (∀ bb, vlu_put bb v (some (sZ σ)) σ1 = some σ') ∧ HV S fa ma (d + 1) σ' v m (nuT S f T x) (fun y => F y ∨ y = sZ σ ∨ False) ∧ FR (fun y => F y ∨ y = sZ σ) σ1 σ' ∧ sS σ' = sS σ1 ∧ sC σ' = sC σ1 ∧ sZ σ' = sZ σ1 := by
  have hpm := (plain_m hS hf).mp hpl
  have hH1 := hH.ge hS g (fun y q => by rw [q]; exact hza)
  have hV1 : HV S fa ma (d + 1) σ1 v m T F := HV_kept (d + 1) v m T F hV (fun y w lt => ⟨(g.2 y lt).2 (hF y w).2.2.1, (g.2 y lt).1⟩) g.1.1
  obtain ⟨s1, s2, s3, s4, s5, s6, s7⟩ := hs
  rw [if_neg hpm.1] at s7
  have hst : HSl S fa (HV S fa ma d σ1) σ1 (sZ σ) (f, mnt S f x, [], emp d) (fun _ => False) := by
    refine ⟨s2, hf, s3, ?_⟩
    rw [if_neg hpm.2]
    refine ⟨s5, s4, ?_⟩
    rw [if_neg hpm.1]
    exact ⟨s7, rfl⟩
  exact vlu_put_eq hS hH1 (fun y w => (hF y w).1) hV1 s1 hst s6 (fun w => by have := (hF _ w).2.1; omega) (fun y _ w => w) (fun w => w) hlen
theorem wr_pkL (hS : SW S) (hza : z ≤ a) (hf : f < nF_ S) (hpl : plain S f) {e : Nat} (he : e ≤ n) (u2 u3 : Int) : ∀ (c N q : Nat) (T : TV (d + 1)) (F : Nat → Prop) (σ : ST), HSc z σ S fa ma ea od → WRd σ a b I n q → HV S fa ma (d + 1) σ v m T F → (∀ x, F x → z ≤ x ∧ x < sZ σ ∧ x ≠ a ∧ x ≠ b) → TP (d + 1) T q → q ≤ e → e + 1 ≤ c + q → c < N → Rn st3 σ (fun bb => wr_read_L138 bb (rec bb) (some a) (some v) u2 u3 (some (fa f)) (e : Int) N σ) (fun y => FR (fun x => x = a ∨ F x) σ (st3 y) ∧ (match pkN S I f e c q with | some xs => y = Sum.inr (st3 y) ∧ ∃ F', WRd (st3 y) a b I n e ∧ HV S fa ma (d + 1) (st3 y) v m (xs.foldl (nuT S f) T) F' ∧ (∀ x, F' x → F x ∨ (sZ σ ≤ x ∧ x < sZ (st3 y))) ∧ (∀ x, F x → F' x) ∧ sS (st3 y) ≤ sS σ + 8 * (e - q) ∧ sC (st3 y) ≤ sC σ + 5 * (e - q) | none => y = Sum.inl (Sum.inl (none, st3 y)) ∧ sS (st3 y) ≤ sS σ + (8 * (n - q) + 40) ∧ sC (st3 y) ≤ sC σ + (5 * (n - q) + 40)))
  | c, 0, q, T, F, σ, _, _, _, _, _, _, _, h => by omega
  | 0, N + 1, q, T, F, σ, _, _, _, _, _, hq, h1, _ => by omega
  | c + 1, N + 1, q, T, F, σ, hH, hW, hV, hF, hT, hq, h1, hN => by
    have hn := hW.2.2.2.2.2.1
    have h7 := hW.2.2.2.2.2.2.1
    have ha := hW.2.2.2.2.2.2.2.2.1
    have hz := hH.1
    rw [pkN]
    by_cases ce : e ≤ q
    · rw [if_pos ce]
      have eq : q = e := by omega
      refine Rn_eq (fun bb => by rw [wr_read_L138, bind_some', gd_pos hW.1, h7, gd_pos (by omega), gd_pos (by omega), if_pos (by omega)]) ?_
      refine Rn_some (Le.refl _) ⟨FR.refl _ _, rfl, F, eq ▸ hW, hV, fun x w => Or.inl w, fun x w => w, Nat.le_add_right _ _, Nat.le_add_right _ _⟩
    · rw [if_neg ce]
      refine Rn_eq (fun bb => by rw [wr_read_L138, bind_some', gd_pos hW.1, h7, gd_pos (by omega), gd_pos (by omega), if_neg (by omega)]) ?_
      refine Rn_tB (WRd.number hS hH hW hza hf hpl he rfl) (fun σ' _ hr => ⟨rfl, ?_⟩) (fun y σ1 _ hr => ?_)
      · obtain ⟨g, hr⟩ := hr
        cases ev : nmS S I f e q with
        | none =>
          rw [ev] at hr
          refine ⟨⟨g.1, fun x hx => ⟨(g.2 x hx).1, fun w => (g.2 x hx).2 (fun u => w (Or.inl u))⟩⟩, rfl, ?_, ?_⟩
          · have := hr.2.1; show sS σ' ≤ _; simp only at this; omega
          · have := hr.2.2; show sC σ' ≤ _; simp only at this; omega
        | some r => rw [ev] at hr; exact absurd hr.1 (by simp)
      · obtain ⟨g, hr⟩ := hr
        cases ev : nmS S I f e q with
        | none => rw [ev] at hr; exact absurd hr.1 (by simp)
        | some r =>
          rw [ev] at hr
          obtain ⟨e1, hW1, hs, z1, k1, k2⟩ := hr
          cases e1
          change FR (fun y => y = a) σ σ1 at g
          change WRd σ1 a b I n r.1 at hW1
          change Sl σ1 (sZ σ) (sZ σ) S fa f (mnt S f r.2) [] at hs
          change sZ σ1 = sZ σ + 1 at z1
          change sS σ1 = sS σ + 5 at k1
          change sC σ1 = sC σ + 1 at k2
          have rb := nmS_bd ev
          obtain ⟨σ2, p1, p2, p3, p4, p5, p6⟩ := num_put (b := b) hS hH hza hf hpl hV hF (by have := hT.1; omega) g hs z1
          have v11 : sc σ1 v = 11 := by rw [(g.2 v (hF v hV.2.2.1).2.1).1]; exact hV.1
          have nFa : ¬ F a := fun w => (hF a w).2.2.1 rfl
          have nFb : ¬ F b := fun w => (hF b w).2.2.2 rfl
          have hW2 : WRd σ2 a b I n r.1 := hW1.fr p3 (by
            rintro (w | w)
            · exact nFa w
            · omega) (by
            have hb := hW.2.2.2.2.2.2.2.2.2
            rintro (w | w)
            · exact nFb w
            · omega)
          have F02 : FR (fun x => x = a ∨ F x) σ σ2 := by
            have q1 : FR (fun x => x = a ∨ F x) σ σ1 := ⟨g.1, fun x hx => ⟨(g.2 x hx).1, fun w => (g.2 x hx).2 (fun u => w (Or.inl u))⟩⟩
            exact q1.tr p3 (fun x hx w => by
              rcases w with w | w
              · exact Or.inr w
              · omega)
          have hH2 : HSc z σ2 S fa ma ea od := hH.ge hS F02 (fun x w => by
            rcases w with w | w
            · rw [w]; exact hza
            · exact (hF x w).1)
          refine Rn_eq (fun bb => by rw [bind_some', gd_pos v11, p1 bb, bind_some']) ?_
          refine Rn_le (σ1 := σ2) ⟨by rw [p6]; exact Nat.le_refl _, by rw [p5]; exact Nat.le_refl _, by rw [p4]; exact Nat.le_refl _⟩ ?_
          refine (wr_pkL hS hza hf hpl he u2 u3 c N r.1 (nuT S f T r.2) (fun y => F y ∨ y = sZ σ ∨ False) σ2 hH2 hW2 p2 (fun x w => by
            have hb := hW.2.2.2.2.2.2.2.2.2
            rcases w with w | w | w
            · have := hF x w; omega
            · omega
            · exact w.elim) ((hT.pt (S := S) (s := (f, mnt S f r.2, [], emp d)) (TP_emp d _)).mono (by omega)) rb.2 (by omega) (by omega)).mono (fun y _ hy => ?_)
          obtain ⟨hy1, hy2⟩ := hy
          have Ff : FR (fun x => x = a ∨ F x) σ (st3 y) := F02.tr hy1 (fun x hx w => by
            rcases w with w | w | w | w
            · exact Or.inl w
            · exact Or.inr w
            · omega
            · exact w.elim)
          refine ⟨Ff, ?_⟩
          show (match (pkN S I f e c r.1).map (fun l => r.2 :: l) with | some xs => _ | none => _)
          cases ep : pkN S I f e c r.1 with
          | none =>
            rw [ep] at hy2
            exact ⟨hy2.1, by have := hy2.2.1; omega, by have := hy2.2.2; omega⟩
          | some xs =>
            rw [ep] at hy2
            obtain ⟨w1, F', w2, w3, w4, w5, w6, w7⟩ := hy2
            refine ⟨w1, F', w2, w3, fun x w => ?_, fun x w => w5 x (Or.inl w), by omega, by omega⟩
            have := hy1.1.1
            rcases w4 x w with u | u
            · rcases u with u | u | u
              · exact Or.inl u
              · right; omega
              · exact u.elim
            · right; omega
end To
