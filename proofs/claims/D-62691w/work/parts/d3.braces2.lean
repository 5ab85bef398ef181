set_option maxRecDepth 100000
/-! ROOM: commas and braces of what toJson writes, whole -/
section D3
variable {S : SC} {I : Nat → Nat} {n d f m p e : Nat} {od : Nat → List Nat} {sp : Nat → Nat → Nat → TV d → Option (TV d)}
theorem st_cKb (hS : SW S) (hN : SN S) (hB : LKb S od sp) {r : Nat × Nat × Nat × Nat} {T T1 : TV (d + 1)} {g : Nat} (ev : fldS I e p = some r) (hg : rgt S m r.1 r.2.1 = some g) (h : stR1 S I sp m r T = some T1) : cKb S (js S od d) T1 g ≤ cKb S (js S od d) T g + (r.2.2.2 - p) := by
  obtain ⟨hgn, hgm, hkd⟩ := rgt_in hg
  obtain ⟨fb1, fb2, fb3, -⟩ := fldS_bd ev
  have hsk := (hS.2.2.2.2.1 g hgn).2.2.2.1
  have hM10 := hS.2.2.1
  have hE6 := hS.2.2.2.1
  have r01 := (hS.2.2.2.2.1 g hgn).2.2.2.2.2.2.1
  have hpm := plain_m hS hgn
  by_cases hr : qr S g = 1
  · obtain ⟨-, h2⟩ := st_rows (f := g) hS ev hg h
    obtain ⟨hp, hnp⟩ := h2 rfl hr
    by_cases hpl : plain S g
    · obtain ⟨xs, px, ex⟩ := hp hpl
      have hx := pkN_len px fb2
      have gg := cK_growb (J := js S od d) hN hgn hr ex (k := 1 * xs.length) (by
        rw [List.map_map, List.map_map]
        refine sum_c xs _ 1 (fun x _ => ?_)
        have := kc_plb (J := js S od d) (s := ((g, mnt S g x, [], emp d) : SV d)) hS hN hgn hpl
        show kcb (slT S (js S od d) ((g, mnt S g x, [], emp d) : SV d)) + 1 ≤ 1
        omega)
      omega
    · obtain ⟨s, hs, ex⟩ := hnp hpl
      have k2 : r.2.1 = 2 := by
        rcases hkd with q | q
        · have := (wrK_plain hS hgn).mpr hpl; omega
        · exact q.2.2
      have f2 := fldS_2 ev k2
      have hsl : kcb (slT S (js S od d) s) ≤ r.2.2.2 - r.2.2.1 + 1 := by
        by_cases cM : isM S g
        · rw [if_pos cM] at hs
          obtain ⟨T2, es, em⟩ := hs
          have := hB _ _ _ _ _ (by omega) fb2 em
          have := kc_empb (S := S) (od := od) d (qk S g - 16)
          have e1 : slT S (js S od d) s = js S od d (qk S g - 16) T2 := by rw [es]; unfold slT; rw [if_pos cM]
          rw [e1]; omega
        · rw [if_neg cM] at hs
          have := kc_txb (J := js S od d) (s := s) hS (by rw [hs]; exact hgn) (by rw [hs]; exact hpl) (by rw [hs]; exact cM)
          have e2 : s.2.2.1 = cut I r.2.2.1 r.2.2.2 := by rw [hs]
          rw [e2, cut_len] at this
          omega
      have gg := cK_growb (J := js S od d) hN hgn hr ex (k := 2 + (r.2.2.2 - r.2.2.1)) (by
        show kcb (slT S (js S od d) s) + 1 + 0 ≤ _
        omega)
      omega
  · rw [cK_1b hN hgn hr, cK_1b hN hgn hr]
    have one : ∀ s : SV d, s.1 = g → T1 = put S T s → kcb (slT S (js S od d) s) + 1 ≤ r.2.2.2 - p → (match hdS g (t1 T1) with | none => 0 | some s => kcb (slT S (js S od d) s) + 1) ≤ (match hdS g (t1 T) with | none => 0 | some s => kcb (slT S (js S od d) s) + 1) + (r.2.2.2 - p) := fun s hs hT h1 => by
      have := (put_hd (S := S) (f := g) (T := T) (s := s) (by rw [hs]; exact hr)).2
      have this' : hdS g (t1 (put S T s)) = if dps S s then none else some s := hs ▸ this
      rw [hT, this']
      by_cases c : dps S s
      · rw [if_pos c]; exact Nat.zero_le _
      · rw [if_neg c]
        show kcb (slT S (js S od d) s) + 1 ≤ _
        omega
    unfold stR1 at h
    rw [hg] at h
    change (if plain S g then _ else _) = some T1 at h
    by_cases hpl : plain S g
    · rw [if_pos hpl] at h
      have k2 : r.2.1 ≠ 2 := fun q => by
        rcases hkd with w | w
        · exact absurd hpl ((wrK_plain hS hgn).mp (by omega))
        · exact hr w.1
      rw [if_neg k2] at h
      cases ep : nmS S I g r.2.2.2 r.2.2.1 with
      | none => rw [ep] at h; cases h
      | some y =>
        rw [ep] at h
        cases h
        have nb := nmS_bd ep
        have := kc_plb (J := js S od d) (s := ((g, mnt S g y.2, [], emp d) : SV d)) hS hN hgn hpl
        exact one (g, mnt S g y.2, [], emp d) rfl rfl (by omega)
    · rw [if_neg hpl] at h
      have k2 : r.2.1 = 2 := by
        rcases hkd with q | q
        · have := (wrK_plain hS hgn).mpr hpl; omega
        · exact q.2.2
      have f2 := fldS_2 ev k2
      by_cases cM : isM S g
      · rw [if_pos cM, if_neg hr] at h
        cases es : sp (qk S g - 16) r.2.2.1 r.2.2.2 (subT g T) with
        | none => rw [es] at h; cases h
        | some T2 =>
          rw [es] at h
          cases h
          have hb := hB _ _ _ _ _ (by omega) fb2 es
          have e1 : slT S (js S od d) ((g, 0, [], T2) : SV d) = js S od d (qk S g - 16) T2 := by unfold slT; rw [if_pos cM]
          unfold subT at hb
          cases eh : hdS g (t1 T) with
          | none =>
            rw [eh] at hb
            have hb' : kcb (js S od d (qk S g - 16) T2) ≤ kcb (js S od d (qk S g - 16) (emp d)) + (r.2.2.2 - r.2.2.1) := hb
            have := kc_empb (S := S) (od := od) d (qk S g - 16)
            have := one (g, 0, [], T2) rfl rfl (by rw [e1]; omega)
            rw [eh] at this
            exact this
          | some s0 =>
            rw [eh] at hb
            have hb' : kcb (js S od d (qk S g - 16) T2) ≤ kcb (js S od d (qk S g - 16) s0.2.2.2) + (r.2.2.2 - r.2.2.1) := hb
            have h0 := hdS_f eh
            have e0 : slT S (js S od d) s0 = js S od d (qk S g - 16) s0.2.2.2 := by unfold slT; rw [h0, if_pos cM]
            have := (put_hd (S := S) (f := g) (T := T) (s := ((g, 0, [], T2) : SV d)) hr).2
            have hp : hdS g (t1 (put S T ((g, 0, [], T2) : SV d))) = if dps S ((g, 0, [], T2) : SV d) then none else some (g, 0, [], T2) := this
            rw [hp, if_neg (show ¬ dps S ((g, 0, [], T2) : SV d) from fun w => w.1.1 cM)]
            show kcb (slT S (js S od d) ((g, 0, [], T2) : SV d)) + 1 ≤ kcb (slT S (js S od d) s0) + 1 + (r.2.2.2 - p)
            rw [e1, e0]
            omega
      · rw [if_neg cM] at h
        split at h
        · cases h
        · cases h
          have := kc_txb (J := js S od d) (s := ((g, 0, cut I r.2.2.1 r.2.2.2, emp d) : SV d)) hS hgn hpl cM
          have e2 : ((g, 0, cut I r.2.2.1 r.2.2.2, emp d) : SV d).2.2.1.length = r.2.2.2 - r.2.2.1 := cut_len _ _ _
          rw [e2] at this
          exact one (g, 0, cut I r.2.2.1 r.2.2.2, emp d) rfl rfl (by omega)
theorem st_KLb (hS : SW S) (hN : SN S) (hO : OD S od) (hm : m < S.1) (hB : LKb S od sp) {r : Nat × Nat × Nat × Nat} {T T1 : TV (d + 1)} (ev : fldS I e p = some r) (h : stR1 S I sp m r T = some T1) : KLb S od (d + 1) m T1 ≤ KLb S od (d + 1) m T + (r.2.2.2 - p) := by
  cases er : rgt S m r.1 r.2.1 with
  | none =>
    unfold stR1 at h
    rw [er] at h
    cases h
    omega
  | some g =>
    have o3 := (hO m hm).2.1
    have nd : (od m).Nodup := (o3.imp (fun {a b} w q => by rw [q] at w; exact Nat.lt_irrefl _ w))
    refine sum_le1 (a := g) (fun f hf hfg => ?_) (st_cKb hS hN hB ev er h) nd
    have e1 := st_other hS er hfg h
    have e2 := (st_rows (f := f) hS ev er h).1 (fun q => hfg q.symm)
    have hfn : f < nF_ S := (((hO m hm).1 f).mp hf).1
    by_cases hr : qr S f = 1
    · rw [cK_2b hN hfn hr, cK_2b hN hfn hr, e2]; exact Nat.le_refl _
    · rw [cK_1b hN hfn hr, cK_1b hN hfn hr, e1]
      by_cases c : goes S g f
      · rw [if_pos c]; exact Nat.zero_le _
      · rw [if_neg c]; exact Nat.le_refl _
theorem msgL_KLb (hS : SW S) (hN : SN S) (hO : OD S od) (hm : m < S.1) (hB : LKb S od sp) : ∀ (c p : Nat) (T T' : TV (d + 1)), p ≤ e → msgL S I sp m e c p T = some T' → KLb S od (d + 1) m T' ≤ KLb S od (d + 1) m T + (e - p)
  | 0, p, T, T', _, h => by cases h
  | c + 1, p, T, T', hp, h => by
    rw [msgL] at h
    split at h
    · cases h; omega
    · cases ev : fldS I e p with
      | none => rw [ev] at h; cases h
      | some r =>
        rw [ev] at h
        change ((stR1 S I sp m r T).bind _) = _ at h
        obtain ⟨b1, b2, b3, -⟩ := fldS_bd ev
        cases es : stR1 S I sp m r T with
        | none => rw [es] at h; cases h
        | some T1 =>
          rw [es] at h
          have w1 := st_KLb hS hN hO hm hB ev es
          have w2 := msgL_KLb hS hN hO hm hB c _ _ _ b3 h
          omega
theorem msgS_LKb (hS : SW S) (hN : SN S) (hO : OD S od) : ∀ d, LKb S od (msgS S I d)
  | 0 => fun m p e T T' _ _ h => by cases h
  | d + 1 => fun m p e T T' hm hp h => by
    have := msgL_KLb hS hN hO hm (msgS_LKb hS hN hO d) _ _ _ _ hp h
    rw [js_kcb, js_kcb]
    omega
/-- toJson writes at most as many commas as it reads bytes -/
theorem toJ4_kcb (hS : SW S) (hN : SN S) (hO : OD S od) (hm : m < S.1) {w : List UInt8} (h : toJ4 S od I n m = some w) : kcb w ≤ n + 1 := by
  unfold toJ4 toJ at h
  cases e : msgS S I 8 m 0 n (emp 8) with
  | none => rw [e] at h; cases h
  | some T =>
    rw [e] at h
    have h : (if (js S od 8 m T).length ≤ 4000 then some (js S od 8 m T) else none) = some w := h
    by_cases c : (js S od 8 m T).length ≤ 4000
    · rw [if_pos c] at h
      cases h
      have := msgS_LKb hS hN hO 8 m 0 n _ _ hm (Nat.zero_le _) e
      have := kc_empb (S := S) (od := od) 8 m
      omega
    · rw [if_neg c] at h; cases h
end D3
