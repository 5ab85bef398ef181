set_option maxRecDepth 100000
/-! JSON, WRITTEN: values and messages, as the system writes them -/
section Jy
variable {z : Nat} {σ : ST} {S : SC} {fa ma ea : Nat → Nat} {od : Nat → List Nat} {a d : Nat} {rec : Nat × Nat → Option Nat → Option Nat → ST → Option ST}
theorem sk_16 (hS : SW S) {f : Nat} (hf : f < nF_ S) : ((sk S f : Nat) : Int) = 16 ↔ isM S f := by
  have := (hS.2.2.2.2.1 f hf).2.2.2.1
  have := hS.2.2.1
  have := hS.2.2.2.1
  unfold sk ks
  split
  · exact ⟨fun _ => by assumption, fun _ => rfl⟩
  · rename_i c
    refine ⟨fun q => ?_, fun q => absurd q c⟩
    split at q <;> omega
theorem numT_len (x : Int64) (u : Bool) : (numT x u).length ≤ 22 := by
  unfold numT dec
  split
  · have := decR_len 21 (un x); omega
  · have := decR_len 21 (un (-x)); rw [List.length_cons]; omega
set_option maxHeartbeats 4000000 in
theorem jw_slot_eq (hS : SW S) (hR' : JWc z S fa ma ea od a d rec) (hHn : HSn a z σ S fa ma ea od) (hR : RW σ a) (haz : a < sZ σ) {sl : Nat} {s : SV d} {Fn : Nat → Prop} (hs : HSl S fa (HV S fa ma d σ) σ sl s Fn) (hsl : sl < sZ σ) (hFa : ¬ Fn a) (hFz : ∀ x, Fn x → x < sZ σ) (hTZ : TZ d s.2.2.2) (hTS : s.2.2.1.length ≤ 1000 ∧ TS d s.2.2.2) (hl : (sW σ a).length + (slT S (js S od d) s).length ≤ 6000000) : Rn id σ (fun bb => jw_slot bb (rec bb) (some a) (some sl) σ) (RA σ a (slT S (js S od d) s)) := by
  have hH := hHn.1
  obtain ⟨s13, hf, s192, s4⟩ := hs
  have hsa : sl ≠ a := fun e => by rw [e] at s13; rw [hR.1] at s13; cases s13
  obtain ⟨f, x, o, t⟩ := s
  change f < nF_ S at hf
  change sR σ 192 sl = some (fa f) at s192
  change TZ d t at hTZ
  change o.length ≤ 1000 ∧ TS d t at hTS
  obtain ⟨b1, b2, b3, b4, b5, b6, b7, b8, b9, b10, b11, b12, -⟩ := hH.2.1 f hf
  have hsk := (hS.2.2.2.2.1 f hf).2.2.2.1
  have hM := hS.2.2.1
  have hE := hS.2.2.2.1
  have h32 : sk S f ≤ 32 := by
    unfold sk ks
    split
    · omega
    · split <;> omega
  have e16 := sk_16 hS hf
  have e32 := sk_32 hS hf
  have ek := fun (k : Nat) (hk : k ≤ 10) => sk_is hS hf k hk (x := (k : Int)) rfl
  have hlx : (sW σ a).length ≤ 6000000 := by omega
  unfold jw_slot
  refine Rn_eq (fun bb => by rw [bind_some', gd_pos s13, nm_eq, s192, bind_some', gd_pos b2, b7, gd_pos (by omega), gd_pos (by omega)]) ?_
  -- whether it is quoted
  obtain ⟨qd, hqd⟩ : ∃ qd : Bool, qd = decide (qk S f = 1 ∨ qk S f = 3 ∨ qk S f = 5 ∨ qk S f = 7) := ⟨_, rfl⟩
  have e14 : (if ((((sk S f : Nat) : Int) = 1 ∨ ((sk S f : Nat) : Int) = 3) ∨ ((sk S f : Nat) : Int) = 5) ∨ ((sk S f : Nat) : Int) = 7 then (some 1) else (some 0) : Option Int) = some (if qd = true then 1 else 0) := by
    have k1 := ek 1 (by omega)
    have k3 := ek 3 (by omega)
    have k5 := ek 5 (by omega)
    have k7 := ek 7 (by omega)
    rw [hqd]
    by_cases c : qk S f = 1 ∨ qk S f = 3 ∨ qk S f = 5 ∨ qk S f = 7
    · rw [if_pos (by omega), if_pos (decide_eq_true c)]
    · rw [if_neg (by omega), if_neg (by rw [decide_eq_true_iff]; exact c)]
  refine Rn_pure e14 ?_
  -- a message
  by_cases cM : isM S f
  · have es : slT S (js S od d) (f, x, o, t) = js S od d (qk S f - 16) t := by unfold slT; rw [if_pos cM]
    rw [es] at hl ⊢
    rw [if_pos cM] at s4
    obtain ⟨-, -, -, -, va, e195, hv⟩ := s4
    change HV S fa ma d σ va (qk S f - 16) t Fn at hv
    refine Rn_pure (y := none) (by rw [if_neg (fun q => by have := e32.mp q; omega)]) ?_
    refine Rn_gd (by omega) ?_
    refine Rn_pos (e16.mpr cM) ?_
    refine Rn_eq (fun bb => by rw [e195]) ?_
    exact Rn_bind (hR' σ va (qk S f - 16) t Fn hHn hv hR haz hFa hFz (by omega) hTZ hTS.2 hl) (fun σ1 _ g => Rn_some (Le.refl _) g)
  · rw [if_neg cM] at s4
    obtain ⟨e195, e193, s5⟩ := s4
    change sJ σ 193 sl = x at e193
    have n16 : ¬ ((sk S f : Nat) : Int) = 16 := fun q => cM (e16.mp q)
    -- a name of an enum
    have e25 : ∃ o25 : Option Nat, (if ((sk S f : Nat) : Int) = 32 then (Option.bind (sR σ 138 (fa f)) fun p119 => gd (sc σ p119 = 8) (Option.bind (et_nameOf p119 (sJ σ 193 sl) σ) fun y122 => some y122)) else (some none) : Option (Option Nat)) = some o25 ∧ (if 32 ≤ qk S f then (match vno S (qk S f - 32) x with | some v => ∃ r, o25 = some r ∧ r < z ∧ sc σ r = 4 ∧ sW σ r = vw_ S v ∧ ∀ a, NR a σ S fa ea → r ≠ a | none => o25 = none) else o25 = none) := by
      by_cases c : 32 ≤ qk S f
      · rw [if_pos c] at b12
        have he : qk S f - 32 < S.2.1 := by omega
        have h8 := (hH.2.2.2.2.2 _ he).2.1
        obtain ⟨o25, p1, p2⟩ := et_nameOf_eq hS hH he x
        refine ⟨o25, ?_, ?_⟩
        · rw [if_pos (e32.mpr c), b12, bind_some', gd_pos h8, e193, p1, bind_some']
        · rw [if_pos c]; exact p2
      · refine ⟨none, by rw [if_neg (fun q => c (e32.mp q))], by rw [if_neg c]⟩
    obtain ⟨o25, p1, p2⟩ := e25
    refine Rn_pure p1 ?_
    refine Rn_gd (by omega) ?_
    refine Rn_neg n16 ?_
    by_cases c9 : qk S f = 9
    · have es : slT S (js S od d) (f, x, o, t) = escT o := by unfold slT; rw [if_neg cM, if_pos c9]
      rw [es] at hl ⊢
      rw [if_pos (Or.inl c9)] at s5
      obtain ⟨-, rw', r1, r2, r3, r4, r5⟩ := s5
      refine Rn_pos ((ek 9 (by omega)).mpr c9) ?_
      refine Rn_eq (fun bb => by rw [r1]) ?_
      exact Rn_bind (rn_text hTS.1 (fun e => hFa (by rw [← e]; exact r2)) r3 r4 r5 hR (by omega)) (fun σ1 _ g => Rn_some (Le.refl _) g)
    · refine Rn_neg (fun q => c9 ((ek 9 (by omega)).mp q)) ?_
      by_cases c10 : qk S f = 10
      · have es : slT S (js S od d) (f, x, o, t) = b64T o := by unfold slT; rw [if_neg cM, if_neg c9, if_pos c10]
        rw [es] at hl ⊢
        rw [if_pos (Or.inr c10)] at s5
        obtain ⟨-, rw', r1, r2, r3, r4, r5⟩ := s5
        refine Rn_pos ((ek 10 (by omega)).mpr c10) ?_
        refine Rn_eq (fun bb => by rw [r1]) ?_
        exact Rn_bind (rn_base hTS.1 (fun e => hFa (by rw [← e]; exact r2)) r3 r4 r5 hR (by omega)) (fun σ1 _ g => Rn_some (Le.refl _) g)
      · refine Rn_neg (fun q => c10 ((ek 10 (by omega)).mp q)) ?_
        have es : slT S (js S od d) (f, x, o, t) = nvT S f x := by unfold slT; rw [if_neg cM, if_neg c9, if_neg c10]
        rw [es] at hl ⊢
        unfold nvT
        by_cases c8 : qk S f = 8
        · rw [if_pos c8]
          refine Rn_pos ((ek 8 (by omega)).mpr c8) ?_
          have l34 : slen 3 ≤ 100 ∧ slen 4 ≤ 100 := by decide +kernel
          by_cases c0 : x = 0
          · rw [if_pos c0]
            refine Rn_eq (fun bb => by rw [e193, if_pos c0, bind_some', bind_some', gd_pos hR.1]) ?_
            exact Rn_bind (rn_addT 4 l34.2 hR (by omega)) (fun σ1 _ g => Rn_some (Le.refl _) g)
          · rw [if_neg c0]
            refine Rn_eq (fun bb => by rw [e193, if_neg c0, bind_some', bind_some', gd_pos hR.1]) ?_
            exact Rn_bind (rn_addT 3 l34.1 hR (by omega)) (fun σ1 _ g => Rn_some (Le.refl _) g)
        · rw [if_neg c8]
          refine Rn_neg (fun q => c8 ((ek 8 (by omega)).mp q)) ?_
          -- a number
          have num : ∀ (ub : Bool), (ub = decide (qk S f = 3 ∨ qk S f = 7)) → Rn id σ (fun bb => (Option.bind (gd (rg (if qd = true then (1 : Int) else 0)) (if (if qd = true then (1 : Int) else 0) = 0 then (some σ) else (Option.bind (some a) fun p90 => gd (sc σ p90 = 4) (Option.bind (r_add bb p90 34 σ) fun y93 => some y93)))) fun (v60 : ST) => gd (sc v60 sl = 13) (gd (sc v60 (fa f) = 9) (Option.bind (gd (rg (sI v60 132 (fa f))) (if ((sI v60 132 (fa f)) = 3) ∨ ((sI v60 132 (fa f)) = 7) then (some 1) else (some 0))) fun (v70 : Int) => Option.bind (jw_number bb (some a) (sJ v60 193 sl) v70 v60) fun y74 => gd (rg (if qd = true then (1 : Int) else 0)) (if (if qd = true then (1 : Int) else 0) = 0 then (some y74) else (Option.bind (some a) fun p77 => gd (sc y74 p77 = 4) (Option.bind (r_add bb p77 34 y74) fun y80 => some y80))))))) (RA σ a (if qd = true then 34 :: (numT x ub ++ [34]) else numT x ub)) := fun ub hub => by
            have core : ∀ (σ1 : ST) (u : List UInt8), RA σ a u σ1 → u.length ≤ 1 → Rn id σ1 (fun bb => gd (sc σ1 sl = 13) (gd (sc σ1 (fa f) = 9) (Option.bind (gd (rg (sI σ1 132 (fa f))) (if ((sI σ1 132 (fa f)) = 3) ∨ ((sI σ1 132 (fa f)) = 7) then (some 1) else (some 0))) fun (v70 : Int) => Option.bind (jw_number bb (some a) (sJ σ1 193 sl) v70 σ1) fun y74 => gd (rg (if qd = true then (1 : Int) else 0)) (if (if qd = true then (1 : Int) else 0) = 0 then (some y74) else (Option.bind (some a) fun p77 => gd (sc y74 p77 = 4) (Option.bind (r_add bb p77 34 y74) fun y80 => some y80)))))) (RA σ a (u ++ (numT x ub ++ if qd = true then [34] else []))) := fun σ1 u g hu => by
              have q13 : sc σ1 sl = 13 := by rw [g.2.2.1]; exact s13
              have q9 : sc σ1 (fa f) = 9 := by rw [g.2.2.1]; exact b2
              have hfaa : fa f ≠ a := fun e => by rw [e, hR.1] at b2; cases b2
              have q132 : sI σ1 132 (fa f) = (sk S f : Int) := by rw [((g.2.1.2 (fa f) (by have := hH.1; omega)).2 hfaa).2.2.2.2.2.2.2.1]; exact b7
              have q193 : sJ σ1 193 sl = x := by rw [((g.2.1.2 sl hsl).2 hsa).2.2.2.2.2.2.2.2.1]; exact e193
              have hl1 := g.len
              have e70 : (if (((sk S f : Nat) : Int) = 3) ∨ (((sk S f : Nat) : Int) = 7) then (some 1) else (some 0) : Option Int) = some (if ub = true then 1 else 0) := by
                have k3 := ek 3 (by omega)
                have k7 := ek 7 (by omega)
                rw [hub]
                by_cases c : qk S f = 3 ∨ qk S f = 7
                · rw [if_pos (by omega), if_pos (decide_eq_true c)]
                · rw [if_neg (by omega), if_neg (by rw [decide_eq_true_iff]; exact c)]
              refine Rn_eq (fun bb => by rw [gd_pos q13, gd_pos q9, q132, gd_pos (by omega), e70, bind_some', q193]) ?_
              refine Rn_bind (rn_jnum g.rw (by omega) x (b := ub) rfl) (fun σ2 _ g2 => ?_)
              have g3 := g.tr g2
              have hl2 := g3.len
              have hn := numT_len x ub
              rw [List.length_append] at hl2
              by_cases cq : qd = true
              · rw [if_pos cq, if_pos cq]
                refine Rn_eq (fun bb => by rw [gd_pos (by omega), if_neg (by omega), bind_some', gd_pos g3.rw.1]) ?_
                refine Rn_bind (rn_add g3.rw (by show (sW σ2 a).length < _; omega) 34) (fun σ3 _ g4 => Rn_some (Le.refl _) ?_)
                have := g3.tr g4
                rw [List.append_assoc] at this
                exact this
              · rw [if_neg cq, if_neg cq]
                refine Rn_eq (fun bb => by rw [gd_pos (by omega), if_pos rfl]) ?_
                refine Rn_some (Le.refl _) ?_
                rw [List.append_nil]; exact g3
            by_cases cq : qd = true
            · rw [if_pos cq] at core
              rw [if_pos cq] at core
              rw [if_pos cq, if_pos cq]
              refine Rn_eq (fun bb => by rw [gd_pos (by omega), if_neg (by omega), bind_some', gd_pos hR.1]) ?_
              refine Rn_bind (su := id) (J := RA σ a [u8 34]) (Rn_bind (rn_add hR (by omega) 34) (fun σ1 _ g => Rn_some (Le.refl _) g)) (fun σ1 _ g => ?_)
              refine (core σ1 _ g (by simp)).mono (fun σ2 _ g2 => ?_)
              exact g2
            · rw [if_neg cq] at core
              rw [if_neg cq] at core
              rw [if_neg cq, if_neg cq]
              refine Rn_eq (fun bb => by rw [gd_pos (by omega), if_pos rfl, bind_some']) ?_
              refine (core σ [] (RA.nil hR) (by simp)).mono (fun σ2 _ g2 => ?_)
              rw [List.nil_append, List.append_nil] at g2
              exact g2
          by_cases c32 : 32 ≤ qk S f
          · rw [if_pos c32] at p2 ⊢
            have hqf : qd = false := by rw [hqd, decide_eq_false_iff_not]; omega
            cases ev : vno S (qk S f - 32) x with
            | none =>
              rw [ev] at p2
              rw [p2]
              refine Rn_pos rfl ?_
              have := num false (by symm; rw [decide_eq_false_iff_not]; omega)
              rw [hqf] at this
              rw [hqf]
              exact this
            | some vv' =>
              rw [ev] at p2
              obtain ⟨r, r1, r2, r3, r4, r5⟩ := p2
              rw [r1]
              refine Rn_neg (by simp) ?_
              have hvo := vno_ok S (qk S f - 32) x
              rw [ev] at hvo
              have h24 := (hS.2.2.2.2.2.2.2.1 vv' hvo.1).2.1
              exact Rn_bind (rn_text (by omega) (r5 a hHn.2) (by have := hH.1; omega) r3 r4 hR (by omega)) (fun σ1 _ g => Rn_some (Le.refl _) g)
          · rw [if_neg c32] at p2 ⊢
            rw [p2]
            refine Rn_pos rfl ?_
            by_cases cq : qk S f = 1 ∨ qk S f = 3 ∨ qk S f = 5 ∨ qk S f = 7
            · rw [if_pos cq]
              have hqt : qd = true := by rw [hqd]; exact decide_eq_true cq
              have := num (decide (qk S f = 3 ∨ qk S f = 7)) rfl
              rw [hqt] at this
              rw [hqt]
              exact this
            · rw [if_neg cq]
              have hqf : qd = false := by rw [hqd]; exact decide_eq_false cq
              have := num false (by symm; rw [decide_eq_false_iff_not]; omega)
              rw [hqf] at this
              rw [hqf]
              exact this
end Jy
