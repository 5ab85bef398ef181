set_option maxRecDepth 100000
/-! JSON OF THE WIRE: rows, as the reference writes them -/
section Rx
variable {S : SC} {I : Nat → Nat} {n d f m base : Nat} {od : Nat → List Nat} {rec : Int → Int → Int → TT → Option TT}
theorem put_t2 {T : TV (d + 1)} {s : SV d} : t2 (put S T s) = if qr S s.1 = 1 then t2 T ++ [s] else t2 T := by
  unfold put
  split
  · rfl
  · split <;> rfl
theorem rws_put {T : TV (d + 1)} {s : SV d} : (s.1 ≠ f → rws f (t2 (put S T s)) = rws f (t2 T)) ∧ (s.1 = f → qr S f = 1 → rws f (t2 (put S T s)) = rws f (t2 T) ++ [s]) := by
  rw [put_t2]
  refine ⟨fun h => ?_, fun h hr => ?_⟩
  · split
    · rw [rws_app, rws_none (l := [s]) (fun x hx => by rw [List.mem_singleton.mp hx]; exact h), List.append_nil]
    · rfl
  · rw [if_pos (by rw [h]; exact hr), rws_app, rws_all (l := [s]) (fun x hx => by rw [List.mem_singleton.mp hx]; exact h)]
theorem rws_nus {g : Nat} : ∀ (xs : List Int64) (T : TV (d + 1)), (g ≠ f → rws f (t2 (xs.foldl (nuT S g) T)) = rws f (t2 T)) ∧ (g = f → qr S f = 1 → rws f (t2 (xs.foldl (nuT S g) T)) = rws f (t2 T) ++ xs.map (fun x => (f, mnt S f x, [], emp d)))
  | [], T => ⟨fun _ => rfl, fun _ _ => by rw [List.map_nil, List.append_nil]; rfl⟩
  | x :: xs, T => by
    obtain ⟨h1, h2⟩ := rws_nus (g := g) xs (nuT S g T x)
    have q := rws_put (f := f) (T := T) (S := S) (s := (g, mnt S g x, [], emp d))
    refine ⟨fun h => ?_, fun h hr => ?_⟩
    · rw [List.foldl_cons, h1 h]; exact q.1 h
    · rw [List.foldl_cons, h2 h hr]
      have := q.2 h hr
      unfold nuT
      rw [this, List.map_cons, List.append_assoc, h]
      rfl
theorem st_rows (hS : SW S) {sp : Nat → Nat → Nat → TV d → Option (TV d)} {e p : Nat} {r : Nat × Nat × Nat × Nat} {T T1 : TV (d + 1)} {g : Nat} (ev : fldS I e p = some r) (hg : rgt S m r.1 r.2.1 = some g) (h : stR1 S I sp m r T = some T1) : (g ≠ f → rws f (t2 T1) = rws f (t2 T)) ∧ (g = f → qr S f = 1 → (plain S f → ∃ xs, pkN S I f r.2.2.2 (r.2.2.2 - r.2.2.1 + 1) r.2.2.1 = some xs ∧ rws f (t2 T1) = rws f (t2 T) ++ xs.map (fun x => (f, mnt S f x, [], emp d))) ∧ (¬ plain S f → ∃ s : SV d, (if isM S f then ∃ T2, s = (f, 0, [], T2) ∧ sp (qk S f - 16) r.2.2.1 r.2.2.2 (emp d) = some T2 else s = (f, 0, cut I r.2.2.1 r.2.2.2, emp d)) ∧ rws f (t2 T1) = rws f (t2 T) ++ [s])) := by
  obtain ⟨hgn, hgm, hkd⟩ := rgt_in hg
  obtain ⟨fb1, fb2, fb3, -⟩ := fldS_bd ev
  unfold stR1 at h
  rw [hg] at h
  change (if plain S g then _ else _) = some T1 at h
  by_cases hpl : plain S g
  · rw [if_pos hpl] at h
    by_cases k2 : r.2.1 = 2
    · rw [if_pos k2] at h
      cases ep : pkS S I g r.2.2.1 r.2.2.2 with
      | none => rw [ep] at h; cases h
      | some xs =>
        rw [ep] at h
        cases h
        have q := rws_nus (S := S) (f := f) (g := g) xs T
        refine ⟨q.1, fun hgf hr => ⟨fun _ => ⟨xs, ?_, q.2 hgf hr⟩, fun w => absurd (by rw [← hgf]; exact hpl) w⟩⟩
        unfold pkS at ep
        rw [pkL_N] at ep
        rw [hgf] at ep
        cases en : pkN S I f r.2.2.2 (r.2.2.2 - r.2.2.1 + 1) r.2.2.1 with
        | none => rw [en] at ep; cases ep
        | some ys => rw [en] at ep; cases ep; rfl
    · rw [if_neg k2] at h
      have hkw : (r.2.1 : Int) = wrK S g := by
        rcases hkd with w | w
        · exact w
        · exact absurd w.2.2 k2
      obtain ⟨x, nx, -⟩ := own_num hS hgn hpl ev hkw
      rw [nx] at h
      cases h
      have nb := nmS_bd nx
      simp only at nb
      have q := rws_put (f := f) (T := T) (S := S) (s := (g, mnt S g x, [], emp d))
      refine ⟨q.1, fun hgf hr => ⟨fun _ => ⟨[x], ?_, ?_⟩, fun w => absurd (by rw [← hgf]; exact hpl) w⟩⟩
      · rw [← hgf]
        obtain ⟨c, hc⟩ : ∃ c, r.2.2.2 - r.2.2.1 = c + 1 := ⟨r.2.2.2 - r.2.2.1 - 1, by omega⟩
        rw [hc, pkN, if_neg (by omega), nx]
        show (pkN S I g r.2.2.2 (c + 1) r.2.2.2).map _ = _
        rw [pkN, if_pos (Nat.le_refl _)]
        rfl
      · have := q.2 hgf hr
        show rws f (t2 (put S T (g, mnt S g x, [], emp d))) = _
        rw [this, hgf]; rfl
  · rw [if_neg hpl] at h
    by_cases cM : isM S g
    · rw [if_pos cM] at h
      cases es : sp (qk S g - 16) r.2.2.1 r.2.2.2 (if qr S g = 1 then emp d else subT g T) with
      | none => rw [es] at h; cases h
      | some T2 =>
        rw [es] at h
        cases h
        have q := rws_put (f := f) (T := T) (S := S) (s := (g, 0, [], T2))
        refine ⟨q.1, fun hgf hr => ⟨fun w => absurd (by rw [hgf]; exact w) hpl, fun _ => ⟨(f, 0, [], T2), ?_, ?_⟩⟩⟩
        · rw [if_pos (by rw [← hgf]; exact cM)]
          refine ⟨T2, rfl, ?_⟩
          rw [hgf, if_pos hr] at es
          exact es
        · have := q.2 hgf hr
          rw [hgf] at this ⊢
          exact this
    · rw [if_neg cM] at h
      split at h
      · cases h
      · cases h
        have q := rws_put (f := f) (T := T) (S := S) (s := (g, 0, cut I r.2.2.1 r.2.2.2, emp d))
        refine ⟨q.1, fun hgf hr => ⟨fun w => absurd (by rw [hgf]; exact w) hpl, fun _ => ⟨(f, 0, cut I r.2.2.1 r.2.2.2, emp d), ?_, ?_⟩⟩⟩
        · rw [if_neg (by rw [← hgf]; exact cM)]
        · have := q.2 hgf hr
          rw [hgf] at this ⊢
          exact this
set_option maxHeartbeats 4000000 in
theorem m_rw_22 (hS : SW S) (hN : SN S) (hPM : PM S I n od d rec) (hf : f < nF_ S) (hr1 : qr S f = 1) (hm : m < S.1) (b : Bool) (u4 : Int) {u7 e : Nat} (hu7 : u7 < base) (hb : base + 1 + 501 * d ≤ 8500) (he : e ≤ n) : ∀ (c N q : Nat) (T T' : TV (d + 1)) (τ : TT) (w : List UInt8) (dn : Nat), msgL S I (msgS S I d) m e c q T = some T' → c < N → TSc τ S → TIn τ I n → tA τ 44 u7 = (e : Int) → tI τ 45 = (base : Int) → q ≤ e → dn + (e - q) ≤ 1000 → (rws f (t2 T)).length ≤ dn → OX τ (w ++ rowP S (js S od d) b f (rws f (t2 T))) → ∃ τ', m_putRow_L22 rec (f : Int) (m : Int) u4 (if b = true then 1 else 0) (u7 : Int) N ((rws f (t2 T)).length : Int) (q : Int) τ = some (((rws f (t2 T')).length : Int), τ') ∧ TF KZ τ τ' ∧ Lo base τ τ' ∧ tI τ' 45 = (base : Int) ∧ (rws f (t2 T')).length ≤ dn + (e - q) ∧ OX τ' (w ++ rowP S (js S od d) b f (rws f (t2 T')))
  | c, 0, q, T, T', τ, w, dn, _, h, _, _, _, _, _, _, _, _ => by omega
  | 0, N + 1, q, T, T', τ, w, dn, h, _, _, _, _, _, _, _, _, _ => by cases h
  | c + 1, N + 1, q, T, T', τ, w, dn, h, hN', hT, hI, h44, h45, hq, hdn, hrl, hO => by
    have hn := hI.2.1
    have h50 := hS.1
    have hM := hS.2.2.1
    have hE := hS.2.2.2.1
    rw [msgL] at h
    rw [m_putRow_L22, gd_pos (by omega), gd_pos (by omega), Int.toNat_natCast, h44, gd_pos (by omega)]
    by_cases ce : e ≤ q
    · rw [if_pos ce] at h
      cases h
      rw [if_pos (by omega)]
      exact ⟨τ, rfl, TF.refl _ _, Lo.refl _ _, h45, by omega, hO⟩
    · rw [if_neg ce] at h
      rw [if_neg (by omega), nm_eq]
      have f0 : TF [46] τ (uI τ 46 (q : Int)) := (TF.refl _ τ).uI (by decide) _
      obtain ⟨τ1, f1, q1⟩ := m_takeField_eq (p := q) he (hI.tr f0 (by decide) (by decide)) (by rw [tI_uI, if_pos rfl]) (by omega) (x := tA (uI τ 46 (q : Int)) 44 u7) h44
      have f01 : TF KT τ τ1 := (f0.mono (by decide)).tr f1 (fun _ w => w)
      cases ev : fldS I e q with
      | none => rw [ev] at h; cases h
      | some r =>
        rw [ev] at h q1
        change ((stR1 S I (msgS S I d) m r T).bind _) = _ at h
        obtain ⟨e1, n48, n49, n50, n51, n46⟩ := q1
        obtain ⟨fb1, fb2, fb3, fb4, fb5, fb6⟩ := fldS_bd ev
        have f1z : TF KZ τ τ1 := f01.mono (by decide)
        have hT1 := hT.z f1z
        have hI1 := hI.z f1z
        have lo1 : Lo base τ τ1 := Lo.tf f01 (by decide) (by decide)
        have k45 : tI τ1 45 = (base : Int) := by rw [(f01 45 (by decide)).1]; exact h45
        have hO1 : OX τ1 _ := hO.tr f01 (by decide) (by decide) (by decide)
        cases es : stR1 S I (msgS S I d) m r T with
        | none => rw [es] at h; cases h
        | some T1 =>
          rw [es] at h
          change msgL S I (msgS S I d) m e c r.2.2.2 T1 = some T' at h
          rw [e1, bind_some']
          show ∃ τ', (nm (tI τ1 46) _) = _ ∧ _
          rw [nm_eq, n46]
          show ∃ τ', Option.bind (m_rightField (m : Int) τ1) _ = _ ∧ _
          rw [m_rightField_eq hS hT1 (m := m) (k := r.1) (kd := r.2.1) (by omega) (by omega) (by omega) n48 n49 rfl, bind_some']
          have go : ∀ τx : TT, TF KZ τ τx → Lo base τ τx → tI τx 45 = (base : Int) → (rws f (t2 T1)).length ≤ dn + (r.2.2.2 - q) → OX τx (w ++ rowP S (js S od d) b f (rws f (t2 T1))) → ∃ τ', m_putRow_L22 rec (f : Int) (m : Int) u4 (if b = true then 1 else 0) (u7 : Int) N ((rws f (t2 T1)).length : Int) (r.2.2.2 : Int) τx = some (((rws f (t2 T')).length : Int), τ') ∧ TF KZ τ τ' ∧ Lo base τ τ' ∧ tI τ' 45 = (base : Int) ∧ (rws f (t2 T')).length ≤ dn + (e - q) ∧ OX τ' (w ++ rowP S (js S od d) b f (rws f (t2 T'))) := fun τx fx lox k45x hrx hOx => by
            obtain ⟨τ', p1, p2, p3, p4, p5, p6⟩ := m_rw_22 hS hN hPM hf hr1 hm b u4 hu7 hb he c N r.2.2.2 T1 T' τx w (dn + (r.2.2.2 - q)) h (by omega) (hT.z fx) (hI.z fx) (by rw [(lox u7 hu7).2]; exact h44) k45x fb3 (by omega) hrx hOx
            exact ⟨τ', p1, fx.tr p2 (fun _ w => w), lox.tr p3, p4, by omega, p6⟩
          cases er : rgt S m r.1 r.2.1 with
          | none =>
            have eT : T1 = T := by
              unfold stR1 at es
              rw [er] at es
              exact (Option.some.inj es).symm
            have eN : oI none = -1 := rfl
            rw [eN, gd_pos (by omega), gd_pos (by omega), if_neg (by omega)]
            have := go τ1 f1z lo1 k45 (by rw [eT]; omega) (by rw [eT]; exact hO1)
            rw [eT] at this
            exact this
          | some g =>
            obtain ⟨hgn, hgm, hkd⟩ := rgt_in er
            have eF : oI (some g) = (g : Int) := rfl
            obtain ⟨sr1, sr2⟩ := st_rows (f := f) hS ev er es
            by_cases cg : g = f
            · rw [eF, gd_pos (by omega), gd_pos (by omega), if_pos (by omega), nm_eq, nm_eq, n50, n51, m_isPlain_eq hS hT1 hf, bind_some', gd_pos (by split <;> omega)]
              obtain ⟨sp1, sp2⟩ := sr2 cg hr1
              by_cases hpl : plain S f
              · rw [if_pos hpl, if_neg (by omega), nm_eq]
                obtain ⟨xs, px, ex⟩ := sp1 hpl
                have f2 : TF [46] τ1 (uI τ1 46 (r.2.2.1 : Int)) := (TF.refl _ τ1).uI (by decide) _
                have f2z : TF KZ τ (uI τ1 46 (r.2.2.1 : Int)) := f1z.tr f2 (by decide)
                obtain ⟨τ3, p3, g3, l3, k3, o3, n3⟩ := m_rw_120 (rec := rec) hS hN hf hpl b (e := r.2.2.2) (by omega) (m : Int) u4 (u7 : Int) (r.2.2.2 : Int) (r.2.2.2 - r.2.2.1 + 1) FU r.2.2.1 (rws f (t2 T)) (uI τ1 46 (r.2.2.1 : Int)) w xs px (FU_gt (by omega)) fb2 (by omega) (hT.z f2z) (hI.z f2z) (by rw [tI_uI, if_pos rfl]) (hO1.tr f2 (by decide) (by decide) (by decide))
                rw [← ex] at p3 o3
                rw [p3, bind_some']
                refine go τ3 (f2z.tr g3 (fun _ w => w)) (lo1.tr ((Lo.tf f2 (by decide) (by decide)).tr (fun i hi => l3 i (by omega)))) (by rw [k3]; exact k45) ?_ o3
                rw [ex, List.length_append, List.length_map]; omega
              · rw [if_neg hpl, if_pos rfl]
                obtain ⟨s, hs, ex⟩ := sp2 hpl
                obtain ⟨τ2, p2, g2⟩ := m_beginElement_eq hS hN hT1 hf b (rws f (t2 T)).length (by omega) hO1
                have f2z : TF KZ τ τ2 := f1z.tr g2.1 (by decide)
                obtain ⟨τ3, p3, g3, l3, k3, o3⟩ := m_putOne_eq (base := base) hS hPM hf hpl fb2 (by omega) (hT.z f2z) (hI.z f2z) g2.2 (by rw [(g2.1 45 (by decide)).1]; exact k45) hb hs
                have o3' : OX τ3 (w ++ rowP S (js S od d) b f (rws f (t2 T1))) := by
                  rw [ex, rowP_snoc]
                  rw [List.append_assoc, List.append_assoc] at o3
                  exact o3
                rw [p2, bind_some', p3, bind_some', show ((rws f (t2 T)).length : Int) + 1 = ((rws f (t2 T1)).length : Int) by rw [ex, List.length_append]; rfl]
                exact go τ3 (f2z.tr g3 (fun _ w => w)) (lo1.tr ((Lo.tf g2.1 (by decide) (by decide)).tr l3)) k3 (by rw [ex, List.length_append]; simp only [List.length_cons, List.length_nil]; omega) o3'
            · rw [eF, gd_pos (by omega), gd_pos (by omega), if_neg (by omega)]
              have er' := sr1 cg
              have := go τ1 f1z lo1 k45 (by rw [er']; omega) (by rw [er']; exact hO1)
              rw [er'] at this
              exact this
theorem m_rw_6 (hS : SW S) (hN : SN S) (hPM : PM S I n od d rec) (hf : f < nF_ S) (hr1 : qr S f = 1) (hm : m < S.1) (b : Bool) (hb : base + 1 + 501 * d ≤ 8500) : ∀ (ps : List (Nat × Nat)) (i N : Nat) (T T' : TV (d + 1)) (τ : TT) (w : List UInt8) (dn : Nat), prS S I (d + 1) m ps T = some T' → PA τ i ps → PB n ps → i + ps.length = base → ps.length < N → TSc τ S → TIn τ I n → tI τ 45 = (base : Int) → dn + PL ps ≤ 1000 → (rws f (t2 T)).length ≤ dn → OX τ (w ++ rowP S (js S od d) b f (rws f (t2 T))) → ∃ τ', m_putRow_L6 rec (f : Int) (m : Int) (base : Int) (if b = true then 1 else 0) N ((rws f (t2 T)).length : Int) (i : Int) τ = some (((rws f (t2 T')).length : Int), τ') ∧ TF KZ τ τ' ∧ Lo base τ τ' ∧ tI τ' 45 = (base : Int) ∧ (rws f (t2 T')).length ≤ dn + PL ps ∧ OX τ' (w ++ rowP S (js S od d) b f (rws f (t2 T')))
  | ps, i, 0, T, T', τ, w, dn, _, _, _, _, h, _, _, _, _, _, _ => by omega
  | [], i, N + 1, T, T', τ, w, dn, h, hA, hB, hi, hN', hT, hI, h45, hdn, hrl, hO => by
    simp only [List.length_nil] at hi
    cases h
    refine ⟨τ, by rw [m_putRow_L6, gd_pos (by omega), gd_pos (by omega), if_pos (by omega)], TF.refl _ _, Lo.refl _ _, h45, by omega, hO⟩
  | x :: ps, i, N + 1, T, T', τ, w, dn, h, hA, hB, hi, hN', hT, hI, h45, hdn, hrl, hO => by
    simp only [List.length_cons] at hi hN'
    have hx := hB x List.mem_cons_self
    have hn := hI.2.1
    have ePL : PL (x :: ps) = (x.2 - x.1) + PL ps := by unfold PL; rw [List.map_cons, List.sum_cons]
    rw [ePL] at hdn ⊢
    change ((msgS S I (d + 1) m x.1 x.2 T).bind _) = _ at h
    cases em : msgS S I (d + 1) m x.1 x.2 T with
    | none => rw [em] at h; cases h
    | some T1 =>
      rw [em] at h
      change prS S I (d + 1) m ps T1 = some T' at h
      have em' : msgL S I (msgS S I d) m x.2 (x.2 - x.1 + 1) x.1 T = some T1 := em
      obtain ⟨a1, a2⟩ := hA 0 (by simp)
      rw [Nat.add_zero] at a1 a2
      change tA τ 43 i = (x.1 : Int) at a1
      change tA τ 44 i = (x.2 : Int) at a2
      obtain ⟨τ1, p1, p2, p3, p4, p5, p6⟩ := m_rw_22 hS hN hPM hf hr1 hm b (base : Int) (u7 := i) (e := x.2) (by omega) hb hx.2 (x.2 - x.1 + 1) FU x.1 T T1 τ w dn em' (FU_gt (by omega)) hT hI a2 h45 hx.1 (by omega) hrl hO
      obtain ⟨τ2, q1, q2, q3, q4, q5, q6⟩ := m_rw_6 hS hN hPM hf hr1 hm b hb ps (i + 1) N T1 T' τ1 w (dn + (x.2 - x.1)) h (hA.tail.lo p3 (by omega)) (fun y hy => hB y (List.mem_cons_of_mem _ hy)) (by omega) (by omega) (hT.z p2) (hI.z p2) p4 (by omega) p5 p6
      refine ⟨τ2, ?_, p2.tr q2 (fun _ w => w), p3.tr q3, q4, by omega, q6⟩
      rw [m_putRow_L6, gd_pos (by omega), gd_pos (by omega), if_neg (by omega), gd_pos (by omega), nm_eq, Int.toNat_natCast, a1, p1, bind_some', show (i : Int) + 1 = ((i + 1 : Nat) : Int) by omega, q1]
theorem m_putRow_eq (hS : SW S) (hN : SN S) (hPM : PM S I n od d rec) (hf : f < nF_ S) (hr1 : qr S f = 1) (hm : m < S.1) (b : Bool) (hb : base + 1 + 501 * d ≤ 8500) {ps : List (Nat × Nat)} {k : Nat} {T : TV (d + 1)} {τ : TT} {w : List UInt8} (h : prS S I (d + 1) m ps (emp (d + 1)) = some T) (hA : PA τ k ps) (hB : PB n ps) (hk : k + ps.length = base) (hT : TSc τ S) (hI : TIn τ I n) (hL : PL ps ≤ 1000) (h45 : tI τ 45 = (base : Int)) (hO : OX τ w) : ∃ τ', m_putRow rec (f : Int) (m : Int) (k : Int) (base : Int) (if b = true then 1 else 0) τ = some (if rws f (t2 T) = [] then 0 else 1, τ') ∧ TF KZ τ τ' ∧ Lo base τ τ' ∧ tI τ' 45 = (base : Int) ∧ OX τ' (w ++ (if rws f (t2 T) = [] then [] else rowP S (js S od d) b f (rws f (t2 T)) ++ [93])) := by
  obtain ⟨τ1, p1, p2, p3, p4, p5, p6⟩ := m_rw_6 (od := od) (rec := rec) hS hN hPM hf hr1 hm b hb ps k FU (emp (d + 1)) T τ w 0 h hA hB hk (FU_gt (by omega)) hT hI h45 (by omega) (Nat.le_refl _) (by
    show OX τ (w ++ [])
    rw [List.append_nil]; exact hO)
  have p1' : m_putRow_L6 rec (f : Int) (m : Int) (base : Int) (if b = true then 1 else 0) FU 0 (k : Int) τ = some (((rws f (t2 T)).length : Int), τ1) := p1
  unfold m_putRow
  rw [p1', bind_some']
  show ∃ τ', Option.bind (gd (rg ((rws f (t2 T)).length : Int)) (if ((rws f (t2 T)).length : Int) ≤ 0 then (some τ1) else (Option.bind (m_put 93 τ1) fun y18 => some y18))) (fun (v7 : TT) => gd (rg ((rws f (t2 T)).length : Int)) (if ((rws f (t2 T)).length : Int) ≤ 0 then (some ((0, v7))) else (some ((1, v7))))) = _ ∧ _
  rw [gd_pos (by omega)]
  by_cases c : rws f (t2 T) = []
  · have c0 : (rws f (t2 T)).length = 0 := by rw [c]; rfl
    rw [if_pos c, if_pos c, if_pos (by omega), bind_some', gd_pos (by omega), if_pos (by omega)]
    refine ⟨τ1, rfl, p2, p3, p4, ?_⟩
    rw [c] at p6
    exact p6
  · have c0 : (rws f (t2 T)).length ≠ 0 := fun q => c (List.eq_nil_of_length_eq_zero q)
    obtain ⟨τ2, q1, q2⟩ := m_put_X p6 93
    rw [if_neg c, if_neg c, if_neg (by omega), q1, bind_some', bind_some', gd_pos (by omega), if_neg (by omega)]
    refine ⟨τ2, rfl, p2.tr q2.1 (by decide), p3.tr (Lo.tf q2.1 (by decide) (by decide)), by rw [(q2.1 45 (by decide)).1]; exact p4, ?_⟩
    have := q2.2
    rw [List.append_assoc] at this
    exact this
end Rx
