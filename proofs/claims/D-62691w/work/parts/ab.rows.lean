set_option maxRecDepth 100000
/-! JSON OF THE WIRE: rows, as the reference writes them -/
def rowP {d : Nat} (S : SC) (J : Nat → TV d → List UInt8) (b : Bool) (f : Nat) (rows : List (SV d)) : List UInt8 := if rows = [] then [] else (if b = true then [44] else []) ++ (escT (jsn (qw S f)) ++ ([58, 91] ++ cm false (rows.map (slT S J))))
theorem rowP_snoc {d : Nat} (S : SC) (J : Nat → TV d → List UInt8) (b : Bool) (f : Nat) (rows : List (SV d)) (s : SV d) : rowP S J b f (rows ++ [s]) = rowP S J b f rows ++ ((if rows.length = 0 then (if b = true then [44] else []) ++ (escT (jsn (qw S f)) ++ [58, 91]) else [44]) ++ slT S J s) := by
  unfold rowP
  rw [if_neg (show ¬ rows ++ [s] = [] by simp)]
  cases rows with
  | nil =>
    rw [if_pos rfl, if_pos (show ([] : List (SV d)).length = 0 from rfl)]
    show (if b = true then [44] else []) ++ (escT (jsn (qw S f)) ++ ([58, 91] ++ ([] ++ (slT S J s ++ [])))) = _
    simp only [List.nil_append, List.append_nil, List.append_assoc]
  | cons t rows =>
    rw [if_neg (show ¬ t :: rows = [] by simp), if_neg (show ¬ (t :: rows).length = 0 by simp), List.map_append, cm_app]
    show _ = _ ++ ([44] ++ slT S J s)
    have e : cm (false || !(List.map (slT S J) (t :: rows)).isEmpty) (List.map (slT S J) [s]) = [44] ++ slT S J s := by
      show [44] ++ (slT S J s ++ []) = _
      rw [List.append_nil]
    rw [e]
    simp only [List.append_assoc]
abbrev KZ : List Nat := [3, 6, 7, 41, 43, 44, 45, 46, 47, 48, 49, 50, 51, 52, 53, 54, 55]
def PM (S : SC) (I : Nat → Nat) (n : Nat) (od : Nat → List Nat) (d : Nat) (rec : Int → Int → Int → TT → Option TT) : Prop := ∀ (m k : Nat) (ps : List (Nat × Nat)) (T : TV d) (τ : TT) (w : List UInt8), m < S.1 → prS S I d m ps (emp d) = some T → ps ≠ [] → PA τ k ps → PB n ps → PL ps ≤ 1000 → tI τ 45 = ((k + ps.length : Nat) : Int) → k + ps.length + 501 * d ≤ 8500 → TSc τ S → TIn τ I n → OX τ w → ∃ τ', rec (m : Int) (k : Int) ((k + ps.length : Nat) : Int) τ = some τ' ∧ TF KZ τ τ' ∧ Lo (k + ps.length) τ τ' ∧ tI τ' 45 = tI τ 45 ∧ OX τ' (w ++ js S od d m T)
section Rw
variable {S : SC} {I : Nat → Nat} {n d f m base : Nat} {od : Nat → List Nat} {rec : Int → Int → Int → TT → Option TT}
theorem OX.ff {τ τ' : TT} {w : List UInt8} (h : OX τ w) (g : TF KF τ τ') : OX τ' w := h.tr g (by decide) (by decide) (by decide)
theorem TSc.z {τ τ' : TT} (h : TSc τ S) (g : TF KZ τ τ') : TSc τ' S := h.tr g (by decide)
theorem TIn.z {τ τ' : TT} (h : TIn τ I n) (g : TF KZ τ τ') : TIn τ' I n := h.tr g (by decide) (by decide)
/-- one value with a length -/
theorem m_putOne_eq (hS : SW S) (hPM : PM S I n od d rec) (hf : f < nF_ S) (hnp : ¬ plain S f) {p e : Nat} (hp : p ≤ e) (he : e ≤ n) {τ : TT} {w : List UInt8} (hT : TSc τ S) (hI : TIn τ I n) (hO : OX τ w) (h45 : tI τ 45 = (base : Int)) (hb : base + 1 + 501 * d ≤ 8500) {s : SV d} (hs : if isM S f then ∃ T2, s = (f, 0, [], T2) ∧ msgS S I d (qk S f - 16) p e (emp d) = some T2 else s = (f, 0, cut I p e, emp d)) : ∃ τ', m_putOne rec (f : Int) (p : Int) (e : Int) τ = some τ' ∧ TF KZ τ τ' ∧ Lo base τ τ' ∧ tI τ' 45 = (base : Int) ∧ OX τ' (w ++ slT S (js S od d) s) := by
  have hsk := (hS.2.2.2.2.1 f hf).2.2.2.1
  have hM := hS.2.2.1
  have hE := hS.2.2.2.1
  have h50 := hS.1
  have hn := hI.2.1
  have t28 : tA τ 28 f = (qk S f : Int) := (hT.2.2.2.2.1 f hf).2.2.1
  have hpm := plain_m hS hf
  unfold m_putOne
  rw [gd_pos (by omega), Int.toNat_natCast, t28, gd_pos (by omega)]
  by_cases cM : isM S f
  · rw [if_pos cM] at hs
    obtain ⟨T2, es, em⟩ := hs
    rw [if_neg (show ¬ ((qk S f : Nat) : Int) = 9 by omega), if_neg (show ¬ ((qk S f : Nat) : Int) = 10 by omega)]
    have et : slT S (js S od d) s = js S od d (qk S f - 16) T2 := by rw [es]; unfold slT; rw [if_pos cM]
    rw [et]
    unfold m_putPart
    rw [h45, nm_eq, gd_pos (by omega), nm_eq, Int.toNat_natCast]
    show ∃ τ', Option.bind (gd (ib (tI (uA τ 43 base (p : Int)) 45) 9000) _) _ = _ ∧ _
    rw [show tI (uA τ 43 base (p : Int)) 45 = (base : Int) from h45, gd_pos (by omega), nm_eq, Int.toNat_natCast, nm_eq]
    obtain ⟨τ1, h1⟩ : ∃ τ1, τ1 = uI (uA (uA τ 43 base (p : Int)) 44 base (e : Int)) 45 (tI (uA (uA τ 43 base (p : Int)) 44 base (e : Int)) 45 + 1) := ⟨_, rfl⟩
    have f1 : TF KZ τ τ1 := by rw [h1]; exact (((TF.refl _ τ).uA (by decide) _ _).uA (by decide) _ _).uI (by decide) _
    have k45 : tI τ1 45 = ((base + [(p, e)].length : Nat) : Int) := by rw [h1]; show tI τ 45 + 1 = ((base + 1 : Nat) : Int); rw [h45]; omega
    have lo1 : Lo base τ τ1 := fun i hi => by
      rw [h1, tA_uI]
      refine ⟨?_, ?_⟩
      · rw [tA_uA, if_neg (fun w => absurd w.1 (by decide)), tA_uA, if_neg (fun w => by omega)]
      · rw [tA_uA, if_neg (fun w => by omega), tA_uA, if_neg (fun w => absurd w.1 (by decide))]
    have hA : PA τ1 base [(p, e)] := fun i hi => by
      simp only [List.length_cons, List.length_nil] at hi
      have : i = 0 := by omega
      subst this
      rw [h1, tA_uI, Nat.add_zero]
      refine ⟨?_, ?_⟩
      · rw [tA_uA, if_neg (fun w => absurd w.1 (by decide)), tA_uA, if_pos ⟨rfl, rfl⟩]; rfl
      · rw [tA_uA, if_pos ⟨rfl, rfl⟩]; rfl
    have hpr : prS S I d (qk S f - 16) [(p, e)] (emp d) = some T2 := by
      show ((msgS S I d (qk S f - 16) p e (emp d)).bind fun T' => some T') = _
      rw [em]; rfl
    obtain ⟨τ2, p1, p2, p3, p4, p5⟩ := hPM (qk S f - 16) base [(p, e)] T2 τ1 w (by omega) hpr (List.cons_ne_nil _ _) hA (fun x hx => by rw [List.mem_singleton.mp hx]; exact ⟨hp, he⟩) (by show (e - p) + 0 ≤ 1000; omega) k45 (by simp only [List.length_cons, List.length_nil]; omega) (hT.z f1) (hI.z f1) (by
      refine hO.tr (l := [43, 44, 45]) ?_ (by decide) (by decide) (by decide)
      rw [h1]; exact (((TF.refl _ τ).uA (by decide) _ _).uA (by decide) _ _).uI (by decide) _)
    have p1' : rec (((qk S f : Nat) : Int) - 16) (base : Int) ((base : Int) + 1) τ1 = some τ2 := by
      rw [show ((qk S f : Nat) : Int) - 16 = ((qk S f - 16 : Nat) : Int) by omega, show (base : Int) + 1 = ((base + [(p, e)].length : Nat) : Int) by show _ = ((base + 1 : Nat) : Int); omega]
      exact p1
    rw [← h1, p1', bind_some', nm_eq, bind_some']
    refine ⟨_, rfl, (f1.tr p2 (fun _ q => q)).uI (by decide) _, fun i hi => ?_, by rw [tI_uI, if_pos rfl], ?_⟩
    · rw [tA_uI]
      have q := p3 i (by show i < base + 1; omega)
      have r := lo1 i hi
      exact ⟨q.1.trans r.1, q.2.trans r.2⟩
    · refine p5.tr (l := [45]) ((TF.refl _ τ2).uI (by decide) _) (by decide) (by decide) (by decide)
  · rw [if_neg cM] at hs
    have hk : qk S f = 9 ∨ qk S f = 10 := by
      by_cases u : qk S f = 9 ∨ qk S f = 10
      · exact u
      · exact absurd (hpm.mpr ⟨u, cM⟩) hnp
    rw [hs]
    unfold slT
    show ∃ τ', _ ∧ _ ∧ _ ∧ _ ∧ OX τ' (w ++ (if isM S f then _ else if qk S f = 9 then escT (cut I p e) else if qk S f = 10 then b64T (cut I p e) else _))
    rw [if_neg cM]
    by_cases c9 : qk S f = 9
    · rw [if_pos (show ((qk S f : Nat) : Int) = 9 by omega), if_pos c9]
      obtain ⟨τ1, p1, g1⟩ := m_putText_eq hp he hI hO
      exact ⟨τ1, by rw [p1, bind_some'], g1.1.mono (by decide), Lo.tf g1.1 (by decide) (by decide), by rw [(g1.1 45 (by decide)).1]; exact h45, g1.2⟩
    · have c10 : qk S f = 10 := by omega
      rw [if_neg (show ¬ ((qk S f : Nat) : Int) = 9 by omega), if_pos (show ((qk S f : Nat) : Int) = 10 by omega), if_neg c9, if_pos c10]
      obtain ⟨τ1, p1, g1⟩ := m_putBytes_eq hp he hI hO
      exact ⟨τ1, by rw [p1, bind_some'], g1.1.mono (by decide), Lo.tf g1.1 (by decide) (by decide), by rw [(g1.1 45 (by decide)).1]; exact h45, g1.2⟩
theorem m_rw_120 (hS : SW S) (hN : SN S) (hf : f < nF_ S) (hpl : plain S f) (b : Bool) {e : Nat} (he : e ≤ n) (u2 u4 u7 u8' : Int) : ∀ (c N q : Nat) (rows : List (SV d)) (τ : TT) (w : List UInt8) (xs : List Int64), pkN S I f e c q = some xs → c < N → q ≤ e → rows.length + (e - q) ≤ 1000 → TSc τ S → TIn τ I n → tI τ 46 = (q : Int) → OX τ (w ++ rowP S (js S od d) b f rows) → ∃ τ', m_putRow_L120 rec (f : Int) u2 u4 (if b = true then 1 else 0) u7 u8' (e : Int) N (rows.length : Int) τ = some (((rows ++ xs.map (fun x => (f, mnt S f x, [], emp d))).length : Int), τ') ∧ TF KZ τ τ' ∧ Lo 9000 τ τ' ∧ tI τ' 45 = tI τ 45 ∧ OX τ' (w ++ rowP S (js S od d) b f (rows ++ xs.map (fun x => (f, mnt S f x, [], emp d)))) ∧ xs.length ≤ e - q
  | 0, N, q, rows, τ, w, xs, h, _, _, _, _, _, _, _ => by cases h
  | c + 1, 0, q, rows, τ, w, xs, _, h, _, _, _, _, _, _ => by omega
  | c + 1, N + 1, q, rows, τ, w, xs, h, hN', hq, hle, hT, hI, h46, hO => by
    have hn := hI.2.1
    rw [pkN] at h
    rw [m_putRow_L120, h46, gd_pos (by omega), gd_pos (by omega)]
    by_cases ce : e ≤ q
    · rw [if_pos ce] at h
      cases h
      rw [if_pos (by omega), List.map_nil, List.append_nil]
      exact ⟨τ, rfl, TF.refl _ _, Lo.refl _ _, rfl, hO, Nat.zero_le _⟩
    · rw [if_neg ce] at h
      rw [if_neg (by omega)]
      cases ev : nmS S I f e q with
      | none => rw [ev] at h; cases h
      | some r =>
        rw [ev] at h
        change (pkN S I f e c r.1).map _ = _ at h
        cases ep : pkN S I f e c r.1 with
        | none => rw [ep] at h; cases h
        | some ys =>
          rw [ep] at h
          cases h
          have rb := nmS_bd ev
          obtain ⟨τ1, f1, q1⟩ := m_takeNumber_eq hS hT hI hf he (by omega) h46 (x := (f : Int)) rfl (y := (e : Int)) rfl
          rw [ev] at q1
          obtain ⟨e1, s1, j1⟩ := q1
          rw [e1, bind_some']
          have f1z : TF KZ τ τ1 := f1.mono (by decide)
          have hO1 : OX τ1 _ := hO.tr f1 (by decide) (by decide) (by decide)
          obtain ⟨τ2, p2, g2⟩ := m_beginElement_eq hS hN (hT.z f1z) hf b rows.length (by omega) hO1
          have f2z : TF KZ τ τ2 := f1z.tr g2.1 (by decide)
          have j2 : tJ τ2 47 = r.2 := by rw [(g2.1 47 (by decide)).2.1]; exact j1
          obtain ⟨τ3, p3, g3⟩ := m_putNumber_eq (x := mnt S f r.2) hS hN (hT.z f2z) hf hpl g2.2
          have f3z : TF KZ τ τ3 := f2z.tr g3.1 (by decide)
          have es : slT S (js S od d) ((f, mnt S f r.2, [], emp d) : SV d) = nvT S f (mnt S f r.2) := by
            have hpm := (plain_m hS hf).mp hpl
            unfold slT
            show (if isM S f then _ else if qk S f = 9 then _ else if qk S f = 10 then _ else nvT S f (mnt S f r.2)) = _
            rw [if_neg hpm.2, if_neg (fun q => hpm.1 (Or.inl q)), if_neg (fun q => hpm.1 (Or.inr q))]
          have hO3 : OX τ3 (w ++ rowP S (js S od d) b f (rows ++ [(f, mnt S f r.2, [], emp d)])) := by
            have := g3.2
            rw [rowP_snoc, es]
            rw [List.append_assoc, List.append_assoc] at this
            exact this
          obtain ⟨τ4, p4, g4, l4, k4, o4, n4⟩ := m_rw_120 hS hN hf hpl b he u2 u4 u7 u8' c N r.1 (rows ++ [(f, mnt S f r.2, [], emp d)]) τ3 w ys ep (by omega) rb.2 (by rw [List.length_append]; simp only [List.length_cons, List.length_nil]; omega) (hT.z f3z) (hI.z f3z) (by rw [(g3.1 46 (by decide)).1, (g2.1 46 (by decide)).1]; exact s1) hO3
          rw [List.append_assoc] at p4 o4
          refine ⟨τ4, ?_, f3z.tr g4 (fun _ q => q), ?_, ?_, o4, by simp only [List.length_cons]; omega⟩
          · show Option.bind (m_beginElement (f : Int) (rows.length : Int) _ τ1) _ = _
            rw [p2, bind_some', j2, m_meant_eq hS (hT.z f2z) hf r.2 (nm_6 hI.2.2.2 ev), bind_some', p3, bind_some', show (rows.length : Int) + 1 = ((rows ++ [(f, mnt S f r.2, [], emp d)] : List (SV d)).length : Int) by rw [List.length_append]; rfl, p4]
            rfl
          · exact ((Lo.tf f1 (by decide) (by decide)).tr ((Lo.tf g2.1 (by decide) (by decide)).tr (Lo.tf g3.1 (by decide) (by decide)))).tr l4
          · rw [k4, (g3.1 45 (by decide)).1, (g2.1 45 (by decide)).1, (f1 45 (by decide)).1]
end Rw
