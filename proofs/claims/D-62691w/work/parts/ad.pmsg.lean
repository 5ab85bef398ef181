set_option maxRecDepth 100000
/-! JSON OF THE WIRE: messages, as the reference writes them -/
section Px
variable {S : SC} {I : Nat → Nat} {n d f m base k : Nat} {od : Nat → List Nat} {rec : Int → Int → Int → TT → Option TT}
theorem cm_fm {g : Nat → Option (List UInt8)} (b : Bool) (f : Nat) (post : List Nat) : cm b ((f :: post).filterMap g) = cm b (g f).toList ++ cm (b || (g f).isSome) (post.filterMap g) := by
  cases h : g f with
  | none =>
    rw [List.filterMap_cons_none h]
    show _ = [] ++ cm (b || false) _
    rw [Bool.or_false]; rfl
  | some x =>
    rw [List.filterMap_cons_some h]
    show (if b = true then [44] else []) ++ (x ++ cm true _) = ((if b = true then [44] else []) ++ (x ++ [])) ++ cm (b || true) _
    rw [Bool.or_true]
    simp only [List.append_nil, List.append_assoc]
set_option maxHeartbeats 4000000 in
theorem m_pm_1 (hS : SW S) (hN : SN S) (hPM : PM S I n od d rec) (hf : f < nF_ S) (hm : m < S.1) (b : Bool) (hb : base + 501 * (d + 1) ≤ 8500) {ps : List (Nat × Nat)} {T : TV (d + 1)} {τ : TT} {w : List UInt8} (h : prS S I (d + 1) m ps (emp (d + 1)) = some T) (hA : PA τ k ps) (hB : PB n ps) (hk : k + ps.length = base) (hT : TSc τ S) (hI : TIn τ I n) (hL : PL ps ≤ 1000) (h45 : tI τ 45 = (base : Int)) (hO : OX τ w) : ∃ τ', (gd (rg (tA τ 29 (f : Int).toNat)) (if (tA τ 29 (f : Int).toNat) = 0 then (nm (tI τ 45) fun x22 => Option.bind (m_find (f : Int) (m : Int) (k : Int) (base : Int) τ) fun y23 => Option.bind (gd (rg (tI y23 52)) (gd (¬ ((tI y23 52) = 0) → ok (m_isDefault (f : Int) y23)) (gd (¬ ((tI y23 52) = 0) → rg (vv (m_isDefault (f : Int) y23))) (if ((tI y23 52) = 0) ∨ (¬ ((vv (m_isDefault (f : Int) y23)) = 0)) then (some (((if b = true then 1 else 0 : Int), y23))) else (Option.bind (m_putName (f : Int) (if b = true then 1 else 0 : Int) y23) fun y34 => Option.bind (m_isPlain (f : Int) y34) fun y35 => gd (rg y35) (if y35 = 0 then (gd (rg (tA y34 28 (f : Int).toNat)) (if 16 ≤ (tA y34 28 (f : Int).toNat) then (Option.bind (rec ((tA y34 28 (f : Int).toNat) - 16) x22 (tI y34 45) y34) fun y43 => some ((1, y43))) else (Option.bind (m_putOne rec (f : Int) (tI y34 53) (tI y34 54) y34) fun y44 => some ((1, y44))))) else (Option.bind (m_putNumber (f : Int) (tJ y34 55) y34) fun y49 => some ((1, y49))))))))) fun (v29 : Int × TT) => nm (uI v29.2 45 x22) fun τ33 => some ((v29.1, τ33))) else (Option.bind (m_putRow rec (f : Int) (m : Int) (k : Int) (base : Int) (if b = true then 1 else 0 : Int) τ) fun y59 => Option.bind (gd (rg y59.1) (gd (y59.1 = 0 → rg (if b = true then 1 else 0 : Int)) (if (y59.1 = 0) ∧ ((if b = true then 1 else 0 : Int) = 0) then (some 0) else (some 1)))) fun (v65 : Int) => some ((v65, y59.2))))) = some (if (b || (mbT2 S (js S od d) T f).isSome) = true then 1 else 0, τ') ∧ TF KZ τ τ' ∧ Lo base τ τ' ∧ tI τ' 45 = (base : Int) ∧ OX τ' (w ++ cm b (mbT2 S (js S od d) T f).toList) := by
  obtain ⟨-, -, -, hsk, o1, o2, r01, p01, -, -⟩ := hS.2.2.2.2.1 f hf
  have hM := hS.2.2.1
  have hE := hS.2.2.2.1
  have h50 := hS.1
  have hn := hI.2.1
  have t29 : tA τ 29 f = qr S f := (hT.2.2.2.2.1 f hf).2.2.2.2.1
  have hbi : (if b = true then 1 else 0 : Int) = 0 ∨ (if b = true then 1 else 0 : Int) = 1 := by cases b <;> simp
  rw [Int.toNat_natCast, t29, gd_pos (by omega)]
  by_cases cr : qr S f = 1
  · rw [if_neg (by omega)]
    obtain ⟨τ1, p1, p2, p3, p4, p5⟩ := m_putRow_eq (base := base) hS hN hPM hf cr hm b (by omega) h hA hB hk hT hI hL h45 hO
    rw [p1, bind_some']
    by_cases c : rws f (t2 T) = []
    · have em : mbT2 S (js S od d) T f = none := by
        unfold mbT2 fldT; rw [if_pos cr, if_pos c]; rfl
      rw [if_pos c, gd_pos (by omega), gd_pos (by omega), em]
      refine ⟨τ1, ?_, p2, p3, p4, ?_⟩
      · cases b
        · rfl
        · rfl
      · rw [if_pos c] at p5; exact p5
    · have em : mbT2 S (js S od d) T f = some (escT (jsn (qw S f)) ++ (58 :: (91 :: (cm false ((rws f (t2 T)).map (slT S (js S od d))) ++ [93])))) := by
        unfold mbT2 fldT; rw [if_pos cr, if_neg c]; rfl
      rw [if_neg c, gd_pos (by omega), gd_pos (by omega), em, if_neg (by omega), bind_some']
      refine ⟨τ1, ?_, p2, p3, p4, ?_⟩
      · show _ = some ((if (b || true) = true then (1 : Int) else 0), τ1)
        rw [Bool.or_true]; rfl
      · rw [if_neg c] at p5
        unfold rowP at p5
        rw [if_neg c] at p5
        have e : cm b (some (escT (jsn (qw S f)) ++ (58 :: (91 :: (cm false ((rws f (t2 T)).map (slT S (js S od d))) ++ [93]))))).toList = (if b = true then [44] else []) ++ (escT (jsn (qw S f)) ++ ([58, 91] ++ cm false ((rws f (t2 T)).map (slT S (js S od d))))) ++ [93] := by
          show (if b = true then [44] else []) ++ ((escT (jsn (qw S f)) ++ (58 :: (91 :: (cm false ((rws f (t2 T)).map (slT S (js S od d))) ++ [93])))) ++ []) = _
          simp only [List.append_nil, List.append_assoc, List.cons_append, List.nil_append]
        rw [e]
        exact p5
  · have cr0 : qr S f = 0 := by omega
    rw [if_pos cr0, nm_eq, h45]
    obtain ⟨τ1, p1, p2, p3, p4, p5⟩ := m_find_eq hS hf cr0 hm (base := base) (by omega) h hA hB hk hT hI hL h45
    have f1z : TF KZ τ τ1 := p4.mono (by decide)
    have hT1 := hT.z f1z
    have hI1 := hI.z f1z
    have hO1 : OX τ1 w := hO.ff p4
    rw [p1, bind_some']
    -- how it ends
    have done : ∀ (v : Int) (τx : TT) (u : List UInt8), TF KZ τ1 τx → Lo base τ1 τx → OX τx u → ∃ τ', (Option.bind (some (v, τx)) fun (v29 : Int × TT) => nm (uI v29.2 45 (base : Int)) fun τ33 => some ((v29.1, τ33))) = some (v, τ') ∧ TF KZ τ τ' ∧ Lo base τ τ' ∧ tI τ' 45 = (base : Int) ∧ OX τ' u := fun v τx u fx lx ox => by
      refine ⟨uI τx 45 (base : Int), rfl, (f1z.tr fx (fun _ q => q)).uI (by decide) _, fun i hi => ?_, by rw [tI_uI, if_pos rfl], ox.tr (l := [45]) ((TF.refl _ τx).uI (by decide) _) (by decide) (by decide) (by decide)⟩
      rw [tA_uI]
      exact (p5.tr lx) i hi
    rcases m_isDefault_eq hS hf hT1 p2 hn with ⟨z1, z2⟩ | ⟨z1, s, z2, z3, z4, z5⟩
    · have em : mbT2 S (js S od d) T f = none := by
        unfold mbT2 fldT; rw [if_neg cr, z2]; rfl
      rw [z1, gd_pos (by omega), gd_ni rfl, gd_ni rfl, if_pos (Or.inl rfl), em]
      have := done (if b = true then 1 else 0 : Int) τ1 w (TF.refl _ _) (Lo.refl _ _) hO1
      show ∃ τ', _ = some ((if (b || false) = true then (1 : Int) else 0), τ') ∧ _ ∧ _ ∧ _ ∧ OX τ' (w ++ [])
      rw [Bool.or_false, List.append_nil]
      exact this
    · rw [z1, z4, vv_s, gd_pos (by omega), gd_pos (by exact fun _ => rfl), gd_pos (by exact fun _ => by split <;> omega)]
      by_cases cd : dps S s
      · have em : mbT2 S (js S od d) T f = none := by
          unfold mbT2 fldT; rw [if_neg cr, z3, if_pos cd]; rfl
        rw [if_pos cd, if_pos (Or.inr (by omega)), em]
        have := done (if b = true then 1 else 0 : Int) τ1 w (TF.refl _ _) (Lo.refl _ _) hO1
        show ∃ τ', _ = some ((if (b || false) = true then (1 : Int) else 0), τ') ∧ _ ∧ _ ∧ _ ∧ OX τ' (w ++ [])
        rw [Bool.or_false, List.append_nil]
        exact this
      · have em : mbT2 S (js S od d) T f = some (escT (jsn (qw S f)) ++ (58 :: slT S (js S od d) s)) := by
          unfold mbT2 fldT; rw [if_neg cr, z3, if_neg cd]; rfl
        rw [if_neg cd, if_neg (by omega), em]
        show ∃ τ', _ = some ((if (b || true) = true then (1 : Int) else 0), τ') ∧ _ ∧ _ ∧ _ ∧ OX τ' (w ++ ((if b = true then [44] else []) ++ ((escT (jsn (qw S f)) ++ (58 :: slT S (js S od d) s)) ++ [])))
        have e : w ++ ((if b = true then [44] else []) ++ ((escT (jsn (qw S f)) ++ (58 :: slT S (js S od d) s)) ++ [])) = (w ++ ((if b = true then [44] else []) ++ (escT (jsn (qw S f)) ++ [58]))) ++ slT S (js S od d) s := by
          simp only [List.append_nil, List.append_assoc, List.cons_append, List.nil_append]
        rw [e, Bool.or_true, if_pos (show true = true from rfl)]
        obtain ⟨τ2, q1, q2⟩ := m_putName_eq hS hN hT1 hf b hO1
        have f2z : TF KZ τ1 τ2 := q2.1.mono (by decide)
        have hT2 := hT1.z f2z
        have hI2 := hI1.z f2z
        have hO2 := q2.2
        have lo2 : Lo base τ1 τ2 := Lo.tf q2.1 (by decide) (by decide)
        have t28 : tA τ2 28 f = (qk S f : Int) := (hT2.2.2.2.2.1 f hf).2.2.1
        have hpm := plain_m hS hf
        rw [q1, bind_some', m_isPlain_eq hS hT2 hf, bind_some', gd_pos (by split <;> omega)]
        by_cases hpl : plain S f
        · rw [if_pos hpl] at z5
          rw [if_pos hpl, if_neg (by omega), (q2.1 55 (by decide)).2.1, z5.1]
          obtain ⟨τ3, r1, r2⟩ := m_putNumber_eq (x := s.2.1) hS hN hT2 hf hpl hO2
          have es : slT S (js S od d) s = nvT S f s.2.1 := by
            have q := hpm.mp hpl
            unfold slT
            rw [z2, if_neg q.2, if_neg (fun u => q.1 (Or.inl u)), if_neg (fun u => q.1 (Or.inr u))]
          rw [r1, bind_some', es]
          exact done 1 τ3 _ (f2z.tr r2.1 (by decide)) (lo2.tr (Lo.tf r2.1 (by decide) (by decide))) r2.2
        · rw [if_neg hpl] at z5
          rw [if_neg hpl, if_pos rfl, t28, gd_pos (by omega)]
          by_cases cM : isM S f
          · rw [if_pos cM] at z5
            obtain ⟨y1, y2, ps2, y3, y4, y5, y6, y7, y8⟩ := z5
            have k45 : tI τ2 45 = ((base + ps2.length : Nat) : Int) := by rw [(q2.1 45 (by decide)).1]; exact y4
            obtain ⟨τ3, r1, r2, r3, r4, r5⟩ := hPM (qk S f - 16) base ps2 s.2.2.2 τ2 _ (by omega) y8 y3 (y5.lo (Lo.tf (base := base + ps2.length) q2.1 (by decide) (by decide)) (Nat.le_refl _)) y6 (by omega) k45 (by omega) hT2 hI2 hO2
            have es : slT S (js S od d) s = js S od d (qk S f - 16) s.2.2.2 := by
              unfold slT
              rw [z2, if_pos cM]
            rw [if_pos (by omega), k45, show ((qk S f : Nat) : Int) - 16 = ((qk S f - 16 : Nat) : Int) by omega, r1, bind_some', es]
            exact done 1 τ3 _ (f2z.tr r2 (fun _ q => q)) (lo2.tr (fun i hi => r3 i (by omega))) r5
          · rw [if_neg cM] at z5
            obtain ⟨y1, p, e', y2, y3, y4, y5, y6⟩ := z5
            have hkk : qk S f = 9 ∨ qk S f = 10 := by
              by_cases u : qk S f = 9 ∨ qk S f = 10
              · exact u
              · exact absurd (hpm.mpr ⟨u, cM⟩) hpl
            obtain ⟨τ3, r1, r2, r3, r4, r5⟩ := m_putOne_eq (base := base) (s := (f, 0, cut I p e', emp d)) hS hPM hf hpl y2 y3 hT2 hI2 hO2 (by rw [(q2.1 45 (by decide)).1]; exact p3 cM) (by omega) (by rw [if_neg cM])
            have es : slT S (js S od d) s = slT S (js S od d) ((f, 0, cut I p e', emp d) : SV d) := by
              unfold slT
              show (if isM S s.1 then _ else if qk S s.1 = 9 then escT s.2.2.1 else if qk S s.1 = 10 then b64T s.2.2.1 else nvT S s.1 s.2.1) = (if isM S f then _ else if qk S f = 9 then escT (cut I p e') else if qk S f = 10 then b64T (cut I p e') else nvT S f 0)
              rw [z2, y1, y6, if_neg cM, if_neg cM]
            rw [if_neg (by omega), (q2.1 53 (by decide)).1, (q2.1 54 (by decide)).1, y4, y5, r1, bind_some', es]
            exact done 1 τ3 _ (f2z.tr r2 (fun _ q => q)) (lo2.tr r3) r5
theorem m_pm_L (hS : SW S) (hN : SN S) (hO' : OD S od) (hPM : PM S I n od d rec) (hm : m < S.1) (hb : base + 501 * (d + 1) ≤ 8500) {ps : List (Nat × Nat)} {T : TV (d + 1)} (h : prS S I (d + 1) m ps (emp (d + 1)) = some T) (hB : PB n ps) (hk : k + ps.length = base) (hL : PL ps ≤ 1000) : ∀ (post pre : List Nat) (N : Nat) (τ : TT) (w : List UInt8) (b : Bool), od m = pre ++ post → post.length < N → PA τ k ps → TSc τ S → TIn τ I n → tI τ 45 = (base : Int) → OX τ w → ∃ τ', m_putMessage_L17 rec (m : Int) (k : Int) (base : Int) N (if b = true then 1 else 0) (oI post.head?) τ = some τ' ∧ TF KZ τ τ' ∧ Lo base τ τ' ∧ tI τ' 45 = (base : Int) ∧ OX τ' (w ++ cm b (post.filterMap (mbT2 S (js S od d) T)))
  | post, pre, 0, τ, w, b, _, h, _, _, _, _, _ => by omega
  | [], pre, N + 1, τ, w, b, _, _, hA, hT, hI, h45, hO => ⟨τ, by rw [m_putMessage_L17, gd_pos (show rg (oI ([] : List Nat).head?) by exact ⟨by decide, by decide⟩), if_pos (show oI ([] : List Nat).head? = -1 from rfl)], TF.refl _ _, Lo.refl _ _, h45, by
      show OX τ (w ++ [])
      rw [List.append_nil]; exact hO⟩
  | f :: post, pre, N + 1, τ, w, b, ho, hN', hA, hT, hI, h45, hO => by
    have h50 := hS.1
    obtain ⟨q1, q2, q3⟩ := hO' m hm
    rw [ho] at q1 q2
    have hf := (q1 f).mp (List.mem_append.mpr (Or.inr List.mem_cons_self))
    obtain ⟨τ1, e1, g1, g2, g3, g4⟩ := m_pm_1 (base := base) (k := k) hS hN hPM hf.1 hm b hb h hA hB hk hT hI hL h45 hO
    obtain ⟨τ2, e2, r1, r2, r3, r4⟩ := m_pm_L hS hN hO' hPM hm hb h hB hk hL post (pre ++ [f]) N τ1 _ (b || (mbT2 S (js S od d) T f).isSome) (by rw [ho, List.append_assoc]; rfl) (by simp only [List.length_cons] at hN'; omega) (hA.lo g2 (by omega)) (hT.z g1) (hI.z g1) g3 g4
    have hq := (hS.2.2.2.2.1 f hf.1).2.2.1
    have t24 := ((hT.z g1).2.2.2.2.1 f hf.1).2.1
    have ea := m_after_eq (τ := τ1) (u := qn S f) hS hO' (hT.z g1) hm hq (pre := pre ++ [f]) (post := post) (by rw [ho, List.append_assoc]; rfl) (fun x hx => by
      rcases List.mem_append.mp hx with u | u
      · exact Nat.le_of_lt ((List.pairwise_append.mp q2).2.2 x u f List.mem_cons_self)
      · rw [List.mem_singleton.mp u]; exact Nat.le_refl _) (fun x hx => (List.pairwise_cons.mp (List.pairwise_append.mp q2).2.1).1 x hx) (x := (m : Int)) rfl (y := ((qn S f : Nat) : Int)) rfl
    refine ⟨τ2, ?_, g1.tr r1 (fun _ q => q), g2.tr r2, r3, ?_⟩
    · have eo : oI (f :: post).head? = (f : Int) := rfl
      rw [eo, m_putMessage_L17, gd_pos (by omega), if_neg (by omega), gd_pos (by omega), e1, bind_some', Int.toNat_natCast]
      show Option.bind (m_after (m : Int) (tA τ1 24 f) τ1) _ = _
      rw [t24, ea, bind_some']
      exact e2
    · rw [cm_fm, ← List.append_assoc]; exact r4
theorem m_putMessage_eq (hS : SW S) (hN : SN S) (hO' : OD S od) : ∀ (d N : Nat), d ≤ N → PM S I n od d (m_putMessage N)
  | 0, N, _ => fun m k ps T τ w _ h hne _ _ _ _ _ _ _ _ => by
    cases ps with
    | nil => exact absurd rfl hne
    | cons x ps => cases h
  | d + 1, N, hd => fun m k ps T τ w hm h hne hA hB hL h45 hb hT hI hO => by
    obtain ⟨N, rfl⟩ : ∃ m, N = m + 1 := ⟨N - 1, by omega⟩
    have hPM := m_putMessage_eq hS hN hO' d N (by omega)
    obtain ⟨q1, q2, q3⟩ := hO' m hm
    have h50 := hS.1
    obtain ⟨τ1, e1, g1⟩ := m_put_X hO 123
    have f1z : TF KZ τ τ1 := g1.1.mono (by decide)
    have lo1 : Lo (k + ps.length) τ τ1 := Lo.tf g1.1 (by decide) (by decide)
    have hT1 := hT.z f1z
    have ea := m_after_eq (τ := τ1) (u := 0) hS hO' hT1 hm (by omega) (pre := []) (post := od m) rfl (fun x hx => by cases hx) (fun x hx => by
      have := (q1 x).mp hx
      have := (hS.2.2.2.2.1 x this.1).2.1
      omega) (x := (m : Int)) rfl (y := 0) rfl
    have k45 : tI τ1 45 = ((k + ps.length : Nat) : Int) := by rw [(g1.1 45 (by decide)).1]; exact h45
    obtain ⟨τ2, e2, r1, r2, r3, r4⟩ := m_pm_L (base := k + ps.length) hS hN hO' hPM hm hb h hB rfl hL (od m) [] FU τ1 _ false rfl (FU_gt (by omega)) (hA.lo lo1 (Nat.le_refl _)) hT1 (hI.z f1z) k45 g1.2
    obtain ⟨τ3, e3, g3⟩ := m_put_X r4 125
    refine ⟨τ3, ?_, (f1z.tr r1 (fun _ q => q)).tr g3.1 (by decide), lo1.tr (r2.tr (Lo.tf g3.1 (by decide) (by decide))), by rw [(g3.1 45 (by decide)).1, r3, h45], ?_⟩
    · show m_putMessageb (m_putMessage N) _ _ _ _ = _
      unfold m_putMessageb
      rw [e1, bind_some', ea, bind_some']
      have e2' : m_putMessage_L17 (m_putMessage N) (m : Int) (k : Int) ((k + ps.length : Nat) : Int) FU 0 (oI (od m).head?) τ1 = some τ2 := e2
      rw [e2', bind_some', e3, bind_some']
    · have := g3.2
      have e : w ++ js S od (d + 1) m T = w ++ [u8 123] ++ cm false ((od m).filterMap (mbT2 S (js S od d) T)) ++ [u8 125] := by
        show w ++ (123 :: (cm false ((od m).filterMap (mbT2 S (js S od d) T)) ++ [125])) = _
        have u1 : u8 123 = 123 := by decide
        have u2 : u8 125 = 125 := by decide
        rw [u1, u2]
        simp only [List.append_assoc, List.cons_append, List.nil_append]
      rw [e]
      exact this
end Px
