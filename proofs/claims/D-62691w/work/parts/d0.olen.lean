set_option maxRecDepth 100000
/-! ROOM: how long toWire's bytes are, by commas and braces -/
def wt (c : Nat) : Nat := 2 + (if c = 44 then 4 else 0) + (if c = 123 then 2 else 0)
def om (I : Nat → Nat) : Nat → Nat
  | 0 => 0
  | q + 1 => om I q + wt (I q)
section D0
variable {S : SC} {I : Nat → Nat} {n p d : Nat} {od : Nat → List Nat}
theorem om_le (I : Nat → Nat) : ∀ {p q : Nat}, p ≤ q → om I p + 2 * (q - p) ≤ om I q
  | p, 0, h => by
    have : p = 0 := by omega
    subst this; exact Nat.le_refl _
  | p, q + 1, h => by
    by_cases c : p = q + 1
    · subst c; omega
    · have := om_le I (show p ≤ q by omega)
      rw [om]
      unfold wt
      omega
theorem om_44 {q : Nat} (h : I q = 44) : om I (q + 1) = om I q + 6 := by rw [om, h]; rfl
theorem om_123 {q : Nat} (h : I q = 123) : om I (q + 1) = om I q + 4 := by rw [om, h]; rfl
theorem lk_44 {q : Nat} (h : lk I n q = 44) (hq : q < n) : I q = 44 := by rw [lk_lt hq] at h; omega
theorem lk_123 {q : Nat} (h : lk I n q = 123) (hq : q < n) : I q = 123 := by rw [lk_lt hq] at h; omega
def EC {d : Nat} (S : SC) (I : Nat → Nat) (n : Nat) (en : Nat → TV d → List UInt8) (sp : Nat → Nat → Option (Nat × TV d)) : Prop := ∀ m p r, m < S.1 → p ≤ n → sp m p = some r → (en m r.2).length + 1 + om I p ≤ om I r.1
variable {sp : Nat → Nat → Option (Nat × TV d)} {en : Nat → TV d → List UInt8}
theorem pkE_lt (hI : ∀ k, I k < 256) (hn : n ≤ 1000) (hB : RB n sp) (hR : TR n sp) {f q e : Nat} {ss : List (SV d)} (hq : q ≤ n) (hi : itmS S I n sp f q = some (e, ss)) : (pkE S f ss).length < 16384 := by
  have hbd := itmS_bd hI hB hq hi
  have htz := (itmS_TZ hI hB hR hq hi).1
  have l1 : ∀ l : List (SV d), (pkE S f l).length ≤ 10 * l.length := fun l => by
    induction l with
    | nil => exact Nat.le_refl _
    | cons s l ih =>
      have := numE_len S f s.2.1
      have e1 : (pkE S f (s :: l)).length = (numE S f s.2.1).length + (pkE S f l).length := by unfold pkE; rw [List.flatMap_cons, List.length_append]
      rw [e1, List.length_cons]; omega
  have := l1 ss
  simp only at hbd htz
  omega
theorem numW_len2 (S : SC) (f : Nat) {k : Nat} {w : List UInt8} {x : Int64} (h : numW k w = some x) : 1 ≤ w.length ∧ (numE S f x).length ≤ 2 * w.length + 6 := by
  have h10 := numE_len S f x
  unfold numW at h
  split at h
  · rename_i g
    obtain ⟨a1, a2, a3, a4, a5, a6, a7, a8, -⟩ := g_sp (wI w) w.length 0
    have hlt := g.1.1
    have hg4 := g.2
    refine ⟨by omega, ?_⟩
    by_cases c : w.length = 1
    · rw [c] at h g
      cases e : wv (wI w) 1 0 with
      | none => rw [e] at h; cases h
      | some v =>
        rw [e] at h
        obtain ⟨h9, h45⟩ := wv1 g.1 e
        change (if fitk k v (msg w v) then some (nval v (msg w v)) else none) = some x at h
        split at h
        · cases h
          have em : msg w v = 0 := by unfold msg; rw [c, if_neg (fun q => h45 q.1)]
          have en : nval v (msg w v) = lN v := by unfold nval; rw [em, if_neg (by decide)]
          rw [en]
          have := numE_small S f h9
          omega
        · cases h
    · omega
  · cases h
theorem scl_num2 (hI : ∀ k, I k < 256) {f : Nat} {e : Nat × Int64 × List UInt8} (hpl : plain S f) (h : sclS S I n f p = some e) : p < e.1 ∧ (numE S f e.2.1).length ≤ 2 * (e.1 - p) + 6 := by
  have h10 := numE_len S f e.2.1
  have s6 : slen 6 = 4 ∧ slen 7 = 5 := by decide +kernel
  unfold sclS at h
  split at h
  · split at h
    · cases h
      exact ⟨by simp only; omega, by simp only at h10 ⊢; omega⟩
    · split at h
      · cases h
        exact ⟨by simp only; omega, by simp only at h10 ⊢; omega⟩
      · cases h
  · split at h
    · rename_i c8 c9
      exact absurd hpl (by unfold plain; omega)
    · split at h
      · rename_i c8 c9 c10
        exact absurd hpl (by unfold plain; omega)
      · split at h
        · cases es : strX I n p with
          | none => rw [es] at h; cases h
          | some r =>
            rw [es] at h
            change (vnm S (qk S f - 32) r.2).map _ = _ at h
            cases eu : vnm S (qk S f - 32) r.2 with
            | none => rw [eu] at h; cases h
            | some o => rw [eu] at h; cases h; have := strX_bd es; exact ⟨by simp only; omega, by simp only at h10 ⊢; omega⟩
        · split at h
          · cases es : strX I n p with
            | none => rw [es] at h; cases h
            | some r =>
              rw [es] at h
              change (numW (qk S f) r.2).map _ = _ at h
              cases eu : numW (qk S f) r.2 with
              | none => rw [eu] at h; cases h
              | some o => rw [eu] at h; cases h; have := strX_bd es; exact ⟨by simp only; omega, by simp only at h10 ⊢; omega⟩
          · cases eu : numW (qk S f) (cut I p (rns I n p)) with
            | none => rw [eu] at h; cases h
            | some o =>
              rw [eu] at h; cases h
              have hw := numW_len2 S f eu
              rw [cut_len] at hw
              exact ⟨by simp only; omega, by simp only; omega⟩
theorem val_len2 (hS : SW S) (hI : ∀ k, I k < 256) (hn : n ≤ 1000) (hE : EC S I n en sp) (hB : RB n sp) (hZ : ∀ m p r, m < S.1 → p ≤ n → sp m p = some r → (en m r.2).length < 16384) {f : Nat} (hf : f < nF_ S) {e : Nat × SV d} (hp : p ≤ n) (h : valS S I n sp f p = some e) : p < e.1 ∧ (slE S en e.2).length + om I p ≤ om I e.1 + 11 ∧ (¬ plain S f → (slE S en e.2).length + om I p ≤ om I e.1 + 6) ∧ (plain S f → (numE S f e.2.2.1).length + om I p ≤ om I e.1 + 6) := by
  have hbd := valS_bd hI hB hp h
  have hq := (hS.2.2.2.2.1 f hf).2.2.1
  have hw := wrK_rg S f
  have ht := tagE_len S f hq hw
  have hpm := plain_m hS hf
  unfold valS at h
  unfold slE
  rw [hbd.2.2, List.length_append]
  by_cases c : isM S f
  · rw [if_pos c] at h
    cases er : sp (qk S f - 16) p with
    | none => rw [er] at h; cases h
    | some r =>
      rw [er] at h
      cases h
      have hnp : ¬ plain S f := fun q => (hpm.mp q).2 c
      have hsw := (hS.2.2.2.2.1 f hf).2.2.2.1
      have hb := hE _ _ _ (by omega) hp er
      have ol := om_le I (show p ≤ r.1 by have := hB _ _ _ hp er; omega)
      have he := hB _ _ _ hp er
      have eb : bdE S en (f, (0 : Int64), ([] : List UInt8), r.2) = en (qk S f - 16) r.2 := by unfold bdE; rw [if_pos c]
      have hz := hZ _ _ _ (by omega) hp er
      have hl := lenE_len (b := en (qk S f - 16) r.2) hz
      rw [if_neg hnp]
      show p < r.1 ∧ (_ + (lenE (bdE S en (f, (0 : Int64), ([] : List UInt8), r.2)) ++ bdE S en (f, (0 : Int64), ([] : List UInt8), r.2)).length + _ ≤ _) ∧ (_ → _ + (lenE (bdE S en (f, (0 : Int64), ([] : List UInt8), r.2)) ++ bdE S en (f, (0 : Int64), ([] : List UInt8), r.2)).length + _ ≤ _) ∧ (_ → _)
      rw [eb, List.length_append]
      have pl : p < r.1 := by
        rcases Nat.lt_or_ge p r.1 with q | q
        · exact q
        · have e9 : p = r.1 := by have := hB _ _ _ hp er; omega
          rw [← e9] at hb; omega
      exact ⟨pl, by show _ ≤ om I r.1 + 11; omega, fun _ => by show _ ≤ om I r.1 + 6; omega, fun q => absurd q hnp⟩
  · rw [if_neg c] at h
    cases er : sclS S I n f p with
    | none => rw [er] at h; cases h
    | some r =>
      rw [er] at h
      cases h
      by_cases hpl : plain S f
      · have hnum := scl_num2 hI hpl er
        have ol := om_le I (Nat.le_of_lt hnum.1)
        have h10 := numE_len S f r.2.1
        rw [if_pos hpl]
        exact ⟨hnum.1, by show _ + (numE S f r.2.1).length + _ ≤ om I r.1 + 11; omega, fun q => absurd hpl q, fun _ => by show (numE S f r.2.1).length + _ ≤ om I r.1 + 6; omega⟩
      · have hk : qk S f = 9 ∨ qk S f = 10 := by
          by_cases q : qk S f = 9 ∨ qk S f = 10
          · exact q
          · exact absurd (hpm.mpr ⟨q, c⟩) hpl
        have hs := scl_str hk er
        have ol := om_le I (show p ≤ r.1 by omega)
        have he := sclS_bd hI hp er
        have eb : bdE S en (f, r.2.1, r.2.2, emp d) = r.2.2 := by unfold bdE; rw [if_neg c]
        have hl := lenE_len (b := r.2.2) (by omega)
        rw [if_neg hpl]
        show p < r.1 ∧ (_ + (lenE (bdE S en (f, r.2.1, r.2.2, emp d)) ++ bdE S en (f, r.2.1, r.2.2, emp d)).length + _ ≤ _) ∧ (_ → _ + (lenE (bdE S en (f, r.2.1, r.2.2, emp d)) ++ bdE S en (f, r.2.1, r.2.2, emp d)).length + _ ≤ _) ∧ (_ → _)
        rw [eb, List.length_append]
        exact ⟨by omega, by show _ ≤ om I r.1 + 11; omega, fun _ => by show _ ≤ om I r.1 + 6; omega, fun q => absurd q hpl⟩
theorem arr_len2 (hS : SW S) (hI : ∀ k, I k < 256) (hn : n ≤ 1000) (hE : EC S I n en sp) (hB : RB n sp) (hZ : ∀ m p r, m < S.1 → p ≤ n → sp m p = some r → (en m r.2).length < 16384) {f : Nat} (hf : f < nF_ S) : ∀ (c p : Nat) (acc : List (SV d)) (e : Nat × List (SV d)), p ≤ n → arrL S I n sp f c p acc = some e → (plain S f → (pkE S f e.2).length + om I p ≤ (pkE S f acc).length + om I e.1 + 4) ∧ (¬ plain S f → (e.2.flatMap (slE S en)).length + om I p ≤ (acc.flatMap (slE S en)).length + om I e.1 + 4)
  | 0, p, acc, e, _, g => by cases g
  | c + 1, p, acc, e, hp, g => by
    rw [arrL] at g
    have b1 := bl_ge' I n p
    have b2 := bl_le' I n p
    cases ev : valS S I n sp f (bl I n p) with
    | none => rw [ev] at g; cases g
    | some r =>
      rw [ev] at g
      change (if lk I n (bl I n r.1) = 44 then arrL S I n sp f c (bl I n r.1 + 1) (acc ++ [r.2]) else if lk I n (bl I n r.1) = 93 then some (bl I n r.1 + 1, acc ++ [r.2]) else none) = some e at g
      obtain ⟨v1, v2, v3, v4⟩ := val_len2 hS hI hn hE hB hZ hf (by omega) ev
      have b3 := bl_ge' I n r.1
      have o1 := om_le I b1
      have o3 := om_le I b3
      have k1 : (pkE S f (acc ++ [r.2])).length = (pkE S f acc).length + (numE S f r.2.2.1).length := by
        unfold pkE
        rw [List.flatMap_append, List.length_append, List.flatMap_cons, List.flatMap_nil, List.append_nil]
      have k2 : ((acc ++ [r.2]).flatMap (slE S en)).length = (acc.flatMap (slE S en)).length + (slE S en r.2).length := by
        rw [List.flatMap_append, List.length_append, List.flatMap_cons, List.flatMap_nil, List.append_nil]
      split at g
      · rename_i q
        have lq := lk_ne q (by decide)
        have o4 : om I (bl I n r.1 + 1) = om I (bl I n r.1) + 6 := om_44 (lk_44 q lq)
        obtain ⟨w1, w2⟩ := arr_len2 hS hI hn hE hB hZ hf c _ _ _ (by omega) g
        rw [k1] at w1
        rw [k2] at w2
        exact ⟨fun u => by have := w1 u; have := v4 u; omega, fun u => by have := w2 u; have := v3 u; omega⟩
      · split at g
        · have o5 := om_le I (Nat.le_add_right (bl I n r.1) 1)
          cases g
          show (_ → (pkE S f (acc ++ [r.2])).length + _ ≤ _ + om I (bl I n r.1 + 1) + 4) ∧ (_ → ((acc ++ [r.2]).flatMap (slE S en)).length + _ ≤ _ + om I (bl I n r.1 + 1) + 4)
          rw [k1, k2]
          exact ⟨fun u => by have := v4 u; omega, fun u => by have := v3 u; omega⟩
        · cases g
theorem Itm.len2 (hS : SW S) (hI : ∀ k, I k < 256) (hn : n ≤ 1000) (hE : EC S I n en sp) (hB : RB n sp) (hZ : ∀ m p r, m < S.1 → p ≤ n → sp m p = some r → (en m r.2).length < 16384) (hP : ∀ f q e ss, f < nF_ S → q ≤ n → itmS S I n sp f q = some (e, ss) → (pkE S f ss).length < 16384) {f q e : Nat} (hf : f < nF_ S) (hq : q ≤ n) {ss : List (SV d)} (hi : itmS S I n sp f q = some (e, ss)) {T : TV (d + 1)} (h : Itm S I n sp f q T) : (encF S en T f).length + om I q ≤ om I e + 11 := by
  have hbd := itmS_bd hI hB hq hi
  have hpk := hP _ _ _ _ hf hq hi
  have oq := om_le I (show q ≤ e by simp only at hbd; omega)
  obtain ⟨e', ss', h1, h2, h3⟩ := h
  rw [hi] at h1
  cases h1
  have hqn := (hS.2.2.2.2.1 f hf).2.2.1
  have ht := tagE_len S f hqn (k := 2) (by omega)
  unfold itmS at hi
  by_cases hr : qr S f = 1
  · rw [if_pos hr] at hi
    rw [encF_rep hr, h2 hr]
    unfold arrS at hi
    split at hi
    · rename_i c91
      have l91 := lk_ne c91 (by decide)
      have b1 := bl_ge' I n (q + 1)
      have o9 := om_le I (Nat.le_add_right q 1)
      split at hi
      · cases hi
        rw [if_pos rfl]
        show 0 + _ ≤ _
        simp only at hbd; omega
      · have hl := arr_len2 hS hI hn hE hB hZ hf _ _ _ _ (by omega) hi
        simp only [pkE, List.flatMap_nil, List.length_nil] at hl
        split
        · show 0 + _ ≤ _
          simp only at hbd; omega
        · split
          · rename_i u1 u2
            have w := hl.1 u2
            have w' : (pkE S f ss).length + om I (q + 1) ≤ om I e + 4 := by unfold pkE; omega
            have hll := lenE_len (b := pkE S f ss) hpk
            rw [List.length_append, List.length_append]
            omega
          · rename_i u1 u2
            have w := hl.2 u2
            omega
    · cases hi
  · rw [if_neg hr] at hi
    obtain ⟨s, es, eh⟩ := h3 hr
    rw [encF_hd hr, eh]
    simp only at hbd
    cases ev : valS S I n sp f q with
    | none => rw [ev] at hi; cases hi
    | some v =>
      rw [ev] at hi
      have u1 : v.1 = e := congrArg Prod.fst (Option.some.inj hi)
      have u2 : [v.2] = ss := congrArg Prod.snd (Option.some.inj hi)
      rw [es] at u2
      have u3 : v.2 = s := by injection u2
      obtain ⟨v1, v2, v3, v4⟩ := val_len2 hS hI hn hE hB hZ hf hq ev
      rw [u1, u3] at v2
      by_cases c : dps S s
      · rw [if_pos c]
        show 0 + _ ≤ _
        omega
      · rw [if_neg c]
        exact v2
theorem memL_len2 (hS : SW S) (hO : OD S od) (hI : ∀ k, I k < 256) (hn : n ≤ 1000) (hE : EC S I n en sp) (hB : RB n sp) (hZ : ∀ m p r, m < S.1 → p ≤ n → sp m p = some r → (en m r.2).length < 16384) (hP : ∀ f q e ss, f < nF_ S → q ≤ n → itmS S I n sp f q = some (e, ss) → (pkE S f ss).length < 16384) {m : Nat} (hm : m < S.1) : ∀ (c p : Nat) (seen : List Nat) (T : TV (d + 1)) (e : Nat × TV (d + 1)), p ≤ n → IS seen T → memL S I n sp m c p seen T = some e → sumE S od en m e.2 + om I p ≤ sumE S od en m T + om I e.1 + 3
  | 0, p, seen, T, e, _, _, g => by cases g
  | c + 1, p, seen, T, e, hp, hi, g => by
    rw [memL_1] at g
    cases e1 : mem1 S I n sp m p seen T with
    | none => rw [e1] at g; cases g
    | some x =>
      rw [e1] at g
      change (if lk I n (bl I n x.2.1) = 44 then memL S I n sp m c (bl I n x.2.1 + 1) (x.1 :: seen) x.2.2 else if lk I n (bl I n x.2.1) = 125 then some (bl I n x.2.1 + 1, x.2.2) else none) = _ at g
      obtain ⟨i1, i2, r, s1, s2, s3, s4, s5⟩ := mem1_tree hi e1
      obtain ⟨l1, l2, -⟩ := strX_bd s1
      have bo := byN_ok S m r.2
      rw [s2] at bo
      have hx1 : x.1 < nF_ S := bo.1
      have b1 := bl_ge' I n p
      have b2 := bl_le' I n p
      have b3 := bl_ge' I n r.1
      have b4 := bl_le' I n r.1
      have l58 := lk_ne s4 (by decide)
      have b5 := bl_ge' I n (bl I n r.1 + 1)
      have b6 := bl_le' I n (bl I n r.1 + 1)
      have b7 := bl_ge' I n x.2.1
      have ok1 := om_le I (show p ≤ bl I n (bl I n r.1 + 1) by omega)
      have ok2 := om_le I b7
      have key : sumE S od en m x.2.2 + om I p ≤ sumE S od en m T + om I x.2.1 + 5 := by
        have h1 : sumE S od en m x.2.2 ≤ sumE S od en m T + (encF S en x.2.2 x.1).length := by
          unfold sumE
          exact sum_one (fun g hg => by rw [encF_same (i2 g hg).1 (i2 g hg).2]) (hO.nd hm)
        rcases s5 with ⟨u1, u2, u3⟩ | ⟨u1, u2, ss, u3⟩
        · rw [u2.enc] at h1
          simp only [List.length_nil] at h1
          have ok3 := om_le I (show p ≤ x.2.1 by omega)
          omega
        · have := u2.len2 hS hI hn hE hB hZ hP hx1 (by omega) u3
          omega
      split at g
      · rename_i q
        have lq := lk_ne q (by decide)
        have o4 : om I (bl I n x.2.1 + 1) = om I (bl I n x.2.1) + 6 := om_44 (lk_44 q lq)
        have := memL_len2 hS hO hI hn hE hB hZ hP hm c _ _ _ _ (by omega) i1 g
        omega
      · split at g
        · have o5 := om_le I (Nat.le_add_right (bl I n x.2.1) 1)
          cases g
          show sumE S od en m x.2.2 + om I p ≤ sumE S od en m T + om I (bl I n x.2.1 + 1) + 3
          omega
        · cases g
theorem objS_len2 (hS : SW S) (hO : OD S od) (hI : ∀ k, I k < 256) (hn : n ≤ 1000) : ∀ d, EC S I n (enc S od d) (objS S I n d)
  | 0 => fun m p r hm hp h => by cases h
  | d + 1 => fun m p r hm hp h => by
    rw [objS] at h
    have b1 := bl_ge' I n (p + 1)
    split at h
    · rename_i q
      have lq := lk_ne q (by decide)
      have o1 : om I (p + 1) = om I p + 4 := om_123 (lk_123 q lq)
      have o2 := om_le I b1
      split at h
      · rename_i q2
        have := lk_ne q2 (by decide)
        cases h
        show (enc S od (d + 1) m (emp (d + 1))).length + 1 + om I p ≤ om I (bl I n (p + 1) + 1)
        have o3 := om_le I (Nat.le_add_right (bl I n (p + 1)) 1)
        rw [enc_sum, sum_emp]
        omega
      · have := memL_len2 hS hO hI hn (objS_len2 hS hO hI hn d) (objS_bd hI d) (fun m p r hm hp h => by have := objS_len hS hO hI hn d m p r hm hp h; have := objS_bd hI d m p r hp h; omega) (fun f q e ss hf hq hi => pkE_lt hI hn (objS_bd hI d) (objS_TZ hI hn d) hq hi) hm _ _ _ _ _ (by omega) ⟨fun s hs => (by cases hs), fun s hs => (by cases hs)⟩ h
        rw [sum_emp] at this
        rw [enc_sum]
        omega
    · cases h

end D0
