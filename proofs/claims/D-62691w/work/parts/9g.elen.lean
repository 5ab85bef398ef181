set_option maxRecDepth 100000
/-! WIRE: a message is not much longer than its text -/
section El
variable {S : SC} {I : Nat → Nat} {n p d : Nat}
theorem numE_small (S : SC) (f : Nat) {v : Nat} (hv : v ≤ 9) : (numE S f (lN v)).length ≤ 8 := by
  have q4 : ∀ v : Fin 10, (vrE 9 (((lShl (lN v.val) 1) ^^^ (lShr (lN v.val) 63)) &&& 4294967295)).length ≤ 8 := by decide +kernel
  have q5 : ∀ v : Fin 10, (vrE 9 ((lShl (lN v.val) 1) ^^^ (lShr (lN v.val) 63))).length ≤ 8 := by decide +kernel
  have q0 : ∀ v : Fin 10, (vrE 9 (lN v.val)).length ≤ 8 := by decide +kernel
  unfold numE
  split
  · rw [fxF_len]; omega
  · split
    · rw [fxF_len]; omega
    · unfold zz
      split
      · exact q4 ⟨v, by omega⟩
      · split
        · exact q5 ⟨v, by omega⟩
        · exact q0 ⟨v, by omega⟩
theorem numW_len (S : SC) (f : Nat) {k : Nat} {w : List UInt8} {x : Int64} (h : numW k w = some x) : 1 ≤ w.length ∧ (numE S f x).length ≤ 4 * w.length + 4 := by
  have h10 := numE_len S f x
  unfold numW at h
  split at h
  · rename_i g
    obtain ⟨a1, a2, a3, a4, a5, a6, a7, a8, -⟩ := g_sp (wI w) w.length 0
    have hlt := g.1.1
    have hg4 := g.2
    refine ⟨by omega, ?_⟩
    by_cases c : w.length = 1
    · rw [c] at h g
      cases e : wv (wI w) 1 0 with
      | none => rw [e] at h; cases h
      | some v =>
        rw [e] at h
        obtain ⟨h9, h45⟩ := wv1 g.1 e
        change (if fitk k v (msg w v) then some (nval v (msg w v)) else none) = some x at h
        split at h
        · cases h
          have em : msg w v = 0 := by unfold msg; rw [c, if_neg (fun q => h45 q.1)]
          have en : nval v (msg w v) = lN v := by unfold nval; rw [em, if_neg (by decide)]
          rw [en]
          have := numE_small S f h9
          omega
        · cases h
    · omega
  · cases h
theorem scl_num (hI : ∀ k, I k < 256) {f : Nat} {e : Nat × Int64 × List UInt8} (hpl : plain S f) (h : sclS S I n f p = some e) : p < e.1 ∧ (numE S f e.2.1).length ≤ 4 * (e.1 - p) + 4 := by
  have h10 := numE_len S f e.2.1
  have s6 : slen 6 = 4 ∧ slen 7 = 5 := by decide +kernel
  unfold sclS at h
  split at h
  · split at h
    · cases h
      exact ⟨by simp only; omega, by simp only at h10 ⊢; omega⟩
    · split at h
      · cases h
        exact ⟨by simp only; omega, by simp only at h10 ⊢; omega⟩
      · cases h
  · split at h
    · rename_i c8 c9
      exact absurd hpl (by unfold plain; omega)
    · split at h
      · rename_i c8 c9 c10
        exact absurd hpl (by unfold plain; omega)
      · split at h
        · cases es : strX I n p with
          | none => rw [es] at h; cases h
          | some r =>
            rw [es] at h
            change (vnm S (qk S f - 32) r.2).map _ = _ at h
            cases eu : vnm S (qk S f - 32) r.2 with
            | none => rw [eu] at h; cases h
            | some o => rw [eu] at h; cases h; have := strX_bd es; exact ⟨by simp only; omega, by simp only at h10 ⊢; omega⟩
        · split at h
          · cases es : strX I n p with
            | none => rw [es] at h; cases h
            | some r =>
              rw [es] at h
              change (numW (qk S f) r.2).map _ = _ at h
              cases eu : numW (qk S f) r.2 with
              | none => rw [eu] at h; cases h
              | some o => rw [eu] at h; cases h; have := strX_bd es; exact ⟨by simp only; omega, by simp only at h10 ⊢; omega⟩
          · cases eu : numW (qk S f) (cut I p (rns I n p)) with
            | none => rw [eu] at h; cases h
            | some o =>
              rw [eu] at h; cases h
              have hw := numW_len S f eu
              rw [cut_len] at hw
              exact ⟨by simp only; omega, by simp only; omega⟩
theorem scl_str {f : Nat} {e : Nat × Int64 × List UInt8} (hk : qk S f = 9 ∨ qk S f = 10) (h : sclS S I n f p = some e) : e.2.2.length + p + 2 ≤ e.1 := by
  unfold sclS at h
  rw [if_neg (by omega)] at h
  split at h
  · cases es : strX I n p with
    | none => rw [es] at h; cases h
    | some r => rw [es] at h; cases h; exact strX_len es
  · rw [if_pos (by omega)] at h
    cases es : strX I n p with
    | none => rw [es] at h; cases h
    | some r =>
      rw [es] at h
      change (unb r.2).map _ = _ at h
      cases eu : unb r.2 with
      | none => rw [eu] at h; cases h
      | some o =>
        rw [eu] at h; cases h
        have := strX_len es
        have := unb_len eu
        show o.length + p + 2 ≤ r.1
        omega
/-- a message is not longer than four times its text -/
def EB {d : Nat} (S : SC) (n : Nat) (en : Nat → TV d → List UInt8) (sp : Nat → Nat → Option (Nat × TV d)) : Prop := ∀ m p r, m < S.1 → p ≤ n → sp m p = some r → (en m r.2).length + 8 + 4 * p ≤ 4 * r.1
variable {sp : Nat → Nat → Option (Nat × TV d)} {en : Nat → TV d → List UInt8}
theorem val_len (hS : SW S) (hI : ∀ k, I k < 256) (hn : n ≤ 1000) (hE : EB S n en sp) (hB : RB n sp) {f : Nat} (hf : f < nF_ S) {e : Nat × SV d} (hp : p ≤ n) (h : valS S I n sp f p = some e) : p < e.1 ∧ (slE S en e.2).length + 4 * p ≤ 4 * e.1 + 12 ∧ (¬ plain S f → (slE S en e.2).length + 4 * p ≤ 4 * e.1 + 4) ∧ (plain S f → (numE S f e.2.2.1).length + 4 * p ≤ 4 * e.1 + 4) := by
  have hbd := valS_bd hI hB hp h
  have hq := (hS.2.2.2.2.1 f hf).2.2.1
  have hw := wrK_rg S f
  have ht := tagE_len S f hq hw
  have hpm := plain_m hS hf
  unfold valS at h
  unfold slE
  rw [hbd.2.2, List.length_append]
  by_cases c : isM S f
  · rw [if_pos c] at h
    cases er : sp (qk S f - 16) p with
    | none => rw [er] at h; cases h
    | some r =>
      rw [er] at h
      cases h
      have hnp : ¬ plain S f := fun q => (hpm.mp q).2 c
      have hsw := (hS.2.2.2.2.1 f hf).2.2.2.1
      have hb := hE _ _ _ (by omega) hp er
      have he := hB _ _ _ hp er
      have eb : bdE S en (f, (0 : Int64), ([] : List UInt8), r.2) = en (qk S f - 16) r.2 := by unfold bdE; rw [if_pos c]
      have hl := lenE_len (b := en (qk S f - 16) r.2) (by omega)
      rw [if_neg hnp]
      show p < r.1 ∧ (_ + (lenE (bdE S en (f, (0 : Int64), ([] : List UInt8), r.2)) ++ bdE S en (f, (0 : Int64), ([] : List UInt8), r.2)).length + _ ≤ _) ∧ (_ → _ + (lenE (bdE S en (f, (0 : Int64), ([] : List UInt8), r.2)) ++ bdE S en (f, (0 : Int64), ([] : List UInt8), r.2)).length + _ ≤ _) ∧ (_ → _)
      rw [eb, List.length_append]
      exact ⟨by omega, by show _ ≤ 4 * r.1 + 12; omega, fun _ => by show _ ≤ 4 * r.1 + 4; omega, fun q => absurd q hnp⟩
  · rw [if_neg c] at h
    cases er : sclS S I n f p with
    | none => rw [er] at h; cases h
    | some r =>
      rw [er] at h
      cases h
      by_cases hpl : plain S f
      · have hnum := scl_num hI hpl er
        have h10 := numE_len S f r.2.1
        rw [if_pos hpl]
        exact ⟨hnum.1, by show _ + (numE S f r.2.1).length + _ ≤ 4 * r.1 + 12; omega, fun q => absurd hpl q, fun _ => by show (numE S f r.2.1).length + _ ≤ 4 * r.1 + 4; omega⟩
      · have hk : qk S f = 9 ∨ qk S f = 10 := by
          by_cases q : qk S f = 9 ∨ qk S f = 10
          · exact q
          · exact absurd (hpm.mpr ⟨q, c⟩) hpl
        have hs := scl_str hk er
        have he := sclS_bd hI hp er
        have eb : bdE S en (f, r.2.1, r.2.2, emp d) = r.2.2 := by unfold bdE; rw [if_neg c]
        have hl := lenE_len (b := r.2.2) (by omega)
        rw [if_neg hpl]
        show p < r.1 ∧ (_ + (lenE (bdE S en (f, r.2.1, r.2.2, emp d)) ++ bdE S en (f, r.2.1, r.2.2, emp d)).length + _ ≤ _) ∧ (_ → _ + (lenE (bdE S en (f, r.2.1, r.2.2, emp d)) ++ bdE S en (f, r.2.1, r.2.2, emp d)).length + _ ≤ _) ∧ (_ → _)
        rw [eb, List.length_append]
        exact ⟨by omega, by show _ ≤ 4 * r.1 + 12; omega, fun _ => by show _ ≤ 4 * r.1 + 4; omega, fun q => absurd q hpl⟩
theorem arr_len (hS : SW S) (hI : ∀ k, I k < 256) (hn : n ≤ 1000) (hE : EB S n en sp) (hB : RB n sp) {f : Nat} (hf : f < nF_ S) : ∀ (c p : Nat) (acc : List (SV d)) (e : Nat × List (SV d)), p ≤ n → arrL S I n sp f c p acc = some e → (plain S f → (pkE S f e.2).length + 4 * p ≤ (pkE S f acc).length + 4 * e.1) ∧ (¬ plain S f → (e.2.flatMap (slE S en)).length + 4 * p ≤ (acc.flatMap (slE S en)).length + 4 * e.1)
  | 0, p, acc, e, _, g => by cases g
  | c + 1, p, acc, e, hp, g => by
    rw [arrL] at g
    have b1 := bl_ge' I n p
    have b2 := bl_le' I n p
    cases ev : valS S I n sp f (bl I n p) with
    | none => rw [ev] at g; cases g
    | some r =>
      rw [ev] at g
      change (if lk I n (bl I n r.1) = 44 then arrL S I n sp f c (bl I n r.1 + 1) (acc ++ [r.2]) else if lk I n (bl I n r.1) = 93 then some (bl I n r.1 + 1, acc ++ [r.2]) else none) = some e at g
      obtain ⟨v1, v2, v3, v4⟩ := val_len hS hI hn hE hB hf (by omega) ev
      have b3 := bl_ge' I n r.1
      have k1 : (pkE S f (acc ++ [r.2])).length = (pkE S f acc).length + (numE S f r.2.2.1).length := by
        unfold pkE
        rw [List.flatMap_append, List.length_append, List.flatMap_cons, List.flatMap_nil, List.append_nil]
      have k2 : ((acc ++ [r.2]).flatMap (slE S en)).length = (acc.flatMap (slE S en)).length + (slE S en r.2).length := by
        rw [List.flatMap_append, List.length_append, List.flatMap_cons, List.flatMap_nil, List.append_nil]
      split at g
      · rename_i q
        have := lk_ne q (by decide)
        obtain ⟨w1, w2⟩ := arr_len hS hI hn hE hB hf c _ _ _ (by omega) g
        rw [k1] at w1
        rw [k2] at w2
        exact ⟨fun u => by have := w1 u; have := v4 u; omega, fun u => by have := w2 u; have := v3 u; omega⟩
      · split at g
        · cases g
          show (_ → (pkE S f (acc ++ [r.2])).length + _ ≤ _ + 4 * (bl I n r.1 + 1)) ∧ (_ → ((acc ++ [r.2]).flatMap (slE S en)).length + _ ≤ _ + 4 * (bl I n r.1 + 1))
          rw [k1, k2]
          exact ⟨fun u => by have := v4 u; omega, fun u => by have := v3 u; omega⟩
        · cases g
theorem encF_hd {T : TV (d + 1)} {f : Nat} (hr : qr S f ≠ 1) : encF S en T f = match hdS f (t1 T) with | none => [] | some s => slE S en s := by
  unfold encF hdS
  rw [if_neg hr]
  cases drp f (t1 T) <;> rfl
theorem encF_rep {T : TV (d + 1)} {f : Nat} (hr : qr S f = 1) : encF S en T f = if rws f (t2 T) = [] then [] else if plain S f then tagE S f 2 ++ (lenE (pkE S f (rws f (t2 T))) ++ pkE S f (rws f (t2 T))) else (rws f (t2 T)).flatMap (slE S en) := by
  unfold encF
  rw [if_pos hr]
theorem Nth.enc {T : TV (d + 1)} {f : Nat} (h : Nth f T) : encF S en T f = [] := by
  by_cases hr : qr S f = 1
  · rw [encF_rep hr, if_pos h.2]
  · rw [encF_hd hr, h.1]
theorem encF_same {T T' : TV (d + 1)} {f : Nat} (h1 : hdS f (t1 T') = hdS f (t1 T)) (h2 : rws f (t2 T') = rws f (t2 T)) : encF S en T' f = encF S en T f := by
  by_cases hr : qr S f = 1
  · rw [encF_rep hr, encF_rep hr, h2]
  · rw [encF_hd hr, encF_hd hr, h1]
theorem Itm.len (hS : SW S) (hI : ∀ k, I k < 256) (hn : n ≤ 1000) (hE : EB S n en sp) (hB : RB n sp) {f q e : Nat} (hf : f < nF_ S) (hq : q ≤ n) {ss : List (SV d)} (hi : itmS S I n sp f q = some (e, ss)) {T : TV (d + 1)} (h : Itm S I n sp f q T) : (encF S en T f).length + 4 * q ≤ 4 * e + 12 := by
  have hbd := itmS_bd hI hB hq hi
  obtain ⟨e', ss', h1, h2, h3⟩ := h
  rw [hi] at h1
  cases h1
  have hqn := (hS.2.2.2.2.1 f hf).2.2.1
  have ht := tagE_len S f hqn (k := 2) (by omega)
  unfold itmS at hi
  by_cases hr : qr S f = 1
  · rw [if_pos hr] at hi
    rw [encF_rep hr, h2 hr]
    unfold arrS at hi
    split at hi
    · rename_i c91
      have l91 := lk_ne c91 (by decide)
      have b1 := bl_ge' I n (q + 1)
      split at hi
      · cases hi
        rw [if_pos rfl]
        show 0 + _ ≤ _
        simp only at hbd; omega
      · have hl := arr_len hS hI hn hE hB hf _ _ _ _ (by omega) hi
        simp only [pkE, List.flatMap_nil, List.length_nil] at hl
        split
        · show 0 + _ ≤ _
          simp only at hbd; omega
        · split
          · rename_i u1 u2
            have w := hl.1 u2
            have w' : (pkE S f ss).length + 4 * (q + 1) ≤ 4 * e := by unfold pkE; omega
            have hll := lenE_len (b := pkE S f ss) (by simp only at hbd; omega)
            rw [List.length_append, List.length_append]
            omega
          · rename_i u1 u2
            have w := hl.2 u2
            omega
    · cases hi
  · rw [if_neg hr] at hi
    obtain ⟨s, es, eh⟩ := h3 hr
    rw [encF_hd hr, eh]
    simp only at hbd
    cases ev : valS S I n sp f q with
    | none => rw [ev] at hi; cases hi
    | some v =>
      rw [ev] at hi
      have u1 : v.1 = e := congrArg Prod.fst (Option.some.inj hi)
      have u2 : [v.2] = ss := congrArg Prod.snd (Option.some.inj hi)
      rw [es] at u2
      have u3 : v.2 = s := by injection u2
      obtain ⟨v1, v2, v3, v4⟩ := val_len hS hI hn hE hB hf hq ev
      rw [u1, u3] at v2
      by_cases c : dps S s
      · rw [if_pos c]
        show 0 + _ ≤ _
        omega
      · rw [if_neg c]
        exact v2
theorem sum_one {l : List Nat} {F F' : Nat → Nat} {a : Nat} (h : ∀ g, g ≠ a → F' g = F g) (hn : l.Nodup) : (l.map F').sum ≤ (l.map F).sum + F' a := by
  induction l with
  | nil => simp
  | cons b l ih =>
    rw [List.nodup_cons] at hn
    rw [List.map_cons, List.map_cons, List.sum_cons, List.sum_cons]
    by_cases c : b = a
    · have e : (l.map F').sum = (l.map F).sum := by
        congr 1
        exact List.map_congr_left (fun g hg => h g (fun q => hn.1 (by rw [c, ← q]; exact hg)))
      rw [e, c]; omega
    · rw [h b c]
      have := ih hn.2
      omega
end El
