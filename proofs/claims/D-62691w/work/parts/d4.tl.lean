set_option maxRecDepth 100000
/-! ROOM: what a message weighs, by its text: one induction for all measures -/
/-- weight of a value; th: of one that is no message -/
def vW {d : Nat} (S : SC) (th : Nat → Int64 → List UInt8 → Nat) (rc : Nat → TV d → Nat) (s : SV d) : Nat := if isM S s.1 then rc (qk S s.1 - 16) s.2.2.2 else th s.1 s.2.1 s.2.2.1
def eW {d : Nat} (S : SC) (th : Nat → Int64 → List UInt8 → Nat) (cE : Nat) (rc : Nat → TV d → Nat) (l : List (SV d)) : Nat := (l.map (fun s => cE + vW S th rc s)).sum
/-- weight of a field -/
def fW {d : Nat} (S : SC) (th : Nat → Int64 → List UInt8 → Nat) (cM cR cE : Nat) (rc : Nat → TV d → Nat) (T : TV (d + 1)) (f : Nat) : Nat := if qr S f = 1 then (if rws f (t2 T) = [] then 0 else cR + eW S th cE rc (rws f (t2 T))) else match hdS f (t1 T) with | none => 0 | some s => cM + vW S th rc s
def sW2 {d : Nat} (S : SC) (od : Nat → List Nat) (th : Nat → Int64 → List UInt8 → Nat) (cM cR cE : Nat) (rc : Nat → TV d → Nat) (m : Nat) (T : TV (d + 1)) : Nat := ((od m).map (fW S th cM cR cE rc T)).sum
/-- weight of a message -/
def oW (S : SC) (od : Nat → List Nat) (th : Nat → Int64 → List UInt8 → Nat) (cM cR cE cO : Nat) : (d : Nat) → Nat → TV d → Nat
  | 0, _, _ => cO
  | d + 1, m, T => cO + sW2 S od th cM cR cE (oW S od th cM cR cE cO d) m T
/-- what a measure must do: signs (w), names (wS), values -/
def MZ (S : SC) (I : Nat → Nat) (n : Nat) (Q : Nat → Prop) (M : Nat → Nat) (th : Nat → Int64 → List UInt8 → Nat) (w : Nat → Nat) (wS : Nat) : Prop :=
  (∀ p q, p ≤ q → M p ≤ M q) ∧
  (∀ p c, p < n → I p = c → c ∈ [44, 58, 91, 93, 123, 125] → M p + w c ≤ M (p + 1) ∧ (Q p → Q (p + 1))) ∧
  (∀ p, Q p → Q (bl I n p)) ∧
  (∀ p r m f, m < S.1 → Q p → strX I n p = some r → byN S m r.2 = some f → M p + wS ≤ M r.1 ∧ Q r.1) ∧
  (∀ p, Q p → lit I n p 5 → Q (p + slen 5)) ∧
  (∀ f p e, p ≤ n → Q p → f < nF_ S → ¬ isM S f → qr S f ≠ 1 → sclS S I n f p = some e → th f e.2.1 e.2.2 + M p ≤ M e.1 ∧ Q e.1) ∧
  (∀ f p e, p < n → Q p → f < nF_ S → ¬ isM S f → qr S f = 1 → (I p = 91 ∨ I p = 44) → sclS S I n f (bl I n (p + 1)) = some e → th f e.2.1 e.2.2 + M (bl I n (p + 1)) ≤ M e.1 ∧ Q e.1)
section D4
variable {S : SC} {I : Nat → Nat} {n p d : Nat} {od : Nat → List Nat} {Q : Nat → Prop} {M : Nat → Nat} {th : Nat → Int64 → List UInt8 → Nat} {w : Nat → Nat} {wS cM cR cE cO : Nat} {sp : Nat → Nat → Option (Nat × TV d)} {rc : Nat → TV d → Nat}
def EW {d : Nat} (S : SC) (n : Nat) (Q : Nat → Prop) (M : Nat → Nat) (rc : Nat → TV d → Nat) (sp : Nat → Nat → Option (Nat × TV d)) : Prop := ∀ m p r, m < S.1 → p ≤ n → Q p → sp m p = some r → rc m r.2 + M p ≤ M r.1 ∧ Q r.1
theorem lkI {q : Nat} {c : Nat} (h : lk I n q = (c : Int)) : q < n ∧ I q = c := by
  have hq := lk_ne h (by omega)
  rw [lk_lt hq] at h
  exact ⟨hq, by omega⟩
theorem eW_app (a b : List (SV d)) : eW S th cE rc (a ++ b) = eW S th cE rc a + eW S th cE rc b := by
  unfold eW; rw [List.map_append, List.sum_append]
theorem val_W (hZ : MZ S I n Q M th w wS) (hS : SW S) (hE : EW S n Q M rc sp) {f : Nat} (hf : f < nF_ S) (hr : qr S f ≠ 1) {e : Nat × SV d} (hp : p ≤ n) (hq : Q p) (h : valS S I n sp f p = some e) : vW S th rc e.2 + M p ≤ M e.1 ∧ Q e.1 := by
  obtain ⟨z1, z2, z3, z4, z5, z6, z7⟩ := hZ
  unfold valS at h
  unfold vW
  by_cases c : isM S f
  · rw [if_pos c] at h
    cases er : sp (qk S f - 16) p with
    | none => rw [er] at h; cases h
    | some r =>
      rw [er] at h
      cases h
      have hsw := (hS.2.2.2.2.1 f hf).2.2.2.1
      show (if isM S f then rc (qk S f - 16) r.2 else _) + _ ≤ _ ∧ _
      rw [if_pos c]
      exact hE _ _ _ (by omega) hp hq er
  · rw [if_neg c] at h
    cases er : sclS S I n f p with
    | none => rw [er] at h; cases h
    | some r =>
      rw [er] at h
      cases h
      show (if isM S f then _ else _) + _ ≤ _ ∧ _
      rw [if_neg c]
      exact z6 f p r hp hq hf c hr er
theorem val_WA (hZ : MZ S I n Q M th w wS) (hS : SW S) (hE : EW S n Q M rc sp) {f : Nat} (hf : f < nF_ S) (hr : qr S f = 1) {e : Nat × SV d} (hp : p < n) (hq : Q p) (hc : I p = 91 ∨ I p = 44) (h : valS S I n sp f (bl I n (p + 1)) = some e) : vW S th rc e.2 + M (bl I n (p + 1)) ≤ M e.1 ∧ Q e.1 := by
  obtain ⟨z1, z2, z3, z4, z5, z6, z7⟩ := hZ
  have q1 : Q (p + 1) := by
    rcases hc with c | c
    · exact (z2 p 91 hp c (by decide)).2 hq
    · exact (z2 p 44 hp c (by decide)).2 hq
  have b2 := bl_le' I n (p + 1)
  unfold valS at h
  unfold vW
  by_cases c : isM S f
  · rw [if_pos c] at h
    cases er : sp (qk S f - 16) (bl I n (p + 1)) with
    | none => rw [er] at h; cases h
    | some r =>
      rw [er] at h
      cases h
      have hsw := (hS.2.2.2.2.1 f hf).2.2.2.1
      show (if isM S f then rc (qk S f - 16) r.2 else _) + _ ≤ _ ∧ _
      rw [if_pos c]
      exact hE _ _ _ (by omega) (by omega) (z3 _ q1) er
  · rw [if_neg c] at h
    cases er : sclS S I n f (bl I n (p + 1)) with
    | none => rw [er] at h; cases h
    | some r =>
      rw [er] at h
      cases h
      show (if isM S f then _ else _) + _ ≤ _ ∧ _
      rw [if_neg c]
      exact z7 f p r hp hq hf c hr hc er
theorem arr_W (hZ : MZ S I n Q M th w wS) (hS : SW S) (hI : ∀ k, I k < 256) (hB : RB n sp) (hE : EW S n Q M rc sp) (h44 : cE ≤ w 44) {f : Nat} (hf : f < nF_ S) (hr : qr S f = 1) : ∀ (c p : Nat) (acc : List (SV d)) (e : Nat × List (SV d)), p < n → Q p → (I p = 91 ∨ I p = 44) → arrL S I n sp f c (p + 1) acc = some e → eW S th cE rc e.2 + M (p + 1) + w 93 ≤ eW S th cE rc acc + M e.1 + cE ∧ Q e.1
  | 0, p, acc, e, _, _, _, g => by cases g
  | c + 1, p, acc, e, hp, hq, hc, g => by
    rw [arrL] at g
    obtain ⟨z1, z2, z3, z4, z5, z6, z7⟩ := id hZ
    have b1 := bl_ge' I n (p + 1)
    have b2 := bl_le' I n (p + 1)
    cases ev : valS S I n sp f (bl I n (p + 1)) with
    | none => rw [ev] at g; cases g
    | some r =>
      rw [ev] at g
      change (if lk I n (bl I n r.1) = 44 then arrL S I n sp f c (bl I n r.1 + 1) (acc ++ [r.2]) else if lk I n (bl I n r.1) = 93 then some (bl I n r.1 + 1, acc ++ [r.2]) else none) = some e at g
      obtain ⟨v1, v2⟩ := val_WA hZ hS hE hf hr hp hq hc ev
      have b3 := bl_ge' I n r.1
      have m1 := z1 _ _ b1
      have m3 := z1 _ _ b3
      have q3 := z3 _ v2
      have k1 : eW S th cE rc (acc ++ [r.2]) = eW S th cE rc acc + (cE + vW S th rc r.2) := by rw [eW_app]; rfl
      split at g
      · rename_i q
        obtain ⟨l1, l2⟩ := lkI (c := 44) q
        obtain ⟨w1, -⟩ := z2 _ 44 l1 l2 (by decide)
        obtain ⟨u1, u2⟩ := arr_W hZ hS hI hB hE h44 hf hr c _ _ _ l1 q3 (Or.inr l2) g
        rw [k1] at u1
        exact ⟨by omega, u2⟩
      · split at g
        · rename_i q
          obtain ⟨l1, l2⟩ := lkI (c := 93) q
          obtain ⟨w1, w2⟩ := z2 _ 93 l1 l2 (by decide)
          cases g
          refine ⟨?_, w2 q3⟩
          show eW S th cE rc (acc ++ [r.2]) + M (p + 1) + w 93 ≤ eW S th cE rc acc + M (bl I n r.1 + 1) + cE
          rw [k1]
          omega
        · cases g
theorem fW_rep {T : TV (d + 1)} {f : Nat} (hr : qr S f = 1) : fW S th cM cR cE rc T f = if rws f (t2 T) = [] then 0 else cR + eW S th cE rc (rws f (t2 T)) := by
  unfold fW; rw [if_pos hr]
theorem fW_hd {T : TV (d + 1)} {f : Nat} (hr : qr S f ≠ 1) : fW S th cM cR cE rc T f = match hdS f (t1 T) with | none => 0 | some s => cM + vW S th rc s := by
  unfold fW; rw [if_neg hr]
theorem Nth.fW {T : TV (d + 1)} {f : Nat} (h : Nth f T) : fW S th cM cR cE rc T f = 0 := by
  by_cases hr : qr S f = 1
  · rw [fW_rep hr, if_pos h.2]
  · rw [fW_hd hr, h.1]
theorem fW_same {T T' : TV (d + 1)} {f : Nat} (h1 : hdS f (t1 T') = hdS f (t1 T)) (h2 : rws f (t2 T') = rws f (t2 T)) : fW S th cM cR cE rc T' f = fW S th cM cR cE rc T f := by
  by_cases hr : qr S f = 1
  · rw [fW_rep hr, fW_rep hr, h2]
  · rw [fW_hd hr, fW_hd hr, h1]
theorem Itm.W (hZ : MZ S I n Q M th w wS) (hS : SW S) (hI : ∀ k, I k < 256) (hB : RB n sp) (hE : EW S n Q M rc sp) (h44 : cE ≤ w 44) (hM : cM ≤ wS + w 58 + w 44) (hR : cR + cE ≤ wS + w 58 + w 91 + w 93 + w 44) {f q e : Nat} (hf : f < nF_ S) (hq : q ≤ n) (hQ : Q q) {ss : List (SV d)} (hi : itmS S I n sp f q = some (e, ss)) {T : TV (d + 1)} (h : Itm S I n sp f q T) : fW S th cM cR cE rc T f + M q ≤ M e + (wS + w 58 + w 44) ∧ Q e := by
  obtain ⟨z1, z2, z3, z4, z5, z6, z7⟩ := id hZ
  have hbd := itmS_bd hI hB hq hi
  have mq := z1 q e (by simp only at hbd; omega)
  obtain ⟨e', ss', h1, h2, h3⟩ := h
  rw [hi] at h1
  cases h1
  unfold itmS at hi
  by_cases hr : qr S f = 1
  · rw [if_pos hr] at hi
    rw [fW_rep hr, h2 hr]
    unfold arrS at hi
    split at hi
    · rename_i c91
      obtain ⟨l1, l2⟩ := lkI (c := 91) c91
      obtain ⟨w1, w2⟩ := z2 _ 91 l1 l2 (by decide)
      have q1 := z3 _ (w2 hQ)
      split at hi
      · rename_i c93
        obtain ⟨l3, l4⟩ := lkI (c := 93) c93
        obtain ⟨w3, w4⟩ := z2 _ 93 l3 l4 (by decide)
        cases hi
        rw [if_pos rfl]
        exact ⟨by omega, w4 q1⟩
      · obtain ⟨u1, u2⟩ := arr_W hZ hS hI hB hE h44 hf hr _ _ _ _ l1 hQ (Or.inl l2) hi
        refine ⟨?_, u2⟩
        have e0 : eW S th cE rc ([] : List (SV d)) = 0 := rfl
        rw [e0] at u1
        split
        · omega
        · show cR + eW S th cE rc ss + _ ≤ _
          simp only at u1
          omega
    · cases hi
  · rw [if_neg hr] at hi
    obtain ⟨s, es, eh⟩ := h3 hr
    rw [fW_hd hr, eh]
    cases ev : valS S I n sp f q with
    | none => rw [ev] at hi; cases hi
    | some v =>
      rw [ev] at hi
      have u1 : v.1 = e := congrArg Prod.fst (Option.some.inj hi)
      have u2 : [v.2] = ss := congrArg Prod.snd (Option.some.inj hi)
      rw [es] at u2
      have u3 : v.2 = s := by injection u2
      obtain ⟨v1, v2⟩ := val_W hZ hS hE hf hr hq hQ ev
      rw [u1] at v1 v2
      rw [u3] at v1
      refine ⟨?_, v2⟩
      by_cases c : dps S s
      · rw [if_pos c]
        show 0 + _ ≤ _
        omega
      · rw [if_neg c]
        show cM + vW S th rc s + _ ≤ _
        omega
theorem memL_W (hZ : MZ S I n Q M th w wS) (hS : SW S) (hO : OD S od) (hI : ∀ k, I k < 256) (hB : RB n sp) (hE : EW S n Q M rc sp) (h44 : cE ≤ w 44) (hM : cM ≤ wS + w 58 + w 44) (hR : cR + cE ≤ wS + w 58 + w 91 + w 93 + w 44) {m : Nat} (hm : m < S.1) : ∀ (c p : Nat) (seen : List Nat) (T : TV (d + 1)) (e : Nat × TV (d + 1)), p ≤ n → Q p → IS seen T → memL S I n sp m c p seen T = some e → sW2 S od th cM cR cE rc m e.2 + M p + w 125 ≤ sW2 S od th cM cR cE rc m T + M e.1 + w 44 ∧ Q e.1
  | 0, p, seen, T, e, _, _, _, g => by cases g
  | c + 1, p, seen, T, e, hp, hQ, hi, g => by
    obtain ⟨z1, z2, z3, z4, z5, z6, z7⟩ := id hZ
    rw [memL_1] at g
    cases e1 : mem1 S I n sp m p seen T with
    | none => rw [e1] at g; cases g
    | some x =>
      rw [e1] at g
      change (if lk I n (bl I n x.2.1) = 44 then memL S I n sp m c (bl I n x.2.1 + 1) (x.1 :: seen) x.2.2 else if lk I n (bl I n x.2.1) = 125 then some (bl I n x.2.1 + 1, x.2.2) else none) = _ at g
      obtain ⟨i1, i2, r, s1, s2, s3, s4, s5⟩ := mem1_tree hi e1
      have bo := byN_ok S m r.2
      rw [s2] at bo
      have hx1 : x.1 < nF_ S := bo.1
      have m1 := z1 _ _ (bl_ge' I n p)
      obtain ⟨m2, q2⟩ := z4 _ r m x.1 hm (z3 _ hQ) s1 s2
      have m3 := z1 _ _ (bl_ge' I n r.1)
      obtain ⟨l58, i58⟩ := lkI (c := 58) s4
      obtain ⟨m4, q4⟩ := z2 _ 58 l58 i58 (by decide)
      have q4 := q4 (z3 _ q2)
      have m5 := z1 _ _ (bl_ge' I n (bl I n r.1 + 1))
      have b6 := bl_le' I n (bl I n r.1 + 1)
      have q5 := z3 _ q4
      have m7 := z1 _ _ (bl_ge' I n x.2.1)
      have key : sW2 S od th cM cR cE rc m x.2.2 + M p ≤ sW2 S od th cM cR cE rc m T + M x.2.1 + w 44 ∧ Q x.2.1 := by
        have h1 : sW2 S od th cM cR cE rc m x.2.2 ≤ sW2 S od th cM cR cE rc m T + fW S th cM cR cE rc x.2.2 x.1 := by
          unfold sW2
          exact sum_one (fun g hg => fW_same (i2 g hg).1 (i2 g hg).2) (hO.nd hm)
        rcases s5 with ⟨u1, u2, u3⟩ | ⟨u1, u2, ss, u3⟩
        · rw [u2.fW] at h1
          have q6 := z5 _ q5 u1
          rw [← u3] at q6
          have m6 := z1 (bl I n (bl I n r.1 + 1)) x.2.1 (by omega)
          exact ⟨by omega, q6⟩
        · obtain ⟨k1, k2⟩ := u2.W hZ hS hI hB hE h44 hM hR hx1 (by omega) q5 u3
          exact ⟨by omega, k2⟩
      obtain ⟨key, qx⟩ := key
      have q7 := z3 _ qx
      split at g
      · rename_i q
        obtain ⟨l1, l2⟩ := lkI (c := 44) q
        obtain ⟨w1, w2⟩ := z2 _ 44 l1 l2 (by decide)
        obtain ⟨u1, u2⟩ := memL_W hZ hS hO hI hB hE h44 hM hR hm c _ _ _ _ (by omega) (w2 q7) i1 g
        exact ⟨by omega, u2⟩
      · split at g
        · rename_i q
          obtain ⟨l1, l2⟩ := lkI (c := 125) q
          obtain ⟨w1, w2⟩ := z2 _ 125 l1 l2 (by decide)
          cases g
          refine ⟨?_, w2 q7⟩
          show sW2 S od th cM cR cE rc m x.2.2 + M p + w 125 ≤ sW2 S od th cM cR cE rc m T + M (bl I n x.2.1 + 1) + w 44
          omega
        · cases g
theorem sW2_emp {m : Nat} : sW2 S od th cM cR cE rc m (emp (d + 1)) = 0 := by
  unfold sW2
  have : ∀ l : List Nat, (l.map (fW S th cM cR cE rc (emp (d + 1)))).sum = 0 := fun l => by
    induction l with
    | nil => rfl
    | cons f l ih => rw [List.map_cons, List.sum_cons, ih, (emp_nth (d := d) (f := f)).fW]
  exact this _
/-- what is read weighs no more than its text -/
theorem objS_W (hZ : MZ S I n Q M th w wS) (hS : SW S) (hO : OD S od) (hI : ∀ k, I k < 256) (h44 : cE ≤ w 44) (hM : cM ≤ wS + w 58 + w 44) (hR : cR + cE ≤ wS + w 58 + w 91 + w 93 + w 44) (hOc : cO + w 44 ≤ w 123 + w 125) : ∀ d, EW S n Q M (oW S od th cM cR cE cO d) (objS S I n d)
  | 0 => fun m p r hm hp hq h => by cases h
  | d + 1 => fun m p r hm hp hq h => by
    obtain ⟨z1, z2, z3, z4, z5, z6, z7⟩ := id hZ
    rw [objS] at h
    split at h
    · rename_i q
      obtain ⟨l1, l2⟩ := lkI (c := 123) q
      obtain ⟨w1, w2⟩ := z2 _ 123 l1 l2 (by decide)
      have m1 := z1 _ _ (bl_ge' I n (p + 1))
      have q1 := z3 _ (w2 hq)
      split at h
      · rename_i q2
        obtain ⟨l3, l4⟩ := lkI (c := 125) q2
        obtain ⟨w3, w4⟩ := z2 _ 125 l3 l4 (by decide)
        cases h
        refine ⟨?_, w4 q1⟩
        show oW S od th cM cR cE cO (d + 1) m (emp (d + 1)) + M p ≤ M (bl I n (p + 1) + 1)
        rw [oW, sW2_emp]
        omega
      · obtain ⟨u1, u2⟩ := memL_W (rc := oW S od th cM cR cE cO d) hZ hS hO hI (objS_bd hI d) (objS_W hZ hS hO hI h44 hM hR hOc d) h44 hM hR hm _ _ _ _ _ (by omega) (w2 hq) ⟨fun s hs => (by cases hs), fun s hs => (by cases hs)⟩ h
        rw [sW2_emp] at u1
        refine ⟨?_, u2⟩
        rw [oW]
        omega
    · cases h
end D4
