set_option maxRecDepth 100000
/-! WIRE: a message is not much longer than its text; its lists are short -/
/-- the fields of every message by their numbers -/
def OD (S : SC) (od : Nat → List Nat) : Prop := ∀ m, m < S.1 → (∀ f, f ∈ od m ↔ (f < nF_ S ∧ qm S f = m)) ∧ (od m).Pairwise (fun f g => qn S f < qn S g) ∧ (od m).length ≤ 50
theorem HSc.od {z : Nat} {σ : ST} {S : SC} {fa ma ea : Nat → Nat} {od : Nat → List Nat} (h : HSc z σ S fa ma ea od) : OD S od := fun m hm => by
  obtain ⟨-, -, -, -, q0, q1, q2⟩ := h.2.2.2.1 m hm
  exact ⟨q1, q2, q0⟩
theorem OD.nd {S : SC} {od : Nat → List Nat} (h : OD S od) {m : Nat} (hm : m < S.1) : (od m).Nodup := (h m hm).2.1.imp (fun {a b} q e => by rw [e] at q; omega)
section E2
variable {S : SC} {I : Nat → Nat} {n p d : Nat} {od : Nat → List Nat} {sp : Nat → Nat → Option (Nat × TV d)} {en : Nat → TV d → List UInt8}
def sumE {d : Nat} (S : SC) (od : Nat → List Nat) (en : Nat → TV d → List UInt8) (m : Nat) (T : TV (d + 1)) : Nat := ((od m).map (fun f => (encF S en T f).length)).sum
theorem memL_len (hS : SW S) (hO : OD S od) (hI : ∀ k, I k < 256) (hn : n ≤ 1000) (hE : EB S n en sp) (hB : RB n sp) {m : Nat} (hm : m < S.1) : ∀ (c p : Nat) (seen : List Nat) (T : TV (d + 1)) (e : Nat × TV (d + 1)), p ≤ n → IS seen T → memL S I n sp m c p seen T = some e → sumE S od en m e.2 + 4 + 4 * p ≤ sumE S od en m T + 4 * e.1
  | 0, p, seen, T, e, _, _, g => by cases g
  | c + 1, p, seen, T, e, hp, hi, g => by
    rw [memL_1] at g
    cases e1 : mem1 S I n sp m p seen T with
    | none => rw [e1] at g; cases g
    | some x =>
      rw [e1] at g
      change (if lk I n (bl I n x.2.1) = 44 then memL S I n sp m c (bl I n x.2.1 + 1) (x.1 :: seen) x.2.2 else if lk I n (bl I n x.2.1) = 125 then some (bl I n x.2.1 + 1, x.2.2) else none) = _ at g
      obtain ⟨i1, i2, r, s1, s2, s3, s4, s5⟩ := mem1_tree hi e1
      obtain ⟨l1, l2, -⟩ := strX_bd s1
      have bo := byN_ok S m r.2
      rw [s2] at bo
      have hx1 : x.1 < nF_ S := bo.1
      have b1 := bl_ge' I n p
      have b2 := bl_le' I n p
      have b3 := bl_ge' I n r.1
      have b4 := bl_le' I n r.1
      have l58 := lk_ne s4 (by decide)
      have b5 := bl_ge' I n (bl I n r.1 + 1)
      have b6 := bl_le' I n (bl I n r.1 + 1)
      have b7 := bl_ge' I n x.2.1
      have key : sumE S od en m x.2.2 + 4 * p ≤ sumE S od en m T + 4 * x.2.1 := by
        have h1 : sumE S od en m x.2.2 ≤ sumE S od en m T + (encF S en x.2.2 x.1).length := by
          unfold sumE
          exact sum_one (fun g hg => by rw [encF_same (i2 g hg).1 (i2 g hg).2]) (hO.nd hm)
        rcases s5 with ⟨u1, u2, u3⟩ | ⟨u1, u2, ss, u3⟩
        · rw [u2.enc] at h1
          simp only [List.length_nil] at h1
          omega
        · have := u2.len hS hI hn hE hB hx1 (by omega) u3
          omega
      split at g
      · rename_i q
        have := lk_ne q (by decide)
        have := memL_len hS hO hI hn hE hB hm c _ _ _ _ (by omega) i1 g
        omega
      · split at g
        · cases g
          show sumE S od en m x.2.2 + 4 + 4 * p ≤ sumE S od en m T + 4 * (bl I n x.2.1 + 1)
          omega
        · cases g
theorem enc_sum {m : Nat} {T : TV (d + 1)} : (enc S od (d + 1) m T).length = sumE S od (enc S od d) m T := by
  rw [enc, List.length_flatMap]; rfl
theorem emp_nth {f : Nat} : Nth f (emp (d + 1)) := ⟨rfl, rfl⟩
theorem sum_emp {m : Nat} : sumE S od en m (emp (d + 1)) = 0 := by
  unfold sumE
  have : ∀ l : List Nat, (l.map (fun f => (encF S en (emp (d + 1)) f).length)).sum = 0 := by
    intro l
    induction l with
    | nil => rfl
    | cons a l ih => rw [List.map_cons, List.sum_cons, ih, (emp_nth (d := d) (f := a)).enc]; rfl
  exact this _
theorem objS_len (hS : SW S) (hO : OD S od) (hI : ∀ k, I k < 256) (hn : n ≤ 1000) : ∀ d, EB S n (enc S od d) (objS S I n d)
  | 0 => fun m p r hm hp h => by cases h
  | d + 1 => fun m p r hm hp h => by
    rw [objS] at h
    have b1 := bl_ge' I n (p + 1)
    split at h
    · rename_i q
      have := lk_ne q (by decide)
      split at h
      · rename_i q2
        have := lk_ne q2 (by decide)
        cases h
        show (enc S od (d + 1) m (emp (d + 1))).length + 8 + 4 * p ≤ 4 * (bl I n (p + 1) + 1)
        rw [enc_sum, sum_emp]
        omega
      · have := memL_len hS hO hI hn (objS_len hS hO hI hn d) (objS_bd hI d) hm _ _ _ _ _ (by omega) ⟨fun s hs => (by cases hs), fun s hs => (by cases hs)⟩ h
        rw [sum_emp] at this
        rw [enc_sum]
        omega
    · cases h
/-- trees that a reader of messages gives are short -/
def TR {d : Nat} (n : Nat) (sp : Nat → Nat → Option (Nat × TV d)) : Prop := ∀ m p r, p ≤ n → sp m p = some r → TZ d r.2
theorem TZ_emp : ∀ d, TZ d (emp d)
  | 0 => True.intro
  | _ + 1 => ⟨Nat.zero_le _, Nat.zero_le _, fun s hs => (by cases hs), fun s hs => (by cases hs)⟩
theorem valS_TZ (hR : TR n sp) {f : Nat} {e : Nat × SV d} (hp : p ≤ n) (h : valS S I n sp f p = some e) : TZ d e.2.2.2.2 := by
  unfold valS at h
  split at h
  · cases er : sp (qk S f - 16) p with
    | none => rw [er] at h; cases h
    | some r => rw [er] at h; cases h; exact hR _ _ _ hp er
  · cases er : sclS S I n f p with
    | none => rw [er] at h; cases h
    | some r => rw [er] at h; cases h; exact TZ_emp d
theorem arrL_TZ (hI : ∀ k, I k < 256) (hB : RB n sp) (hR : TR n sp) {f : Nat} : ∀ (c p : Nat) (acc : List (SV d)) (e : Nat × List (SV d)), p ≤ n → arrL S I n sp f c p acc = some e → e.2.length + p ≤ acc.length + e.1 ∧ ((∀ s ∈ acc, TZ d s.2.2.2) → ∀ s ∈ e.2, TZ d s.2.2.2)
  | 0, p, acc, e, _, g => by cases g
  | c + 1, p, acc, e, hp, g => by
    rw [arrL] at g
    have b1 := bl_ge' I n p
    have b2 := bl_le' I n p
    cases ev : valS S I n sp f (bl I n p) with
    | none => rw [ev] at g; cases g
    | some r =>
      rw [ev] at g
      change (if lk I n (bl I n r.1) = 44 then arrL S I n sp f c (bl I n r.1 + 1) (acc ++ [r.2]) else if lk I n (bl I n r.1) = 93 then some (bl I n r.1 + 1, acc ++ [r.2]) else none) = some e at g
      obtain ⟨v1, v2, v3⟩ := valS_bd hI hB (by omega) ev
      have vt := valS_TZ hR (by omega) ev
      have b3 := bl_ge' I n r.1
      have ka : (acc ++ [r.2]).length = acc.length + 1 := by rw [List.length_append]; rfl
      have kt : (∀ s ∈ acc, TZ d s.2.2.2) → ∀ s ∈ acc ++ [r.2], TZ d s.2.2.2 := fun q s hs => by
        rcases List.mem_append.mp hs with w | w
        · exact q s w
        · rw [List.mem_singleton.mp w]; exact vt
      split at g
      · rename_i q
        have := lk_ne q (by decide)
        obtain ⟨w1, w2⟩ := arrL_TZ hI hB hR c _ _ _ (by omega) g
        exact ⟨by omega, fun u => w2 (kt u)⟩
      · split at g
        · cases g
          exact ⟨by show (acc ++ [r.2]).length + p ≤ acc.length + (bl I n r.1 + 1); omega, kt⟩
        · cases g
theorem itmS_TZ (hI : ∀ k, I k < 256) (hB : RB n sp) (hR : TR n sp) {f : Nat} {e : Nat × List (SV d)} (hp : p ≤ n) (h : itmS S I n sp f p = some e) : e.2.length + p ≤ e.1 + 1 ∧ ∀ s ∈ e.2, TZ d s.2.2.2 := by
  have hbd := itmS_bd hI hB hp h
  unfold itmS at h
  split at h
  · unfold arrS at h
    split at h
    · rename_i q91
      have l91 := lk_ne q91 (by decide)
      split at h
      · cases h
        exact ⟨by show 0 + _ ≤ _; omega, fun s hs => (by cases hs)⟩
      · obtain ⟨w1, w2⟩ := arrL_TZ hI hB hR _ _ _ _ (by omega) h
        simp only [List.length_nil] at w1
        exact ⟨by omega, w2 (fun s hs => (by cases hs))⟩
    · cases h
  · cases ev : valS S I n sp f p with
    | none => rw [ev] at h; cases h
    | some r =>
      rw [ev] at h; cases h
      refine ⟨by show 1 + p ≤ r.1 + 1; have : p ≤ r.1 := hbd.1; omega, fun s hs => ?_⟩
      rw [List.mem_singleton.mp hs]; exact valS_TZ hR hp ev
theorem mem1_TZ (hI : ∀ k, I k < 256) (hB : RB n sp) (hR : TR n sp) {m : Nat} {seen : List Nat} {T : TV (d + 1)} {x : Nat × Nat × TV (d + 1)} (hp : p ≤ n) (hi : IS seen T) (g : mem1 S I n sp m p seen T = some x) : p ≤ x.2.1 ∧ (t1 x.2.2).length + p ≤ (t1 T).length + x.2.1 ∧ (t2 x.2.2).length + p ≤ (t2 T).length + x.2.1 ∧ ((∀ s ∈ t1 T, TZ d s.2.2.2) → ∀ s ∈ t1 x.2.2, TZ d s.2.2.2) ∧ ((∀ s ∈ t2 T, TZ d s.2.2.2) → ∀ s ∈ t2 x.2.2, TZ d s.2.2.2) := by
  obtain ⟨r, a1, a2, a3, a4, a5⟩ := mem1_inv g
  obtain ⟨l1, l2, -⟩ := strX_bd a1
  have b1 := bl_ge' I n p
  have b3 := bl_ge' I n r.1
  have l58 := lk_ne a4 (by decide)
  have b5 := bl_ge' I n (bl I n r.1 + 1)
  have b6 := bl_le' I n (bl I n r.1 + 1)
  rcases a5 with ⟨c1, c2⟩ | ⟨c1, c2, ss, c3, c4⟩
  · have e1 : x.2.1 = bl I n (bl I n r.1 + 1) + slen 5 := by rw [c2]
    have e2 : x.2.2 = T := by rw [c2]
    rw [e2]
    exact ⟨by omega, by omega, by omega, fun q => q, fun q => q⟩
  · have hf := itmS_f c3
    obtain ⟨z1, z2⟩ := itmS_TZ hI hB hR (by omega) c3
    have hbd := itmS_bd hI hB (by omega) c3
    simp only at z1 z2 hbd
    by_cases cr : qr S x.1 = 1
    · have q1 : t1 x.2.2 = t1 T := by rw [c4]; exact fold_rep cr ss T hf.1
      have q2 : t2 x.2.2 = t2 T ++ ss := by rw [c4]; exact t2_fold cr ss T hf.1
      rw [q1, q2, List.length_append]
      refine ⟨by omega, by omega, by omega, fun q => q, fun q s hs => ?_⟩
      rcases List.mem_append.mp hs with w | w
      · exact q s w
      · exact z2 s w
    · obtain ⟨s, es⟩ := hf.2 cr
      have es : ss = [s] := es
      have hs1 : s.1 = x.1 := hf.1 s (by show s ∈ ss; rw [es]; exact List.mem_cons_self)
      have ep : x.2.2 = mk (if dps S s then t1 T else s :: t1 T) (t2 T) := by
        rw [c4, es]
        exact put_one hi (by rw [hs1]; exact a3) (by rw [hs1]; exact c2) (by rw [hs1]; exact cr)
      have q1 : t1 x.2.2 = if dps S s then t1 T else s :: t1 T := by rw [ep]; rfl
      have q2 : t2 x.2.2 = t2 T := by rw [ep]; rfl
      rw [q1, q2]
      refine ⟨by omega, ?_, by omega, fun q => ?_, fun q => q⟩
      · split
        · omega
        · rw [List.length_cons]; omega
      · split
        · exact q
        · intro t ht
          rcases List.mem_cons.mp ht with w | w
          · rw [w]; exact z2 s (by rw [es]; exact List.mem_cons_self)
          · exact q t w
theorem memL_TZ (hI : ∀ k, I k < 256) (hB : RB n sp) (hR : TR n sp) {m : Nat} : ∀ (c p : Nat) (seen : List Nat) (T : TV (d + 1)) (e : Nat × TV (d + 1)), p ≤ n → IS seen T → memL S I n sp m c p seen T = some e → (t1 e.2).length + p ≤ (t1 T).length + e.1 ∧ (t2 e.2).length + p ≤ (t2 T).length + e.1 ∧ ((∀ s ∈ t1 T, TZ d s.2.2.2) → ∀ s ∈ t1 e.2, TZ d s.2.2.2) ∧ ((∀ s ∈ t2 T, TZ d s.2.2.2) → ∀ s ∈ t2 e.2, TZ d s.2.2.2)
  | 0, p, seen, T, e, _, _, g => by cases g
  | c + 1, p, seen, T, e, hp, hi, g => by
    rw [memL_1] at g
    cases e1 : mem1 S I n sp m p seen T with
    | none => rw [e1] at g; cases g
    | some x =>
      rw [e1] at g
      change (if lk I n (bl I n x.2.1) = 44 then memL S I n sp m c (bl I n x.2.1 + 1) (x.1 :: seen) x.2.2 else if lk I n (bl I n x.2.1) = 125 then some (bl I n x.2.1 + 1, x.2.2) else none) = _ at g
      obtain ⟨k0, k1, k2, k3, k4⟩ := mem1_TZ hI hB hR hp hi e1
      have i1 := (mem1_tree hi e1).1
      have b7 := bl_ge' I n x.2.1
      split at g
      · rename_i q
        have := lk_ne q (by decide)
        obtain ⟨w1, w2, w3, w4⟩ := memL_TZ hI hB hR c _ _ _ _ (by omega) i1 g
        exact ⟨by omega, by omega, fun u => w3 (k3 u), fun u => w4 (k4 u)⟩
      · split at g
        · cases g
          exact ⟨by show (t1 x.2.2).length + p ≤ (t1 T).length + (bl I n x.2.1 + 1); omega, by show (t2 x.2.2).length + p ≤ (t2 T).length + (bl I n x.2.1 + 1); omega, k3, k4⟩
        · cases g
theorem objS_TZ (hI : ∀ k, I k < 256) (hn : n ≤ 1000) : ∀ d, TR n (objS S I n d)
  | 0 => fun m p r hp h => by cases h
  | d + 1 => fun m p r hp h => by
    have hbd := objS_bd hI (d + 1) m p r hp h
    rw [objS] at h
    split at h
    · rename_i q
      have := lk_ne q (by decide)
      split at h
      · cases h
        exact TZ_emp (d + 1)
      · obtain ⟨w1, w2, w3, w4⟩ := memL_TZ hI (objS_bd hI d) (objS_TZ hI hn d) _ _ _ _ _ (by omega) ⟨fun s hs => (by cases hs), fun s hs => (by cases hs)⟩ h
        have z1 : (t1 (emp (d + 1))).length = 0 := rfl
        have z2 : (t2 (emp (d + 1))).length = 0 := rfl
        exact ⟨by omega, by omega, w3 (fun s hs => (by cases hs)), w4 (fun s hs => (by cases hs))⟩
    · cases h
end E2
