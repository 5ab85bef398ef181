set_option maxRecDepth 100000
/-! JSON, WRITTEN: base64, both sides -/
def s64 (q : Nat) : UInt8 := u8 ((sch 2 q : Nat) : Int)
def grp (n a b c : Nat) : List UInt8 := [s64 (a / 4), s64 ((a % 4) * 16 + b / 16), if n ≤ 1 then 61 else s64 ((b % 16) * 4 + c / 64), if n ≤ 2 then 61 else s64 (c % 64)]
def b64 : List UInt8 → List UInt8
  | [] => []
  | [a] => grp 1 a.toNat 0 0
  | [a, b] => grp 2 a.toNat b.toNat 0
  | a :: b :: c :: r => grp 3 a.toNat b.toNat c.toNat ++ b64 r
def b64T (w : List UInt8) : List UInt8 := 34 :: (b64 w ++ [34])
theorem b64_len : ∀ (n : Nat) (w : List UInt8), w.length ≤ n → (b64 w).length ≤ 2 * w.length + 2
  | _, [], _ => Nat.zero_le _
  | _, [a], _ => by show 4 ≤ _; simp
  | _, [a, b], _ => by show 4 ≤ _; simp
  | 0, a :: b :: c :: r, h => by simp at h
  | n + 1, a :: b :: c :: r, h => by
    have := b64_len n r (by simp only [List.length_cons] at h; omega)
    rw [b64, List.length_append]
    show 4 + _ ≤ _
    simp only [List.length_cons]; omega
theorem b64_step {w : List UInt8} {k : Nat} (h : k < w.length) : b64 (w.drop k) = grp (min 3 (w.length - k)) (w.getD k 0).toNat (if w.length - k ≤ 1 then 0 else (w.getD (k + 1) 0).toNat) (if w.length - k ≤ 2 then 0 else (w.getD (k + 2) 0).toNat) ++ b64 (w.drop (k + 3)) := by
  rw [drop_cons h]
  by_cases h1 : w.length - k ≤ 1
  · rw [List.drop_eq_nil_of_le (show w.length ≤ k + 1 by omega), List.drop_eq_nil_of_le (show w.length ≤ k + 3 by omega), if_pos h1, if_pos (by omega), show min 3 (w.length - k) = 1 by omega]
    show grp 1 _ 0 0 = grp 1 _ 0 0 ++ []
    rw [List.append_nil]
  · rw [if_neg h1, drop_cons (show k + 1 < w.length by omega)]
    by_cases h2 : w.length - k ≤ 2
    · rw [List.drop_eq_nil_of_le (show w.length ≤ k + 1 + 1 by omega), List.drop_eq_nil_of_le (show w.length ≤ k + 3 by omega), if_pos h2, show min 3 (w.length - k) = 2 by omega]
      show grp 2 _ _ 0 = grp 2 _ _ 0 ++ []
      rw [List.append_nil]
    · rw [if_neg h2, drop_cons (show k + 1 + 1 < w.length by omega), show min 3 (w.length - k) = 3 by omega]
      rfl
theorem or_dis {p q k : Nat} (h : q < 2 ^ k) : p * 2 ^ k ||| q = p * 2 ^ k + q := by
  have := Nat.shiftLeft_add_eq_or_of_lt h p
  rw [Nat.shiftLeft_eq] at this
  exact this.symm
/-- one letter of a group, from its 24 bits -/
def gch (n v i : Nat) : UInt8 := if i ≤ n then s64 (v / 2 ^ (18 - 6 * i) % 64) else 61
theorem grp_v {n a b c : Nat} (hn : 1 ≤ n ∧ n ≤ 3) (ha : a < 256) (hb : b < 256) (hc : c < 256) : grp n a b c = [gch n (a * 65536 + b * 256 + c) 0, gch n (a * 65536 + b * 256 + c) 1, gch n (a * 65536 + b * 256 + c) 2, gch n (a * 65536 + b * 256 + c) 3] := by
  unfold grp gch
  have e0 : (a * 65536 + b * 256 + c) / 2 ^ (18 - 6 * 0) % 64 = a / 4 := by show _ / 262144 % 64 = _; omega
  have e1 : (a * 65536 + b * 256 + c) / 2 ^ (18 - 6 * 1) % 64 = (a % 4) * 16 + b / 16 := by show _ / 4096 % 64 = _; omega
  have e2 : (a * 65536 + b * 256 + c) / 2 ^ (18 - 6 * 2) % 64 = (b % 16) * 4 + c / 64 := by show _ / 64 % 64 = _; omega
  have e3 : (a * 65536 + b * 256 + c) / 2 ^ (18 - 6 * 3) % 64 = c % 64 := by show _ / 1 % 64 = _; omega
  rw [e0, e1, e2, e3, if_pos (show 0 ≤ n by omega), if_pos (show 1 ≤ n by omega)]
  by_cases h1 : n ≤ 1
  · rw [if_pos h1, if_pos (show n ≤ 2 by omega), if_neg (show ¬ 2 ≤ n by omega), if_neg (show ¬ 3 ≤ n by omega)]
  · rw [if_neg h1]
    by_cases h2 : n ≤ 2
    · rw [if_pos h2, if_pos (show 2 ≤ n by omega), if_neg (show ¬ 3 ≤ n by omega)]
    · rw [if_neg h2, if_pos (show 2 ≤ n by omega), if_pos (show 3 ≤ n by omega)]
section Bs
variable {σ : ST} {a : Nat}
theorem L77_eq (a : Nat) (u1 : Option Nat) (u2 : Int) {n v : Nat} (hn : n ≤ 3) (hv : v < 16777216) : ∀ (c N i : Nat) (σ : ST), i + c = 4 → c < N → RW σ a → (sW σ a).length + c ≤ 7999999 → Rn id σ (fun bb => jw_base64_L77 bb (some a) u1 u2 (n : Int) (v : Int) N (i : Int) σ) (RA σ a ((List.range' i c).map (gch n v)))
  | c, 0, i, σ, _, h, _, _ => by omega
  | 0, N + 1, i, σ, hi, _, hR, _ => by
    refine Rn_eq (fun bb => by rw [jw_base64_L77, gd_pos (by omega), if_pos (by omega)]) ?_
    exact Rn_some (Le.refl _) (RA.nil hR)
  | c + 1, N + 1, i, σ, hi, hN, hR, hl => by
    have e64 : slen 2 = 64 := by decide +kernel
    have ev : (gd (rg (n : Int)) (if (i : Int) ≤ (n : Int) then (gd (ib (iAnd (iShr (v : Int) (18 - (6 * (i : Int)))) 63) (slen 2)) (some ((((sch 2 (iAnd (iShr (v : Int) (18 - (6 * (i : Int)))) 63).toNat : Nat) : Int))))) else (some 61)) : Option Int) = some (if i ≤ n then ((sch 2 (v / 2 ^ (18 - 6 * i) % 64) : Nat) : Int) else 61) := by
      rw [gd_pos (by omega)]
      by_cases c1 : i ≤ n
      · have hd := Nat.div_le_self v (2 ^ (18 - 6 * i))
        have s1 : iShr (v : Int) (18 - (6 * (i : Int))) = ((v / 2 ^ (18 - 6 * i) : Nat) : Int) := iShr_n (y := 18 - (6 * (i : Int))) (a := v) (k := 18 - 6 * i) rfl (by omega) (by omega) (by omega)
        have s2 : iAnd ((v / 2 ^ (18 - 6 * i) : Nat) : Int) 63 = ((v / 2 ^ (18 - 6 * i) % 64 : Nat) : Int) := by
          rw [iAnd_n (y := 63) (a := v / 2 ^ (18 - 6 * i)) (b := 63) rfl rfl (by decide)]
          congr 1
          exact Nat.and_two_pow_sub_one_eq_mod _ 6
        rw [if_pos (by omega), if_pos c1, s1, s2, gd_pos (by rw [e64]; omega), Int.toNat_natCast]
      · rw [if_neg (by omega), if_neg c1]
    refine Rn_eq (fun bb => by rw [jw_base64_L77, gd_pos (by omega), if_neg (by omega), ev, bind_some', bind_some', gd_pos hR.1]) ?_
    refine Rn_bind (rn_add hR (by omega) _) (fun σ1 _ g => ?_)
    have hl1 := g.len
    simp only [List.length_cons, List.length_nil] at hl1
    have eg : u8 (if i ≤ n then ((sch 2 (v / 2 ^ (18 - 6 * i) % 64) : Nat) : Int) else 61) = gch n v i := by
      unfold gch s64
      split <;> rfl
    rw [eg] at g
    rw [show (i : Int) + 1 = ((i + 1 : Nat) : Int) by omega]
    refine (L77_eq a u1 u2 hn hv c N (i + 1) σ1 (by omega) (by omega) g.rw (by show (sW σ1 a).length + c ≤ _; omega)).mono (fun σ2 _ g2 => ?_)
    rw [List.range'_succ, List.map_cons]
    exact g.tr g2
theorem rn_bL {b : Nat} {w : List UInt8} (hw1 : w.length ≤ 1000) (hab : b ≠ a) : ∀ (c N i : Nat) (σ0 σ : ST) (u : List UInt8), RA σ0 a u σ → b < sZ σ0 → sc σ0 b = 4 → sW σ0 b = w → w.length ≤ i + c → i ≤ w.length + 3 → c < N → (sW σ a).length + 4 * c ≤ 7990000 → Rn id σ (fun bb => jw_base64_L8 bb (some a) (some b) N (i : Int) σ) (RA σ a (b64 (w.drop i)))
  | c, 0, i, σ0, σ, u, _, _, _, _, _, _, h, _ => by omega
  | c, N + 1, i, σ0, σ, u, hA, hb, hb4, hbw, hi, hi2, hN, hl => by
    have k4 : sc σ b = 4 := by rw [hA.2.2.1]; exact hb4
    have kw : sW σ b = w := by rw [((hA.2.1.2 b hb).2 hab).1]; exact hbw
    by_cases ce : w.length ≤ i
    · rw [List.drop_eq_nil_of_le ce]
      refine Rn_eq (fun bb => by rw [jw_base64_L8, bind_some', gd_pos k4, kw, gd_pos (by omega), if_pos (by omega)]) ?_
      exact Rn_some (Le.refl _) (RA.nil hA.rw)
    · obtain ⟨c, rfl⟩ : ∃ m, c = m + 1 := ⟨c - 1, by omega⟩
      have ra : ∀ j, i + j < w.length → row_at b ((i : Int) + (j : Int)) σ = some ((w.getD (i + j) 0).toNat : Int) := fun j hj => by
        rw [row_at_eq (k := i + j) k4 (by omega) (by omega), kw, lk_lt hj]; rfl
      have ra0 : row_at b (i : Int) σ = some ((w.getD i 0).toNat : Int) := by
        have := ra 0 (by omega)
        rw [Nat.add_zero, show (i : Int) + ((0 : Nat) : Int) = (i : Int) by omega] at this
        exact this
      have h0 := (w.getD i 0).toNat_lt
      obtain ⟨q, hq⟩ : ∃ q, q = w.length - i := ⟨_, rfl⟩
      obtain ⟨n3, hn3⟩ : ∃ n3, n3 = min 3 q := ⟨_, rfl⟩
      have em : jl_min 3 ((((w.length : Nat) : Int)) - (i : Int)) = some (n3 : Int) := by
        unfold jl_min
        rw [gd_pos (by omega), gd_pos (by omega)]
        by_cases d : ((w.length : Nat) : Int) - (i : Int) < 3
        · rw [if_pos d, show ((w.length : Nat) : Int) - (i : Int) = (n3 : Int) by omega]
        · rw [if_neg d, show (n3 : Int) = 3 by omega]
      obtain ⟨b1, hb1⟩ : ∃ b1, b1 = (if q ≤ 1 then 0 else (w.getD (i + 1) 0).toNat) := ⟨_, rfl⟩
      obtain ⟨b2, hb2⟩ : ∃ b2, b2 = (if q ≤ 2 then 0 else (w.getD (i + 2) 0).toNat) := ⟨_, rfl⟩
      have hb1' : b1 < 256 := by rw [hb1]; split; omega; exact (w.getD (i + 1) 0).toNat_lt
      have hb2' : b2 < 256 := by rw [hb2]; split; omega; exact (w.getD (i + 2) 0).toNat_lt
      have e30 : (gd (rg (n3 : Int)) (if (n3 : Int) ≤ 1 then (some 0) else (Option.bind (row_at b ((i : Int) + 1) σ) fun y77 => some ((iShl y77 8)))) : Option Int) = some ((b1 * 256 : Nat) : Int) := by
        rw [gd_pos (by omega)]
        by_cases d : q ≤ 1
        · rw [if_pos (by omega), hb1, if_pos d]; rfl
        · rw [if_neg (by omega), hb1, if_neg d]
          have := ra 1 (by omega)
          rw [show (i : Int) + ((1 : Nat) : Int) = (i : Int) + 1 by omega] at this
          have h1 := (w.getD (i + 1) 0).toNat_lt
          rw [this, bind_some', iShl_n (y := 8) (a := (w.getD (i + 1) 0).toNat) (k := 8) rfl rfl (by omega) (by omega)]
      have e38 : (gd (rg (n3 : Int)) (if (n3 : Int) ≤ 2 then (some 0) else (Option.bind (row_at b ((i : Int) + 2) σ) fun y72 => some y72)) : Option Int) = some (b2 : Int) := by
        rw [gd_pos (by omega)]
        by_cases d : q ≤ 2
        · rw [if_pos (by omega), hb2, if_pos d]; rfl
        · rw [if_neg (by omega), hb2, if_neg d]
          have := ra 2 (by omega)
          rw [show (i : Int) + ((2 : Nat) : Int) = (i : Int) + 2 by omega] at this
          rw [this, bind_some']
      obtain ⟨b0, hb0⟩ : ∃ b0, b0 = (w.getD i 0).toNat := ⟨_, rfl⟩
      rw [← hb0] at ra0 h0
      have ev : iOr (iOr (iShl (b0 : Int) 16) ((b1 * 256 : Nat) : Int)) (b2 : Int) = ((b0 * 65536 + b1 * 256 + b2 : Nat) : Int) := by
        have o1 : b0 * 65536 ||| b1 * 256 = b0 * 65536 + b1 * 256 := or_dis (p := b0) (q := b1 * 256) (k := 16) (by omega)
        have o2 : b0 * 65536 + b1 * 256 ||| b2 = b0 * 65536 + b1 * 256 + b2 := by
          have := or_dis (p := b0 * 256 + b1) (q := b2) (k := 8) (by omega)
          rw [show (b0 * 256 + b1) * 2 ^ 8 = b0 * 65536 + b1 * 256 by omega] at this
          exact this
        rw [iShl_n (y := 16) (a := b0) (k := 16) rfl rfl (by omega) (by omega), iOr_n rfl rfl (by omega) (by omega), show b0 * 2 ^ 16 = b0 * 65536 by omega, o1, iOr_n rfl rfl (by omega) (by omega), o2]
      refine Rn_eq (fun bb => by rw [jw_base64_L8, bind_some', gd_pos k4, kw, gd_pos (by omega), if_neg (by omega), em, bind_some', ra0, bind_some', e30, bind_some', e38, bind_some', nm_eq, ev]) ?_
      have hs := b64_step (w := w) (k := i) (by omega)
      rw [← hq, ← hn3, ← hb0, ← hb1, ← hb2, grp_v (by omega) h0 hb1' hb2'] at hs
      rw [hs]
      refine Rn_bind (L77_eq a (some b) (i : Int) (n := n3) (v := b0 * 65536 + b1 * 256 + b2) (by omega) (by omega) 4 FU 0 σ rfl (FU_gt (by omega)) hA.rw (by omega)) (fun σ1 _ g => ?_)
      have hl1 := g.len
      have g' : RA σ a [gch n3 (b0 * 65536 + b1 * 256 + b2) 0, gch n3 (b0 * 65536 + b1 * 256 + b2) 1, gch n3 (b0 * 65536 + b1 * 256 + b2) 2, gch n3 (b0 * 65536 + b1 * 256 + b2) 3] σ1 := g
      rw [List.length_map, List.length_range'] at hl1
      rw [show (i : Int) + 3 = ((i + 3 : Nat) : Int) by omega]
      refine (rn_bL hw1 hab c N (i + 3) σ0 σ1 _ (hA.tr g') hb hb4 hbw (by omega) (by omega) (by omega) (by show (sW σ1 a).length + _ ≤ _; omega)).mono (fun σ2 _ g2 => ?_)
      exact g'.tr g2
theorem rn_base {b : Nat} {w : List UInt8} (hw1 : w.length ≤ 1000) (hab : b ≠ a) (hb : b < sZ σ) (hb4 : sc σ b = 4) (hbw : sW σ b = w) (hR : RW σ a) (hl : (sW σ a).length ≤ 7900000) : Rn id σ (fun bb => jw_base64 bb (some a) (some b) σ) (RA σ a (b64T w)) := by
  unfold jw_base64
  refine Rn_eq (fun bb => by rw [bind_some', gd_pos hR.1]) ?_
  refine Rn_bind (rn_add hR (by omega) 34) (fun σ1 _ g => ?_)
  have hl1 := g.len
  simp only [List.length_cons, List.length_nil] at hl1
  refine Rn_bind (rn_bL hw1 hab w.length FU 0 σ σ1 _ g hb hb4 hbw (by omega) (by omega) (FU_gt (by omega)) (by show (sW σ1 a).length + _ ≤ _; omega)) (fun σ2 _ g2 => ?_)
  rw [List.drop_zero] at g2
  have g3 := g.tr g2
  have hl2 := g3.len
  have he := b64_len _ w (Nat.le_refl _)
  refine Rn_gd g3.rw.1 ?_
  refine Rn_bind (rn_add g3.rw (by show (sW σ2 a).length < _; rw [hl2]; rw [List.length_append]; simp only [List.length_cons, List.length_nil]; omega) 34) (fun σ3 _ g4 => Rn_some (Le.refl _) ?_)
  have := g3.tr g4
  exact this
end Bs
section Br
variable {τ : TT} {w : List UInt8} {I : Nat → Nat} {n : Nat}
theorem m_six {q : Nat} (h : q < 64) {x : Int} (hx : x = (q : Int)) : m_sixBits x = some ((sch 2 q : Nat) : Int) := by
  subst hx
  have k : ∀ q : Fin 64, m_sixBits ((q.val : Nat) : Int) = some ((sch 2 q.val : Nat) : Int) := by decide +kernel
  exact k ⟨q, h⟩
theorem cut_getD {p e j : Nat} (hj : p + j < e) : ((cut I p e).getD j 0) = UInt8.ofNat (I (p + j)) := by
  unfold cut
  rw [List.getD_eq_getElem?_getD, List.getElem?_map, List.getElem?_range (by omega)]; rfl
theorem cut_drop {p e : Nat} (j : Nat) : (cut I p e).drop j = cut I (p + j) e := by
  unfold cut
  rw [← List.map_drop]
  apply List.ext_getElem?
  intro i
  rw [List.getElem?_map, List.getElem?_map, List.getElem?_drop]
  by_cases h : j + i < e - p
  · rw [List.getElem?_range h, List.getElem?_range (show i < e - (p + j) by omega)]
    show some (UInt8.ofNat (I (p + (j + i)))) = some (UInt8.ofNat (I (p + j + i)))
    rw [Nat.add_assoc]
  · rw [List.getElem?_eq_none (by rw [List.length_range]; omega), List.getElem?_eq_none (by rw [List.length_range]; omega)]; rfl
theorem m_by_L {e : Nat} (he : e ≤ n) : ∀ (c N p : Nat) (τ : TT) (w : List UInt8), TIn τ I n → OX τ w → e ≤ p + c → p ≤ e + 3 → c < N → ∃ τ', m_putBytes_L8 (e : Int) N (p : Int) τ = some τ' ∧ MX τ w (b64 (cut I p e)) τ'
  | c, 0, p, τ, w, _, _, _, _, h => by omega
  | c, N + 1, p, τ, w, hI, hO, hp, hp3, hN => by
    have hn := hI.2.1
    have h256 := hI.2.2.2
    by_cases ce : e ≤ p
    · have ec : cut I p e = [] := by unfold cut; rw [show e - p = 0 by omega]; rfl
      rw [ec]
      exact ⟨τ, by rw [m_putBytes_L8, gd_pos (by omega), gd_pos (by omega), if_pos (by omega)], MX.nil hO⟩
    · obtain ⟨c, rfl⟩ : ∃ m, c = m + 1 := ⟨c - 1, by omega⟩
      have hs := b64_step (w := cut I p e) (k := 0) (by rw [cut_len]; omega)
      rw [List.drop_zero, cut_len, Nat.zero_add, Nat.zero_add, Nat.zero_add, cut_drop] at hs
      have g0 : ((cut I p e).getD 0 0).toNat = I p := by rw [cut_getD (by omega), tn_of (h256 _), Nat.add_zero]
      obtain ⟨q, hq⟩ : ∃ q, q = e - p := ⟨_, rfl⟩
      obtain ⟨b1, hb1⟩ : ∃ b1, b1 = (if q ≤ 1 then 0 else I (p + 1)) := ⟨_, rfl⟩
      obtain ⟨b2, hb2⟩ : ∃ b2, b2 = (if q ≤ 2 then 0 else I (p + 2)) := ⟨_, rfl⟩
      have f1 : (if e - p - 0 ≤ 1 then 0 else ((cut I p e).getD 1 0).toNat) = b1 := by
        rw [hb1]
        by_cases d : q ≤ 1
        · rw [if_pos (by omega), if_pos d]
        · rw [if_neg (by omega), if_neg d, cut_getD (by omega), tn_of (h256 _)]
      have f2 : (if e - p - 0 ≤ 2 then 0 else ((cut I p e).getD 2 0).toNat) = b2 := by
        rw [hb2]
        by_cases d : q ≤ 2
        · rw [if_pos (by omega), if_pos d]
        · rw [if_neg (by omega), if_neg d, cut_getD (by omega), tn_of (h256 _)]
      rw [g0, f1, f2, Nat.sub_zero, ← hq] at hs
      rw [hs]
      have hb0' := h256 p
      have hb1' : b1 < 256 := by rw [hb1]; split; omega; exact h256 _
      have hb2' : b2 < 256 := by rw [hb2]; split; omega; exact h256 _
      have x0 : tA τ 2 p = (I p : Int) := hI.2.2.1 p (by omega)
      have e18 : (gd (rg ((p : Int) + 1)) (if (e : Int) ≤ ((p : Int) + 1) then (some 0) else (gd (ib ((p : Int) + 1) 1000) (some ((tA τ 2 ((p : Int) + 1).toNat))))) : Option Int) = some (b1 : Int) := by
        rw [gd_pos (by omega), hb1]
        by_cases d : q ≤ 1
        · rw [if_pos (by omega), if_pos d]; rfl
        · rw [if_neg (by omega), if_neg d, gd_pos (by omega), show ((p : Int) + 1).toNat = p + 1 by omega, hI.2.2.1 (p + 1) (by omega)]
      have e26 : (gd (rg ((p : Int) + 2)) (if (e : Int) ≤ ((p : Int) + 2) then (some 0) else (gd (ib ((p : Int) + 2) 1000) (some ((tA τ 2 ((p : Int) + 2).toNat))))) : Option Int) = some (b2 : Int) := by
        rw [gd_pos (by omega), hb2]
        by_cases d : q ≤ 2
        · rw [if_pos (by omega), if_pos d]; rfl
        · rw [if_neg (by omega), if_neg d, gd_pos (by omega), show ((p : Int) + 2).toNat = p + 2 by omega, hI.2.2.1 (p + 2) (by omega)]
      obtain ⟨b0, hb0⟩ : ∃ b0, b0 = I p := ⟨_, rfl⟩
      rw [← hb0] at x0 hb0' ⊢
      have a3 : ∀ x : Nat, iAnd (x : Int) 3 = ((x % 4 : Nat) : Int) := fun x => by
        rw [iAnd_n (y := 3) (a := x) (b := 3) rfl rfl (by decide), show x &&& 3 = x % 4 from Nat.and_two_pow_sub_one_eq_mod x 2]
      have a15 : ∀ x : Nat, iAnd (x : Int) 15 = ((x % 16 : Nat) : Int) := fun x => by
        rw [iAnd_n (y := 15) (a := x) (b := 15) rfl rfl (by decide), show x &&& 15 = x % 16 from Nat.and_two_pow_sub_one_eq_mod x 4]
      have a63 : ∀ x : Nat, iAnd (x : Int) 63 = ((x % 64 : Nat) : Int) := fun x => by
        rw [iAnd_n (y := 63) (a := x) (b := 63) rfl rfl (by decide), show x &&& 63 = x % 64 from Nat.and_two_pow_sub_one_eq_mod x 6]
      have k0 : m_sixBits (iShr (b0 : Int) 2) = some ((sch 2 (b0 / 4) : Nat) : Int) := m_six (by omega) (iShr_n (y := 2) (a := b0) (k := 2) rfl rfl (by omega) (by omega))
      have k1 : m_sixBits (iOr (iShl (iAnd (b0 : Int) 3) 4) (iShr (b1 : Int) 4)) = some ((sch 2 ((b0 % 4) * 16 + b1 / 16) : Nat) : Int) := m_six (by omega) (by
        rw [a3, iShl_n (y := 4) (a := b0 % 4) (k := 4) rfl rfl (by omega) (by omega), iShr_n (y := 4) (a := b1) (k := 4) rfl rfl (by omega) (by omega), iOr_n rfl rfl (by omega) (by omega), or_dis (by omega)])
      have k2 : m_sixBits (iOr (iShl (iAnd (b1 : Int) 15) 2) (iShr (b2 : Int) 6)) = some ((sch 2 ((b1 % 16) * 4 + b2 / 64) : Nat) : Int) := m_six (by omega) (by
        rw [a15, iShl_n (y := 2) (a := b1 % 16) (k := 2) rfl rfl (by omega) (by omega), iShr_n (y := 6) (a := b2) (k := 6) rfl rfl (by omega) (by omega), iOr_n rfl rfl (by omega) (by omega), or_dis (by omega)])
      have k3 : m_sixBits (iAnd (b2 : Int) 63) = some ((sch 2 (b2 % 64) : Nat) : Int) := m_six (by omega) (a63 b2)
      have e38 : (gd (rg ((p : Int) + 1)) (if (e : Int) ≤ ((p : Int) + 1) then (some 61) else (Option.bind (m_sixBits (iOr (iShl (iAnd (b1 : Int) 15) 2) (iShr (b2 : Int) 6))) fun y57 => some y57)) : Option Int) = some (if q ≤ 1 then 61 else ((sch 2 ((b1 % 16) * 4 + b2 / 64) : Nat) : Int)) := by
        rw [gd_pos (by omega)]
        by_cases d : q ≤ 1
        · rw [if_pos (by omega), if_pos d]
        · rw [if_neg (by omega), if_neg d, k2, bind_some']
      have e47 : (gd (rg ((p : Int) + 2)) (if (e : Int) ≤ ((p : Int) + 2) then (some 61) else (Option.bind (m_sixBits (iAnd (b2 : Int) 63)) fun y52 => some y52)) : Option Int) = some (if q ≤ 2 then 61 else ((sch 2 (b2 % 64) : Nat) : Int)) := by
        rw [gd_pos (by omega)]
        by_cases d : q ≤ 2
        · rw [if_pos (by omega), if_pos d]
        · rw [if_neg (by omega), if_neg d, k3, bind_some']
      obtain ⟨τ1, p1, m1⟩ := m_put_X hO ((sch 2 (b0 / 4) : Nat) : Int)
      obtain ⟨τ2, p2, m2⟩ := m_put_X m1.2 ((sch 2 ((b0 % 4) * 16 + b1 / 16) : Nat) : Int)
      have m12 := m1.tr m2
      obtain ⟨τ3, p3, m3⟩ := m_put_X m12.2 (if q ≤ 1 then 61 else ((sch 2 ((b1 % 16) * 4 + b2 / 64) : Nat) : Int))
      have m13 := m12.tr m3
      obtain ⟨τ4, p4, m4⟩ := m_put_X m13.2 (if q ≤ 2 then 61 else ((sch 2 (b2 % 64) : Nat) : Int))
      have m14 := m13.tr m4
      have eg : ([u8 ((sch 2 (b0 / 4) : Nat) : Int)] ++ [u8 ((sch 2 ((b0 % 4) * 16 + b1 / 16) : Nat) : Int)] ++ [u8 (if q ≤ 1 then 61 else ((sch 2 ((b1 % 16) * 4 + b2 / 64) : Nat) : Int))] ++ [u8 (if q ≤ 2 then 61 else ((sch 2 (b2 % 64) : Nat) : Int))]) = grp (min 3 q) b0 b1 b2 := by
        unfold grp s64
        have q1 : u8 (if q ≤ 1 then 61 else ((sch 2 ((b1 % 16) * 4 + b2 / 64) : Nat) : Int)) = if min 3 q ≤ 1 then 61 else u8 ((sch 2 ((b1 % 16) * 4 + b2 / 64) : Nat) : Int) := by
          by_cases d : q ≤ 1
          · rw [if_pos d, if_pos (by omega)]; rfl
          · rw [if_neg d, if_neg (by omega)]
        have q2 : u8 (if q ≤ 2 then 61 else ((sch 2 (b2 % 64) : Nat) : Int)) = if min 3 q ≤ 2 then 61 else u8 ((sch 2 (b2 % 64) : Nat) : Int) := by
          by_cases d : q ≤ 2
          · rw [if_pos d, if_pos (by omega)]; rfl
          · rw [if_neg d, if_neg (by omega)]
        rw [q1, q2]; rfl
      rw [eg] at m14
      obtain ⟨τ5, p5, m5⟩ := m_by_L he c N (p + 3) τ4 _ (hI.x m14.1) m14.2 (by omega) (by omega) (by omega)
      refine ⟨τ5, ?_, m14.tr m5⟩
      rw [m_putBytes_L8, gd_pos (by omega), gd_pos (by omega), if_neg (by omega), gd_pos (by omega), nm_eq, Int.toNat_natCast, x0, e18, bind_some', e26, bind_some', k0, bind_some', p1, bind_some', k1, bind_some', p2, bind_some', e38, bind_some', p3, bind_some', e47, bind_some', p4, bind_some', show (p : Int) + 3 = ((p + 3 : Nat) : Int) by omega, p5]
theorem m_putBytes_eq {p e : Nat} (hp : p ≤ e) (he : e ≤ n) (hI : TIn τ I n) (hO : OX τ w) : ∃ τ', m_putBytes (p : Int) (e : Int) τ = some τ' ∧ MX τ w (b64T (cut I p e)) τ' := by
  have hn := hI.2.1
  obtain ⟨τ1, e1, g1⟩ := m_put_X hO 34
  obtain ⟨τ2, e2, g2⟩ := m_by_L he (e - p) FU p τ1 _ (hI.x g1.1) g1.2 (by omega) (by omega) (FU_gt (by omega))
  obtain ⟨τ3, e3, g3⟩ := m_put_X (g1.tr g2).2 34
  refine ⟨τ3, ?_, ?_⟩
  · unfold m_putBytes
    rw [e1, bind_some', e2, bind_some', e3, bind_some']
  · have := (g1.tr g2).tr g3
    exact this
end Br
