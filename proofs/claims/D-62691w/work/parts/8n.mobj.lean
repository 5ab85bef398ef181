set_option maxRecDepth 100000
/-! JSON: objects, as the reference reads them -/
theorem lShr_n {b k : Nat} {x : Int} (hb : b < 9223372036854775808) (hk : k < 64) (hx : x = (k : Int)) : lShr (lN b) x = lN (b / 2 ^ k) := by
  subst hx
  have hs : ∀ k : Nat, k < 64 → (((Int32.ofInt k).toInt64 &&& 63).toBitVec.smod 64).toNat = k := by decide +kernel
  apply Int64.toInt_inj.mp
  have hd := Nat.div_le_self b (2 ^ k)
  rw [lN_int (show b / 2 ^ k < 9223372036854775808 by omega)]
  unfold lShr
  show (lN b >>> ((Int32.ofInt (k : Int)).toInt64 &&& 63)).toBitVec.toInt = _
  rw [Int64.toBitVec_shiftRight, BitVec.sshiftRight_eq', BitVec.toInt_sshiftRight, hs k hk, Int.shiftRight_eq_div_pow]
  rw [show (lN b).toBitVec.toInt = (b : Int) from lN_int hb]
  simp
theorem lShl_1 {k : Nat} {x : Int} (hk : k < 50) (hx : x = (k : Int)) : lShl 1 x = lN (2 ^ k) := by
  subst hx
  have q : ∀ k : Fin 50, lShl 1 ((k.val : Nat) : Int) = lN (2 ^ k.val) := by decide +kernel
  exact q ⟨k, hk⟩
theorem lN_or {a b : Nat} (ha : a < T64) (hb : b < T64) : lN a ||| lN b = lN (a ||| b) := by
  apply Int64.toBitVec_inj.mp
  rw [Int64.toBitVec_or]
  show BitVec.ofNat 64 a ||| BitVec.ofNat 64 b = BitVec.ofNat 64 (a ||| b)
  apply BitVec.eq_of_toNat_eq
  have h3 : a ||| b < 2 ^ 64 := Nat.or_lt_two_pow ha hb
  rw [BitVec.toNat_or, BitVec.toNat_ofNat, BitVec.toNat_ofNat, BitVec.toNat_ofNat, Nat.mod_eq_of_lt ha, Nat.mod_eq_of_lt hb, Nat.mod_eq_of_lt h3]
theorem lN_and1 (a : Nat) : lN a &&& 1 = lN (a % 2) := by
  apply Int64.toBitVec_inj.mp
  rw [Int64.toBitVec_and]
  show BitVec.ofNat 64 a &&& 1#64 = BitVec.ofNat 64 (a % 2)
  apply BitVec.eq_of_toNat_eq
  rw [BitVec.toNat_and, BitVec.toNat_ofNat, BitVec.toNat_ofNat, BitVec.toNat_ofNat, show 1 % 2 ^ 64 = 2 ^ 1 - 1 from by decide, Nat.and_two_pow_sub_one_eq_mod]
  omega
theorem bit64 {b k : Nat} {x : Int} (hb : b < 9223372036854775808) (hk : k < 50) (hx : x = (k : Int)) : ((lShr (lN b) x) &&& 1) = 1 ↔ b.testBit k = true := by
  rw [lShr_n hb (by omega) hx, lN_and1, show (1 : Int64) = lN 1 from rfl, lN_inj (by have := Nat.mod_lt (b / 2 ^ k) (show 0 < 2 by decide); show _ < 18446744073709551616; omega) (by decide), Nat.testBit_eq_decide_div_mod_eq]
  simp
theorem bit32 {t k : Nat} {x : Int} (ht : t < 2147483648) (hk : k < 31) (hx : x = (k : Int)) : iAnd (iShr (t : Int) x) 1 = 1 ↔ t.testBit k = true := by
  have hd := Nat.div_le_self t (2 ^ k)
  rw [iShr_n rfl hx (by omega) (by omega), iAnd_n (y := 1) (a := t / 2 ^ k) (b := 1) rfl rfl (by decide), Nat.testBit_eq_decide_div_mod_eq]
  have : t / 2 ^ k &&& 1 = t / 2 ^ k % 2 := Nat.and_two_pow_sub_one_eq_mod _ 1
  rw [this]
  simp only [decide_eq_true_eq]
  omega
/-- bits of fields that were there -/
def SB (b : Nat) (seen : List Nat) : Prop := b < 2 ^ 50 ∧ ∀ g, g < 50 → (b.testBit g = true ↔ g ∈ seen)
theorem SB.add {b f : Nat} {seen : List Nat} (h : SB b seen) (hf : f < 50) : SB (b ||| 2 ^ f) (f :: seen) := by
  refine ⟨Nat.or_lt_two_pow h.1 (Nat.pow_lt_pow_right (by decide) hf), fun g hg => ?_⟩
  rw [Nat.testBit_or, Nat.testBit_two_pow, Bool.or_eq_true, h.2 g hg, decide_eq_true_iff, List.mem_cons]
  constructor
  · rintro (q | q)
    · exact Or.inr q
    · exact Or.inl q.symm
  · rintro (q | q)
    · exact Or.inr q.symm
    · exact Or.inl q
/-- bits of oneofs that have a value -/
def TB {d : Nat} (S : SC) (t : Nat) (T : TV (d + 1)) : Prop := t < 2 ^ 12 ∧ ∀ o, o < 12 → (t.testBit o = true ↔ ∃ s ∈ t1 T, qo S s.1 = (o : Int))
def oE {d : Nat} (o : Option (Nat × TV d)) : Int := match o with
  | some e => (e.1 : Int)
  | none => -1
def JH (S : SC) (I : Nat → Nat) (n : Nat) (τ : TT) : Prop := TSc τ S ∧ TIn τ I n ∧ tI τ 58 = 0
theorem JH.tr {S : SC} {I : Nat → Nat} {n : Nat} {τ τ' : TT} (h : JH S I n τ) (f : TF KJ τ τ') (h58 : tI τ' 58 = 0) : JH S I n τ' := ⟨h.1.tr f (by decide), h.2.1.tr f (by decide) (by decide), h58⟩
/-- the reference's reader of messages of a depth -/
def RO {d : Nat} (S : SC) (I : Nat → Nat) (n : Nat) (rec : Int → Int → Int → TT → Option (Int × TT)) (dp : Int) (sp : Nat → Nat → Option (Nat × TV d)) : Prop := ∀ (m p : Nat) (τ : TT), m < 100 → p ≤ n → JH S I n τ → ∃ τ', TF KJ τ τ' ∧ tI τ' 58 = 0 ∧ rec (m : Int) (p : Int) dp τ = some (oE (sp m p), τ')
section Mo
variable {S : SC} {I : Nat → Nat} {n : Nat} {d : Nat} {rec : Int → Int → Int → TT → Option (Int × TT)} {sp : Nat → Nat → Option (Nat × TV d)} {dp : Int}
theorem m_val (hS : SW S) (hX : TXT I n) (hR : RO S I n rec (dp + 1) sp) {f p : Nat} {τ : TT} (hf : f < nF_ S) (hp : p ≤ n) (hJ : JH S I n τ) : ∃ τ' r, TF KJ τ τ' ∧ tI τ' 58 = 0 ∧ m_value rec (f : Int) (p : Int) dp τ = some (r, τ') ∧ (match valS S I n sp f p with | some e => r = (e.1 : Int) | none => r = -1 ∨ ∃ e : Nat, r = (e : Int) ∧ e < n ∧ nsg (lk I n e) = true) := by
  have sk := (hS.2.2.2.2.1 f hf).2.2.2.1
  have hM := hS.2.2.1
  have hE := hS.2.2.2.1
  by_cases c : isM S f
  · obtain ⟨τ1, f1, h58, e1⟩ := hR (qk S f - 16) p τ (by omega) hp hJ
    have t3 := (hJ.1.2.2.2.2.1 f hf).2.2.1
    have h50 := hS.1
    refine ⟨τ1, oE (sp (qk S f - 16) p), f1, h58, ?_, ?_⟩
    · unfold m_value
      rw [gd_pos (by omega), nm_eq, Int.toNat_natCast, t3, gd_pos (by omega), if_neg (by omega), if_neg (by omega), if_neg (by omega), if_neg (by omega), show ((qk S f : Nat) : Int) - 16 = ((qk S f - 16 : Nat) : Int) by omega, e1, bind_some']
    · unfold valS
      rw [if_pos c]
      cases e : sp (qk S f - 16) p with
      | none => exact Or.inl rfl
      | some r => rfl
  · obtain ⟨τ1, r, f1, h58, e1, q⟩ := m_value_scl hS hJ.1 hJ.2.1 hJ.2.2 hX rec hf (by omega) hp dp
    refine ⟨τ1, r, f1, h58, e1, ?_⟩
    unfold valS
    rw [if_neg c]
    cases e : sclS S I n f p with
    | none => rw [e] at q; exact q
    | some x => rw [e] at q; exact q.1
theorem ns_bl {e : Nat} (h : nsg (lk I n e) = true) : bl I n e = e ∧ lk I n e ≠ 44 ∧ lk I n e ≠ 93 ∧ lk I n e ≠ 125 := by
  have q := (nsg_iff _).mp h
  refine ⟨by rw [bl_eq, if_neg (by unfold isB; omega)], by omega, by omega, by omega⟩
theorem m_arr_L (hS : SW S) (hX : TXT I n) (hR : RO S I n rec (dp + 1) sp) (hB : RB n sp) {f : Nat} (hf : f < nF_ S) : ∀ (c N p : Nat) (acc : List (SV d)) (τ : TT), JH S I n τ → p ≤ n → n + 1 ≤ c + p → c < N → ∃ τ', TF KJ τ τ' ∧ tI τ' 58 = 0 ∧ m_array_L37 rec (f : Int) dp N ((bl I n p : Nat) : Int) τ = some (match arrL S I n sp f c p acc with | some e => Sum.inr ((e.1 : Int) - 1, τ') | none => Sum.inl (-1, τ'))
  | 0, N, p, acc, τ, hJ, hp, h1, h2 => by omega
  | c + 1, N, p, acc, τ, hJ, hp, h1, h2 => by
    obtain ⟨N, rfl⟩ : ∃ m, N = m + 1 := ⟨N - 1, by omega⟩
    have hn := hJ.2.1.2.1
    have hI := hJ.2.1.2.2.2
    have b1 := bl_ge' I n p
    have b2 := bl_le' I n p
    obtain ⟨τ1, r, f1, h58, e1, q⟩ := m_val (p := bl I n p) hS hX hR hf (by omega) hJ
    have hJ1 := hJ.tr f1 h58
    rw [m_array_L37, arrL, e1, bind_some']
    cases ev : valS S I n sp f (bl I n p) with
    | none =>
      rw [ev] at q
      rcases q with q | ⟨e, q1, q2, q3⟩
      · refine ⟨τ1, f1, h58, ?_⟩
        show gd (rg r) (if r = -1 then _ else _) = _
        rw [q, gd_pos (by omega), if_pos rfl]
        rfl
      · obtain ⟨w1, w2, w3, w4⟩ := ns_bl q3
        have hrg := lk_rg (n := n) hI e
        refine ⟨τ1, f1, h58, ?_⟩
        show gd (rg r) (if r = -1 then _ else Option.bind (m_blanks r τ1) _) = _
        rw [q1, gd_pos (by omega), if_neg (by omega), m_blanks_eq hJ1.2.1 rfl (by omega), bind_some', w1, m_look_eq hJ1.2.1 rfl (by omega), bind_some', gd_pos (rg_byte hrg), if_neg w3, bind_some', gd_pos (rg_byte hrg), if_neg w2]
        rfl
    | some x =>
      rw [ev] at q
      obtain ⟨v1, v2, v3⟩ := valS_bd hI hB (by omega) ev
      have b3 := bl_ge' I n x.1
      have b4 := bl_le' I n x.1
      have hrg := lk_rg (n := n) hI (bl I n x.1)
      have eI : (gd (rg r) (if r = ((-1)) then (some (Sum.inl (((-1), τ1)))) else (Option.bind (m_blanks r τ1) fun y20 => Option.bind (m_look y20 τ1) fun y21 => gd (rg y21) (if y21 = 93 then (some (Sum.inr ((y20, τ1)))) else (Option.bind (m_look y20 τ1) fun y26 => gd (rg y26) (if y26 = 44 then (Option.bind (m_blanks (y20 + 1) τ1) fun y31 => m_array_L37 rec (f : Int) dp N y31 τ1) else (some (Sum.inl (((-1), τ1))))))))) : Option ((Int × TT) ⊕ (Int × TT))) = (if lk I n (bl I n x.1) = 93 then (some (Sum.inr (((bl I n x.1 : Nat) : Int), τ1))) else if lk I n (bl I n x.1) = 44 then m_array_L37 rec (f : Int) dp N ((bl I n (bl I n x.1 + 1) : Nat) : Int) τ1 else some (Sum.inl (-1, τ1))) := by
        rw [q, gd_pos (by omega), if_neg (by omega), m_blanks_eq hJ1.2.1 rfl (by omega), bind_some', m_look_eq hJ1.2.1 rfl (by omega), bind_some', gd_pos (rg_byte hrg)]
        by_cases c93 : lk I n (bl I n x.1) = 93
        · rw [if_pos c93, if_pos c93]
        · rw [if_neg c93, if_neg c93, bind_some', gd_pos (rg_byte hrg)]
          by_cases c44 : lk I n (bl I n x.1) = 44
          · rw [if_pos c44, if_pos c44, m_blanks_eq (p := bl I n x.1 + 1) hJ1.2.1 (by omega) (by omega), bind_some']
          · rw [if_neg c44, if_neg c44]
      show ∃ τ', TF KJ τ τ' ∧ tI τ' 58 = 0 ∧ _ = some (match (if lk I n (bl I n x.1) = 44 then arrL S I n sp f c (bl I n x.1 + 1) (acc ++ [x.2]) else if lk I n (bl I n x.1) = 93 then some (bl I n x.1 + 1, acc ++ [x.2]) else none) with | some e => Sum.inr ((e.1 : Int) - 1, τ') | none => Sum.inl (-1, τ'))
      rw [eI]
      by_cases c44 : lk I n (bl I n x.1) = 44
      · have l44 := lk_ne c44 (by decide)
        rw [if_neg (by omega), if_pos c44, if_pos c44]
        obtain ⟨τ2, f2, h58', e2⟩ := m_arr_L hS hX hR hB hf c N (bl I n x.1 + 1) (acc ++ [x.2]) τ1 hJ1 (by omega) (by omega) (by omega)
        exact ⟨τ2, f1.tr f2 (fun _ e => e), h58', e2⟩
      · by_cases c93 : lk I n (bl I n x.1) = 93
        · rw [if_pos c93, if_neg c44, if_pos c93]
          refine ⟨τ1, f1, h58, ?_⟩
          show some _ = some (Sum.inr (((bl I n x.1 + 1 : Nat) : Int) - 1, τ1))
          rw [show ((bl I n x.1 + 1 : Nat) : Int) - 1 = ((bl I n x.1 : Nat) : Int) by omega]
        · rw [if_neg c93, if_neg c44, if_neg c44, if_neg c93]
          exact ⟨τ1, f1, h58, rfl⟩
theorem m_arr (hS : SW S) (hX : TXT I n) (hR : RO S I n rec (dp + 1) sp) (hB : RB n sp) {f p : Nat} {τ : TT} (hf : f < nF_ S) (hp : p ≤ n) (hJ : JH S I n τ) : ∃ τ', TF KJ τ τ' ∧ tI τ' 58 = 0 ∧ m_array rec (f : Int) (p : Int) dp τ = some (match arrS S I n sp f p with | some e => (e.1 : Int) | none => -1, τ') := by
  have hn := hJ.2.1.2.1
  have hI := hJ.2.1.2.2.2
  have hrg := lk_rg (n := n) hI p
  unfold m_array arrS
  rw [m_look_eq hJ.2.1 rfl (by omega), bind_some', gd_pos (rg_byte hrg)]
  by_cases c : lk I n p = 91
  · have l91 := lk_ne c (by decide)
    have b1 := bl_ge' I n (p + 1)
    have b2 := bl_le' I n (p + 1)
    have hrg2 := lk_rg (n := n) hI (bl I n (p + 1))
    rw [if_pos c, if_pos c, m_blanks_eq (p := p + 1) hJ.2.1 (by omega) (by omega), bind_some', m_look_eq hJ.2.1 rfl (by omega), bind_some', gd_pos (rg_byte hrg2)]
    by_cases c93 : lk I n (bl I n (p + 1)) = 93
    · rw [if_pos c93, if_pos c93]
      exact ⟨τ, TF.refl _ _, hJ.2.2, rfl⟩
    · rw [if_neg c93, if_neg c93]
      obtain ⟨τ1, f1, h58, e1⟩ := m_arr_L hS hX hR hB hf (n + 1) FU (p + 1) [] τ hJ (by omega) (by omega) (FU_gt (by omega))
      refine ⟨τ1, f1, h58, ?_⟩
      rw [e1, bind_some']
      cases arrL S I n sp f (n + 1) (p + 1) [] with
      | none => rfl
      | some e =>
        show some _ = some _
        rw [show ((e.1 : Int) - 1, τ1).1 + 1 = (e.1 : Int) by show (e.1 : Int) - 1 + 1 = _; omega]
  · rw [if_neg c, if_neg c]
    exact ⟨τ, TF.refl _ _, hJ.2.2, rfl⟩
end Mo
