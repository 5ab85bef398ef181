set_option maxRecDepth 100000
/-! JSON: texts -/
def hxd (c : Int) : Int := if (c < 48) ∨ (57 < c) then (if (c < 97) ∨ (102 < c) then (if (c < 65) ∨ (70 < c) then -1 else c - 55) else c - 87) else c - 48
def hx (I : Nat → Nat) (n : Nat) : Nat → Nat → Int → Int
  | 0, _, v => v
  | m + 1, k, v => if hxd (lk I n k) = -1 then -1 else hx I n m (k + 1) (16 * v + hxd (lk I n k))
theorem hxd_rg (c : Int) : -1 ≤ hxd c ∧ hxd c < 16 := by
  unfold hxd
  split
  · split
    · split <;> omega
    · omega
  · omega
theorem hxd_in {I : Nat → Nat} {n k : Nat} (h : hxd (lk I n k) ≠ -1) : k < n := lk_in (fun e => h (by rw [e]; decide))
theorem hx_rg (I : Nat → Nat) (n : Nat) : ∀ (m k : Nat) (v : Int), 0 ≤ v → hx I n m k v = -1 ∨ (0 ≤ hx I n m k v ∧ hx I n m k v < 16 ^ m * (v + 1) ∧ (m ≠ 0 → k + m ≤ n))
  | 0, k, v, h => Or.inr ⟨h, by simp [hx]; omega, fun e => absurd rfl e⟩
  | m + 1, k, v, h => by
    rw [hx]
    split
    · exact Or.inl rfl
    · rename_i q
      have h1 := hxd_rg (lk I n k)
      have hk := hxd_in q
      rcases hx_rg I n m (k + 1) (16 * v + hxd (lk I n k)) (by omega) with e | ⟨e1, e2, e3⟩
      · exact Or.inl e
      · refine Or.inr ⟨e1, Int.lt_of_lt_of_le e2 ?_, fun _ => ?_⟩
        · rw [Int.pow_succ, Int.mul_assoc]
          exact Int.mul_le_mul_of_nonneg_left (by omega) (Int.pow_nonneg (by decide))
        · rcases Nat.eq_zero_or_pos m with e | e
          · omega
          · have := e3 (by omega); omega
theorem hx4_rg (I : Nat → Nat) (n k : Nat) : hx I n 4 k 0 = -1 ∨ (0 ≤ hx I n 4 k 0 ∧ hx I n 4 k 0 < 65536 ∧ k + 4 ≤ n) := by
  rcases hx_rg I n 4 k 0 (by omega) with e | ⟨e1, e2, e3⟩
  · exact Or.inl e
  · exact Or.inr ⟨e1, by simpa using e2, e3 (by decide)⟩
/-- a sign's bytes -/
def sayL (v : Int) : List UInt8 := if 128 ≤ v then (if 2048 ≤ v then (if 65536 ≤ v then [u8 (iOr 240 (iShr v 18)), u8 (iOr 128 (iAnd (iShr v 12) 63)), u8 (iOr 128 (iAnd (iShr v 6) 63)), u8 (iOr 128 (iAnd v 63))] else [u8 (iOr 224 (iShr v 12)), u8 (iOr 128 (iAnd (iShr v 6) 63)), u8 (iOr 128 (iAnd v 63))]) else [u8 (iOr 192 (iShr v 6)), u8 (iOr 128 (iAnd v 63))]) else [u8 v]
theorem sayL_len (v : Int) : (sayL v).length ≤ 4 ∧ (v < 65536 → (sayL v).length ≤ 3) ∧ (v < 128 → (sayL v).length = 1) ∧ 1 ≤ (sayL v).length := by
  unfold sayL
  split
  · split
    · split
      · exact ⟨by simp, fun _ => by omega, fun _ => by omega, by simp⟩
      · exact ⟨by simp, fun _ => by simp, fun _ => by omega, by simp⟩
    · exact ⟨by simp, fun _ => by simp, fun _ => by omega, by simp⟩
  · exact ⟨by simp, fun _ => by simp, fun _ => by simp, by simp⟩
theorem or_byte {x y : Int} (hx : 0 ≤ x ∧ x < 256) (hy : 0 ≤ y ∧ y < 256) : 0 ≤ iOr x y ∧ iOr x y < 256 := by
  rw [iOr_n (a := x.toNat) (b := y.toNat) (by omega) (by omega) (by omega) (by omega)]
  have h : x.toNat ||| y.toNat < 2 ^ 8 := Nat.or_lt_two_pow (by omega) (by omega)
  omega
theorem and63 {x : Int} (hx : 0 ≤ x ∧ x < 2147483648) : 0 ≤ iAnd x 63 ∧ iAnd x 63 < 64 := by
  rw [iAnd_n (a := x.toNat) (b := 63) (by omega) (by omega) (by omega)]
  have h : x.toNat &&& 63 < 2 ^ 6 := Nat.and_lt_two_pow _ (by decide)
  omega
theorem shr_rg {x y : Int} {k : Nat} (hx : 0 ≤ x ∧ x < 2147483648) (hy : y = k) (hk : k < 32) : iShr x y = x / 2 ^ k ∧ 0 ≤ iShr x y ∧ iShr x y < 2147483648 := by
  have e : iShr x y = x / 2 ^ k := by rw [hy]; exact iShr_eq x k ⟨by omega, by omega⟩ hk
  rw [iShr_n (a := x.toNat) (k := k) (by omega) hy (by omega) hk] at e ⊢
  have h := Nat.div_le_self x.toNat (2 ^ k)
  refine ⟨e, Int.natCast_nonneg _, ?_⟩
  generalize x.toNat / 2 ^ k = z at h ⊢
  omega
def escv (e : Int) : Int := if e = 98 then 8 else (if e = 102 then 12 else (if e = 110 then 10 else (if e = 114 then 13 else (if e = 116 then 9 else (if ((e = 34) ∨ (e = 92)) ∨ (e = 47) then e else -1)))))
theorem escv_rg (e : Int) : -1 ≤ escv e ∧ escv e < 128 := by
  unfold escv
  repeat' split
  all_goals omega
theorem escv_in {I : Nat → Nat} {n k : Nat} (h : escv (lk I n k) ≠ -1) : k < n := lk_in (fun e => h (by rw [e]; decide))
/-- two halves of one sign -/
def pair (v w : Int) : Int := ((65536 + (iShl (v - 55296) 10)) + w) - 56320
theorem pair_rg {v w : Int} (hv : 55296 ≤ v ∧ v < 56320) (hw : 56320 ≤ w ∧ w < 57344) : 65536 ≤ pair v w ∧ pair v w < 1114112 := by
  unfold pair
  rw [iShl_n (a := (v - 55296).toNat) (k := 10) (by omega) (by omega) (by omega) (by omega)]
  omega
/-- the rest of a text, behind what was said: where its end's sign lies, all that was said -/
def strS (I : Nat → Nat) (n : Nat) (k : Nat) (w : List UInt8) : Option (Nat × List UInt8) :=
  if h : lk I n k < 32 then none
  else if lk I n k = 34 then some (k, w)
  else if lk I n k = 92 then
    (if lk I n (k + 1) = 117 then
      (if hx I n 4 (k + 2) 0 < 55296 ∨ 56320 ≤ hx I n 4 (k + 2) 0 then
        (if hx I n 4 (k + 2) 0 < 56320 ∨ 57344 ≤ hx I n 4 (k + 2) 0 then (if hx I n 4 (k + 2) 0 = -1 then none else strS I n (k + 6) (w ++ sayL (hx I n 4 (k + 2) 0))) else none)
      else if lk I n (k + 6) = 92 ∧ lk I n (k + 7) = 117 ∧ 56320 ≤ hx I n 4 (k + 8) 0 ∧ hx I n 4 (k + 8) 0 < 57344 then strS I n (k + 12) (w ++ sayL (pair (hx I n 4 (k + 2) 0) (hx I n 4 (k + 8) 0))) else none)
    else if escv (lk I n (k + 1)) = -1 then none else strS I n (k + 2) (w ++ sayL (escv (lk I n (k + 1)))))
  else strS I n (k + 1) (w ++ [u8 (lk I n k)])
termination_by n + 1 - k
decreasing_by all_goals (have := lk_in (I := I) (n := n) (k := k) (by omega); omega)
/-- a text at a place: the place behind it, what it says -/
def str (I : Nat → Nat) (n p : Nat) : Option (Nat × List UInt8) := if lk I n p = 34 then (strS I n (p + 1) []).map (fun r => (r.1 + 1, r.2)) else none
/-- the reference: what was said -/
def Said (τ : TT) (w : List UInt8) : Prop := tI τ 57 = (w.length : Int) ∧ ∀ j, j < w.length → tA τ 56 j = ((w.getD j 0).toNat : Int)
section JT
variable {I : Nat → Nat} {n k p : Nat} {τ : TT} {σ : ST} {a b ra wa : Nat}
theorem m_isDigit_eq {x : Int} (hx : rg x) : m_isDigit x = some (if (x < 48) ∨ (57 < x) then 0 else 1) := by
  unfold m_isDigit
  rw [gd_pos hx]
  split <;> rfl
theorem m_four_L (h : TIn τ I n) : ∀ (m f k j : Nat) (v : Int), m + j = 4 → m < f → k + m < 90000 → m_fourDigits_L4 ((k : Int) - (j : Int)) τ f v (j : Int) = some (hx I n m k v)
  | 0, f, k, j, v, hm, hf, hk => by
    obtain ⟨f, rfl⟩ : ∃ g, f = g + 1 := ⟨f - 1, by omega⟩
    rw [m_fourDigits_L4, gd_pos (by omega), if_pos (by omega)]
    rfl
  | m + 1, f, k, j, v, hm, hf, hk => by
    obtain ⟨f, rfl⟩ : ∃ g, f = g + 1 := ⟨f - 1, by omega⟩
    have hr0 := rg_byte (lk_rg (n := n) h.2.2.2 k)
    rw [m_fourDigits_L4, gd_pos (by omega), if_neg (by omega), m_look_eq (p := k) h (by omega) (by omega), bind_some', m_isDigit_eq hr0, bind_some']
    have e : (gd (rg (if (lk I n k < 48) ∨ (57 < lk I n k) then (0 : Int) else 1)) (if (if (lk I n k < 48) ∨ (57 < lk I n k) then (0 : Int) else 1) = 0 then (gd (rg (lk I n k)) (if (lk I n k < 97) ∨ (102 < lk I n k) then (if (lk I n k < 65) ∨ (70 < lk I n k) then (some ((-1))) else (some (((lk I n k - 65) + 10)))) else (some (((lk I n k - 97) + 10))))) else (some ((lk I n k - 48))))) = some (hxd (lk I n k)) := by
      unfold hxd
      by_cases c1 : (lk I n k < 48) ∨ (57 < lk I n k)
      · rw [if_pos c1, gd_pos (by omega), if_pos rfl, gd_pos hr0, if_pos c1]
        split
        · split
          · rfl
          · congr 1; omega
        · congr 1; omega
      · rw [if_neg c1, gd_pos (by omega), if_neg (by omega), if_neg c1]
    rw [e, bind_some', hx]
    have hr := hxd_rg (lk I n k)
    rw [gd_pos (by omega)]
    by_cases c : hxd (lk I n k) = -1
    · rw [if_pos c, if_pos c]
    · rw [if_neg c, if_neg c, nm_eq, show (k : Int) - (j : Int) = ((k + 1 : Nat) : Int) - ((j + 1 : Nat) : Int) by omega, show (j : Int) + 1 = ((j + 1 : Nat) : Int) by omega]
      exact m_four_L h m f (k + 1) (j + 1) _ (by omega) (by omega) (by omega)
theorem m_four_eq (h : TIn τ I n) {w : Int} (hw : w = (p : Int)) (hp : p < 80000) : m_fourDigits w τ = some (hx I n 4 p 0) := by
  subst hw
  have q := m_four_L h 4 FU p 0 0 (by omega) (FU_gt (by omega)) (by omega)
  unfold m_fourDigits
  simpa using q
theorem m_sayByte_eq {w : List UInt8} (h : Said τ w) (hw : w.length < 1000) {x : Int} (hx : 0 ≤ x ∧ x < 256) : ∃ τ', m_sayByte x τ = some τ' ∧ Said τ' (w ++ [u8 x]) ∧ TF [56, 57] τ τ' := by
  refine ⟨uI (uA τ 56 w.length x) 57 ((w.length : Int) + 1), ?_, ⟨?_, fun j hj => ?_⟩, ((TF.refl _ τ).uA (by decide) _ _).uI (by decide) _⟩
  · unfold m_sayByte
    rw [h.1, gd_pos (by omega), nm_eq, nm_eq, Int.toNat_natCast, tI_uA, h.1]
  · rw [tI_uI, if_pos rfl, List.length_append]; simp
  · rw [tA_uI, tA_uA]
    simp only [List.length_append, List.length_cons, List.length_nil] at hj
    by_cases e : j = w.length
    · subst e
      rw [if_pos ⟨rfl, rfl⟩, List.getD_eq_getElem?_getD, List.getElem?_append_right (Nat.le_refl _)]
      rw [u8_n (k := x.toNat) (by omega) (by omega)]
      simp only [Nat.sub_self, List.getElem?_cons_zero, Option.getD_some]
      rw [tn_of (by omega)]
      omega
    · rw [if_neg (fun q => e q.2), h.2 j (by omega), List.getD_eq_getElem?_getD, List.getD_eq_getElem?_getD, List.getElem?_append_left (by omega)]
theorem m_say_eq {w : List UInt8} (h : Said τ w) {v : Int} (hv : 0 ≤ v ∧ v < 1114112) (hw : w.length + (sayL v).length ≤ 1000) : ∃ τ', m_say v τ = some τ' ∧ Said τ' (w ++ sayL v) ∧ TF [56, 57] τ τ' := by
  have s18 := shr_rg (x := v) (y := 18) (k := 18) (by omega) rfl (by decide)
  have s12 := shr_rg (x := v) (y := 12) (k := 12) (by omega) rfl (by decide)
  have s6 := shr_rg (x := v) (y := 6) (k := 6) (by omega) rfl (by decide)
  have a12 := and63 s12.2
  have a6 := and63 s6.2
  have a0 := and63 (x := v) (by omega)
  have o12 := or_byte (x := 128) (by omega) (y := iAnd (iShr v 12) 63) (by omega)
  have o6 := or_byte (x := 128) (by omega) (y := iAnd (iShr v 6) 63) (by omega)
  have o0 := or_byte (x := 128) (by omega) (y := iAnd v 63) (by omega)
  have s18' := s18.1
  have s12' := s12.1
  have s6' := s6.1
  unfold m_say
  rw [gd_pos (by omega)]
  by_cases c1 : 128 ≤ v
  · by_cases c2 : 2048 ≤ v
    · by_cases c3 : 65536 ≤ v
      · have hs : sayL v = [u8 (iOr 240 (iShr v 18)), u8 (iOr 128 (iAnd (iShr v 12) 63)), u8 (iOr 128 (iAnd (iShr v 6) 63)), u8 (iOr 128 (iAnd v 63))] := by unfold sayL; rw [if_pos c1, if_pos c2, if_pos c3]
        rw [hs] at hw ⊢
        rw [if_pos c1, if_pos c2, if_pos c3]
        simp only [List.length_cons, List.length_nil] at hw
        have t18 := or_byte (x := 240) (by omega) (y := iShr v 18) (by omega)
        obtain ⟨τ1, e1, g1, f1⟩ := m_sayByte_eq h (by omega) t18
        obtain ⟨τ2, e2, g2, f2⟩ := m_sayByte_eq g1 (by simp; omega) o12
        obtain ⟨τ3, e3, g3, f3⟩ := m_sayByte_eq g2 (by simp; omega) o6
        obtain ⟨τ4, e4, g4, f4⟩ := m_sayByte_eq g3 (by simp; omega) o0
        refine ⟨τ4, by rw [e1, bind_some', e2, bind_some', e3, bind_some', e4, bind_some'], by simpa using g4, ((f1.tr f2 (fun _ e => e)).tr f3 (fun _ e => e)).tr f4 (fun _ e => e)⟩
      · have hs : sayL v = [u8 (iOr 224 (iShr v 12)), u8 (iOr 128 (iAnd (iShr v 6) 63)), u8 (iOr 128 (iAnd v 63))] := by unfold sayL; rw [if_pos c1, if_pos c2, if_neg c3]
        rw [hs] at hw ⊢
        rw [if_pos c1, if_pos c2, if_neg c3]
        simp only [List.length_cons, List.length_nil] at hw
        have t12 := or_byte (x := 224) (by omega) (y := iShr v 12) (by omega)
        obtain ⟨τ1, e1, g1, f1⟩ := m_sayByte_eq h (by omega) t12
        obtain ⟨τ2, e2, g2, f2⟩ := m_sayByte_eq g1 (by simp; omega) o6
        obtain ⟨τ3, e3, g3, f3⟩ := m_sayByte_eq g2 (by simp; omega) o0
        refine ⟨τ3, by rw [e1, bind_some', e2, bind_some', e3, bind_some'], by simpa using g3, (f1.tr f2 (fun _ e => e)).tr f3 (fun _ e => e)⟩
    · have hs : sayL v = [u8 (iOr 192 (iShr v 6)), u8 (iOr 128 (iAnd v 63))] := by unfold sayL; rw [if_pos c1, if_neg c2]
      rw [hs] at hw ⊢
      rw [if_pos c1, if_neg c2]
      simp only [List.length_cons, List.length_nil] at hw
      have t6 := or_byte (x := 192) (by omega) (y := iShr v 6) (by omega)
      obtain ⟨τ1, e1, g1, f1⟩ := m_sayByte_eq h (by omega) t6
      obtain ⟨τ2, e2, g2, f2⟩ := m_sayByte_eq g1 (by simp; omega) o0
      refine ⟨τ2, by rw [e1, bind_some', e2, bind_some'], by simpa using g2, f1.tr f2 (fun _ e => e)⟩
  · have hs : sayL v = [u8 v] := by unfold sayL; rw [if_neg c1]
    rw [hs] at hw ⊢
    rw [if_neg c1]
    simp only [List.length_cons, List.length_nil] at hw
    obtain ⟨τ1, e1, g1, f1⟩ := m_sayByte_eq h (by omega) (x := v) (by omega)
    exact ⟨τ1, by rw [e1, bind_some'], g1, f1⟩
theorem TIn.tr {l : List Nat} {τ' : TT} (h : TIn τ I n) (f : TF l τ τ') (h5 : 5 ∉ l) (h2 : 2 ∉ l) : TIn τ' I n := ⟨by rw [(f 5 h5).1]; exact h.1, h.2.1, fun k hk => by rw [(f 2 h2).2.2]; exact h.2.2.1 k hk, h.2.2.2⟩
/-- the loop of the reference's text -/
theorem m_string_L : ∀ (m f k : Nat) (w : List UInt8) (τ : TT), TIn τ I n → Said τ w → n + 1 - k ≤ m → m < f → k < 10000 → w.length ≤ k → ∃ τ', TF [56, 57] τ τ' ∧ (match strS I n k w with | some r => m_string_L21 f (k : Int) τ = some (Sum.inr ((r.1 : Int), τ')) ∧ Said τ' r.2 | none => m_string_L21 f (k : Int) τ = some (Sum.inl (-1, τ'))) := by
  intro m
  induction m with
  | zero =>
    intro f k w τ hT hS h1 h2 h3 h4
    obtain ⟨f, rfl⟩ : ∃ g, f = g + 1 := ⟨f - 1, by omega⟩
    refine ⟨τ, TF.refl _ _, ?_⟩
    rw [strS, dif_pos (by rw [lk_ge (by omega)]; decide)]
    show m_string_L21 _ _ _ = _
    rw [m_string_L21, m_look_eq hT rfl (by omega), bind_some', lk_ge (by omega)]
    rfl
  | succ m ih =>
    intro f k w τ hT hS h1 h2 h3 h4
    obtain ⟨f, rfl⟩ : ∃ g, f = g + 1 := ⟨f - 1, by omega⟩
    have hn := hT.2.1
    have hxx := rg_byte (lk_rg (n := n) hT.2.2.2 k)
    have hx0 := lk_rg (n := n) hT.2.2.2 k
    rw [strS, m_string_L21, m_look_eq hT rfl (by omega), bind_some', gd_pos hxx]
    by_cases c0 : lk I n k < 32
    · rw [dif_pos c0]
      refine ⟨τ, TF.refl _ _, ?_⟩
      show _ = _
      rw [if_neg (by omega), bind_some', gd_pos hxx, if_neg (by omega)]
    · rw [dif_neg c0]
      have hk := lk_in (I := I) (n := n) (k := k) (by omega)
      by_cases c1 : lk I n k = 34
      · rw [if_pos c1, if_pos c1]
        exact ⟨τ, TF.refl _ _, rfl, hS⟩
      · rw [if_neg c1, if_neg c1, bind_some', gd_pos hxx, if_pos (show 32 ≤ lk I n k by omega)]
        by_cases c2 : lk I n k = 92
        · rw [if_pos c2, if_pos c2, m_look_eq (p := k + 1) hT (by omega) (by omega), bind_some']
          have hx1 := rg_byte (lk_rg (n := n) hT.2.2.2 (k + 1))
          have he := escv_rg (lk I n (k + 1))
          have e0 : (gd (rg (lk I n (k + 1))) (if lk I n (k + 1) = 98 then (some 8) else (if lk I n (k + 1) = 102 then (some 12) else (if lk I n (k + 1) = 110 then (some 10) else (if lk I n (k + 1) = 114 then (some 13) else (if lk I n (k + 1) = 116 then (some 9) else (if ((lk I n (k + 1) = 34) ∨ (lk I n (k + 1) = 92)) ∨ (lk I n (k + 1) = 47) then (some (lk I n (k + 1))) else (some (((-1)))))))))) : Option Int) = some (escv (lk I n (k + 1))) := by
            rw [gd_pos hx1]
            unfold escv
            repeat' split
            all_goals rfl
          rw [e0, bind_some', gd_pos hx1]
          by_cases c3 : lk I n (k + 1) = 117
          · rw [if_pos c3, if_pos c3, m_four_eq (p := k + 2) hT (by omega) (by omega), bind_some']
            have h4r := hx4_rg I n (k + 2)
            rw [gd_pos (by omega)]
            by_cases c4 : hx I n 4 (k + 2) 0 < 55296 ∨ 56320 ≤ hx I n 4 (k + 2) 0
            · rw [if_pos c4, if_pos c4]
              by_cases c5 : hx I n 4 (k + 2) 0 < 56320 ∨ 57344 ≤ hx I n 4 (k + 2) 0
              · rw [if_pos c5, if_pos c5, bind_some', elim_r, gd_pos (by show rg (hx I n 4 (k + 2) 0); omega)]
                by_cases c6 : hx I n 4 (k + 2) 0 = -1
                · rw [if_pos c6]
                  exact ⟨τ, TF.refl _ _, by show (if hx I n 4 (k + 2) 0 = -1 then _ else _) = _; rw [if_pos c6]⟩
                · rw [if_neg c6]
                  have hl := (sayL_len (hx I n 4 (k + 2) 0)).2.1 (by omega)
                  obtain ⟨τ1, e1, g1, f1⟩ := m_say_eq hS (v := hx I n 4 (k + 2) 0) (by omega) (by omega)
                  obtain ⟨τ2, f2, g2⟩ := ih f (k + 6) _ τ1 (hT.tr f1 (by decide) (by decide)) g1 (by omega) (by omega) (by omega) (by rw [List.length_append]; omega)
                  refine ⟨τ2, f1.tr f2 (fun _ e => e), ?_⟩
                  have e2 : (if ((k : Int) + 2 + 4, hx I n 4 (k + 2) 0).2 = -1 then some (Sum.inl (-1, τ)) else Option.bind (m_say ((k : Int) + 2 + 4, hx I n 4 (k + 2) 0).2 τ) fun y41 => m_string_L21 f ((k : Int) + 2 + 4, hx I n 4 (k + 2) 0).1 y41) = m_string_L21 f ((k + 6 : Nat) : Int) τ1 := by
                    rw [if_neg c6]
                    show Option.bind (m_say (hx I n 4 (k + 2) 0) τ) _ = _
                    rw [e1, bind_some', show ((k : Int) + 2 + 4) = ((k + 6 : Nat) : Int) by omega]
                  rw [e2]
                  exact g2
              · rw [if_neg c5, if_neg c5, bind_some', elim_l]
                exact ⟨τ, TF.refl _ _, rfl⟩
            · rw [if_neg c4, if_neg c4, m_look_eq (p := k + 6) hT (by omega) (by omega), bind_some']
              have hx6 := rg_byte (lk_rg (n := n) hT.2.2.2 (k + 6))
              have hx7 := rg_byte (lk_rg (n := n) hT.2.2.2 (k + 7))
              have h8r := hx4_rg I n (k + 8)
              rw [m_look_eq (p := k + 7) hT (by omega) (by omega), gd_pos hx6, gd_pos (by exact fun _ => rfl), gd_pos (by exact fun _ => by rw [vv_s]; exact hx7), vv_s]
              by_cases c5 : lk I n (k + 6) = 92 ∧ lk I n (k + 7) = 117
              · rw [if_pos c5, m_four_eq (p := k + 8) hT (by omega) (by omega), bind_some', bind_some', gd_pos (by omega)]
                by_cases c6 : 56320 ≤ hx I n 4 (k + 8) 0 ∧ hx I n 4 (k + 8) 0 < 57344
                · rw [if_pos ⟨c5.1, c5.2, c6⟩, if_neg (by omega), nm_eq, bind_some', elim_r]
                  have hp := pair_rg (v := hx I n 4 (k + 2) 0) (w := hx I n 4 (k + 8) 0) (by omega) c6
                  have hl := (sayL_len (pair (hx I n 4 (k + 2) 0) (hx I n 4 (k + 8) 0))).1
                  obtain ⟨τ1, e1, g1, f1⟩ := m_say_eq hS (v := pair (hx I n 4 (k + 2) 0) (hx I n 4 (k + 8) 0)) (by omega) (by omega)
                  obtain ⟨τ2, f2, g2⟩ := ih f (k + 12) _ τ1 (hT.tr f1 (by decide) (by decide)) g1 (by omega) (by omega) (by omega) (by rw [List.length_append]; omega)
                  refine ⟨τ2, f1.tr f2 (fun _ e => e), ?_⟩
                  have e2 : (gd (rg (pair (hx I n 4 (k + 2) 0) (hx I n 4 (k + 8) 0))) (if pair (hx I n 4 (k + 2) 0) (hx I n 4 (k + 8) 0) = -1 then some (Sum.inl (-1, τ)) else Option.bind (m_say (pair (hx I n 4 (k + 2) 0) (hx I n 4 (k + 8) 0)) τ) fun y41 => m_string_L21 f ((k : Int) + 2 + 4 + 6) y41)) = m_string_L21 f ((k + 12 : Nat) : Int) τ1 := by
                    rw [gd_pos (by omega), if_neg (by omega), e1, bind_some', show ((k : Int) + 2 + 4 + 6) = ((k + 12 : Nat) : Int) by omega]
                  have e3 : ∀ X : Option ((Int × TT) ⊕ (Int × TT)), X = m_string_L21 f ((k + 12 : Nat) : Int) τ1 → (match strS I n (k + 12) (w ++ sayL (pair (hx I n 4 (k + 2) 0) (hx I n 4 (k + 8) 0))) with | some r => X = some (Sum.inr ((r.1 : Int), τ2)) ∧ Said τ2 r.2 | none => X = some (Sum.inl (-1, τ2))) := fun X hX => by rw [hX]; exact g2
                  exact e3 _ e2
                · rw [if_neg (fun q => c6 q.2.2), if_pos (by omega), bind_some', elim_l]
                  exact ⟨τ, TF.refl _ _, rfl⟩
              · rw [if_neg c5, if_neg (fun q => c5 ⟨q.1, q.2.1⟩), bind_some', gd_pos (by omega), if_pos (by omega), bind_some', elim_l]
                exact ⟨τ, TF.refl _ _, rfl⟩
          · rw [if_neg c3, if_neg c3, bind_some', elim_r]
            by_cases c4 : escv (lk I n (k + 1)) = -1
            · rw [if_pos c4]
              refine ⟨τ, TF.refl _ _, ?_⟩
              show gd (rg (escv (lk I n (k + 1)))) (if escv (lk I n (k + 1)) = -1 then _ else _) = _
              rw [gd_pos (by omega), if_pos c4]
            · rw [if_neg c4]
              have hl := (sayL_len (escv (lk I n (k + 1)))).2.2.1 (by omega)
              have hk1 := escv_in c4
              obtain ⟨τ1, e1, g1, f1⟩ := m_say_eq hS (v := escv (lk I n (k + 1))) (by omega) (by omega)
              obtain ⟨τ2, f2, g2⟩ := ih f (k + 2) _ τ1 (hT.tr f1 (by decide) (by decide)) g1 (by omega) (by omega) (by omega) (by rw [List.length_append]; omega)
              refine ⟨τ2, f1.tr f2 (fun _ e => e), ?_⟩
              have e2 : (gd (rg (escv (lk I n (k + 1)))) (if escv (lk I n (k + 1)) = -1 then some (Sum.inl (-1, τ)) else Option.bind (m_say (escv (lk I n (k + 1))) τ) fun y41 => m_string_L21 f ((k : Int) + 2) y41)) = m_string_L21 f ((k + 2 : Nat) : Int) τ1 := by
                rw [gd_pos (by omega), if_neg c4, e1, bind_some', show ((k : Int) + 2) = ((k + 2 : Nat) : Int) by omega]
              have e3 : ∀ X : Option ((Int × TT) ⊕ (Int × TT)), X = m_string_L21 f ((k + 2 : Nat) : Int) τ1 → (match strS I n (k + 2) (w ++ sayL (escv (lk I n (k + 1)))) with | some r => X = some (Sum.inr ((r.1 : Int), τ2)) ∧ Said τ2 r.2 | none => X = some (Sum.inl (-1, τ2))) := fun X hX => by rw [hX]; exact g2
              exact e3 _ e2
        · rw [if_neg c2, if_neg c2]
          obtain ⟨τ1, e1, g1, f1⟩ := m_sayByte_eq hS (by omega) (x := lk I n k) (by omega)
          obtain ⟨τ2, f2, g2⟩ := ih f (k + 1) _ τ1 (hT.tr f1 (by decide) (by decide)) g1 (by omega) (by omega) (by omega) (by rw [List.length_append]; simp; omega)
          refine ⟨τ2, f1.tr f2 (fun _ e => e), ?_⟩
          rw [e1, bind_some', show (k : Int) + 1 = ((k + 1 : Nat) : Int) by omega]
          exact g2
theorem m_string_eq (hT : TIn τ I n) {w : Int} (hw : w = (p : Int)) (hp : p < 9000) : ∃ τ', TF [56, 57] τ τ' ∧ (match str I n p with | some r => m_string w τ = some ((r.1 : Int), τ') ∧ Said τ' r.2 | none => m_string w τ = some (-1, τ')) := by
  subst hw
  have hxx := rg_byte (lk_rg (n := n) hT.2.2.2 p)
  have hn := hT.2.1
  unfold m_string str
  rw [m_look_eq hT rfl (by omega), bind_some', gd_pos hxx]
  by_cases c : lk I n p = 34
  · rw [if_pos c, if_pos c, nm_eq, nm_eq]
    have f0 : TF [56, 57] τ (uI τ 57 0) := (TF.refl _ τ).uI (by decide) _
    obtain ⟨τ', f1, g⟩ := m_string_L (I := I) (n := n) _ FU (p + 1) [] (uI τ 57 0) (hT.tr f0 (by decide) (by decide)) ⟨by rw [tI_uI, if_pos rfl]; rfl, fun j hj => absurd hj (by simp)⟩ (Nat.le_refl _) (FU_gt (by omega)) (by omega) (by simp)
    refine ⟨τ', f0.tr f1 (fun _ e => e), ?_⟩
    rw [show (p : Int) + 1 = ((p + 1 : Nat) : Int) by omega]
    cases e : strS I n (p + 1) [] with
    | none =>
      rw [e] at g
      simp only [Option.map_none]
      rw [g, bind_some', elim_l]
    | some r =>
      rw [e] at g
      simp only [Option.map_some]
      rw [g.1, bind_some', elim_r]
      exact ⟨by show some _ = some _; congr 1, g.2⟩
  · rw [if_neg c, if_neg c]
    exact ⟨τ, TF.refl _ _, rfl⟩
end JT
