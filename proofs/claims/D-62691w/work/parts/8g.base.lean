set_option maxRecDepth 100000
/-! BASE64 -/
def six (c : Int) : Int := if (c < 65) ∨ (90 < c) then (if (c < 97) ∨ (122 < c) then (if (c < 48) ∨ (57 < c) then (if (c = 43) ∨ (c = 45) then 62 else (if (c = 47) ∨ (c = 95) then 63 else -1)) else (c - 48) + 52) else (c - 97) + 26) else c - 65
theorem six_rg (c : Int) : -1 ≤ six c ∧ six c < 64 := by
  unfold six
  repeat' split
  all_goals omega
theorem b64_value_eq {x : Int} (hx : rg x) : b64_value x = some (six x) := by
  unfold b64_value six
  rw [gd_pos hx]
  repeat' split
  all_goals rfl
theorem m_sixOf_eq {x : Int} (hx : rg x) : m_sixOf x = some (six x) := by
  unfold m_sixOf six
  rw [gd_pos hx, m_isDigit_eq hx, bind_some']
  by_cases c1 : (x < 65) ∨ (90 < x)
  · rw [if_pos c1, if_pos c1]
    by_cases c2 : (x < 97) ∨ (122 < x)
    · rw [if_pos c2, if_pos c2]
      by_cases c3 : (x < 48) ∨ (57 < x)
      · rw [if_pos c3, if_pos c3, gd_pos (by omega), if_pos rfl]
        repeat' split
        all_goals rfl
      · rw [if_neg c3, if_neg c3, gd_pos (by omega), if_neg (by omega)]
    · rw [if_neg c2, if_neg c2]
  · rw [if_neg c1, if_neg c1]
/-- the length without the signs at the end -/
def nse (w : List UInt8) : Nat → Nat
  | 0 => 0
  | k + 1 => if wI w k = 61 then nse w k else k + 1
theorem nse_le (w : List UInt8) : ∀ k, nse w k ≤ k
  | 0 => Nat.le_refl _
  | k + 1 => by
    rw [nse]
    split
    · exact Nat.le_trans (nse_le w k) (Nat.le_succ _)
    · exact Nat.le_refl _
/-- c signs from k on; nb bits are left, their value hv; what came out -/
def ubf (w : List UInt8) : Nat → Nat → Nat → Nat → List UInt8 → Option (Nat × List UInt8)
  | 0, _, _, hv, o => some (hv, o)
  | c + 1, k, nb, hv, o => if six (wI w k : Int) = -1 then none else if nb < 2 then ubf w c (k + 1) (nb + 6) (hv * 64 + (six (wI w k : Int)).toNat) o else ubf w c (k + 1) (nb - 2) ((hv * 64 + (six (wI w k : Int)).toNat) % 2 ^ (nb - 2)) (o ++ [UInt8.ofNat ((hv * 64 + (six (wI w k : Int)).toNat) / 2 ^ (nb - 2))])
/-- the bytes of base64 -/
def unb (w : List UInt8) : Option (List UInt8) := if nse w w.length % 4 = 1 ∨ (nse w w.length < w.length ∧ (w.length - nse w w.length > 2 ∨ w.length % 4 ≠ 0)) then none else (ubf w (nse w w.length) 0 0 0 []).bind fun r => if r.1 = 0 then some r.2 else none
theorem q32 {a b : Nat} (ha : a < 2147483648) (hb : b < 2147483648) (h0 : b ≠ 0) : Int32.ofInt (a : Int) / Int32.ofInt (b : Int) = Int32.ofInt ((a / b : Nat) : Int) := by
  apply Int32.toInt_inj.mp
  have hd := Nat.div_le_self a b
  rw [Int32.toInt_div_of_ne_right _ _ (fun e => by
    have := congrArg Int32.toInt e
    rw [rg_to ⟨by omega, by omega⟩, show (-1 : Int32).toInt = -1 from by decide] at this
    omega), rg_to ⟨by omega, by omega⟩, rg_to ⟨by omega, by omega⟩, rg_to ⟨by generalize a / b = z at *; omega, by generalize a / b = z at *; omega⟩]
  exact (Int.ofNat_tdiv a b).symm
theorem iDiv_n {x y : Int} {a b : Nat} (hx : x = (a : Int)) (hy : y = (b : Int)) (ha : a < 2147483648) (hb : b < 2147483648) (h0 : b ≠ 0) : iDiv x y = ((a / b : Nat) : Int) := by
  subst hx hy
  unfold iDiv
  have hd := Nat.div_le_self a b
  rw [q32 ha hb h0]
  exact rg_to ⟨by generalize a / b = z at *; omega, by generalize a / b = z at *; omega⟩
theorem iRem_n {x y : Int} {a b : Nat} (hx : x = (a : Int)) (hy : y = (b : Int)) (ha : a < 2147483648) (hb : b < 2147483648) (h0 : b ≠ 0) : iRem x y = ((a % b : Nat) : Int) := by
  subst hx hy
  unfold iRem
  have hm := Nat.mod_lt a (Nat.pos_of_ne_zero h0)
  have e : (a : Int) - ((a / b : Nat) : Int) * (b : Int) = ((a % b : Nat) : Int) := by
    have := Nat.div_add_mod a b
    have h2 : ((b * (a / b) + a % b : Nat) : Int) = (a : Int) := by rw [this]
    rw [Int.natCast_add, Int.natCast_mul, Int.mul_comm] at h2
    omega
  rw [q32 ha hb h0, ← Int32.ofInt_mul, ← Int32.ofInt_sub, e]
  exact rg_to ⟨by omega, by omega⟩
theorem or6 {hv v : Nat} (h1 : hv < 16777216) (h2 : v < 64) : iOr (iShl (hv : Int) 6) (v : Int) = ((hv * 64 + v : Nat) : Int) := by
  rw [iShl_n (y := 6) (a := hv) (k := 6) rfl rfl (by omega) (by omega), iOr_n (a := hv * 2 ^ 6) (b := v) rfl rfl (by omega) (by omega)]
  have h3 := Nat.shiftLeft_add_eq_or_of_lt (i := 6) (b := v) (by omega) hv
  rw [Nat.shiftLeft_eq] at h3
  rw [← h3]
theorem and_m {x m : Nat} (hm : m < 31) : iAnd (x : Int) ((iShl 1 (m : Int)) - 1) = ((x % 2 ^ m : Nat) : Int) := by
  have hp : 2 ^ m < 2 ^ 31 := Nat.pow_lt_pow_right (by decide) hm
  have hp1 : 0 < 2 ^ m := Nat.pow_pos (by decide)
  rw [iShl_n (x := 1) (a := 1) (k := m) rfl rfl (by omega) (by omega), iAnd_n (a := x) (b := 2 ^ m - 1) rfl (by omega) (by omega), Nat.and_two_pow_sub_one_eq_mod]
theorem ubf_rg {w : List UInt8} : ∀ (c k nb hv : Nat) (o : List UInt8) (r : Nat × List UInt8), (nb = 0 ∨ nb = 2 ∨ nb = 4 ∨ nb = 6) → hv < 2 ^ nb → ubf w c k nb hv o = some r → r.1 < 64
  | 0, k, nb, hv, o, r, h3, h4, h => by
    cases h
    show hv < 64
    rcases h3 with e | e | e | e <;> rw [e] at h4 <;> omega
  | c + 1, k, nb, hv, o, r, h3, h4, h => by
    have hs := six_rg (wI w k : Int)
    rw [ubf] at h
    split at h
    · cases h
    · split at h
      · have hnb : nb = 0 := by omega
        exact ubf_rg c (k + 1) (nb + 6) _ o r (by omega) (by rw [hnb] at h4 ⊢; omega) h
      · exact ubf_rg c (k + 1) (nb - 2) _ _ r (by omega) (Nat.mod_lt _ (Nat.pow_pos (by decide))) h
def stB (r : (Option Nat × ST) ⊕ (Int × ST)) : ST := Sum.elim (·.2) (·.2) r
section B6
variable {σ : ST} {ra : Nat} {w : List UInt8} {τ : TT}
theorem b64_L5 (bb : Nat × Nat) (ha : sc σ ra = 4) (hw : sW σ ra = w) (hl : w.length ≤ 1000) : ∀ (k f : Nat), k < f → k ≤ w.length → b64_read_L5 bb (some ra) σ f (k : Int) = some ((nse w k : Nat) : Int)
  | 0, f, h1, h2 => by
    obtain ⟨f, rfl⟩ : ∃ g, f = g + 1 := ⟨f - 1, by omega⟩
    rw [b64_read_L5, gd_pos (by omega), gd_pos (by exact fun q => absurd (by omega) q), gd_pos (by exact fun q => absurd (by omega) q), gd_pos (by exact fun q => absurd (by omega) q), gd_pos (by exact fun q => absurd (by omega) q), if_pos (Or.inl (by omega))]
    rfl
  | k + 1, f, h1, h2 => by
    obtain ⟨f, rfl⟩ : ∃ g, f = g + 1 := ⟨f - 1, by omega⟩
    rw [b64_read_L5, show ad (some ra) = ra from rfl, row_at_eq (k := k) ha (by omega) (by omega), hw, gd_pos (by omega), gd_pos (by exact fun _ => by simp), gd_pos (by exact fun _ => ha), gd_pos (by exact fun _ => rfl), gd_pos (by exact fun _ => by rw [vv_s]; exact rg_byte (lk_rg (wI_lt w) k)), vv_s, lk_lt (by omega), nse]
    by_cases c : wI w k = 61
    · rw [if_pos c, if_neg (by omega), show ((k + 1 : Nat) : Int) + -1 = (k : Int) by omega]
      exact b64_L5 bb ha hw hl k f (by omega) (by omega)
    · rw [if_neg c, if_pos (by omega)]
theorem b64_L78 {σ0 : ST} {z : Nat} (ha : sc σ0 ra = 4) (hw : sW σ0 ra = w) (hl : w.length ≤ 1000) (hz : ra ≠ z) (hlt : ra < sZ σ0) (hz0 : sW σ0 z = []) {N : Nat} (hN : N ≤ w.length) : ∀ (c f k nb hv : Nat) (o : List UInt8) (σ : ST), k + c = N → c < f → (nb = 0 ∨ nb = 2 ∨ nb = 4 ∨ nb = 6) → hv < 2 ^ nb → o.length ≤ k → RA σ0 z o σ → Rn stB σ (fun bb => b64_read_L78 bb (some ra) (N : Int) z f (nb : Int) (hv : Int) (k : Int) σ) (fun y => match ubf w c k nb hv o with | some r => ∃ σ', y = Sum.inr ((r.1 : Int), σ') ∧ RA σ0 z r.2 σ' ∧ r.2.length ≤ 1000 | none => ∃ σ' o', y = Sum.inl (none, σ') ∧ RA σ0 z o' σ' ∧ o'.length ≤ 1000)
  | 0, f, k, nb, hv, o, σ, h1, h2, h3, h4, h5, hR => by
    obtain ⟨f, rfl⟩ : ∃ g, f = g + 1 := ⟨f - 1, by omega⟩
    refine Rn_eq (fun bb => by rw [b64_read_L78, gd_pos (by omega), gd_pos (by omega), if_pos (by omega)]) (Rn_some (Le.refl _) ?_)
    rw [ubf]
    exact ⟨σ, rfl, hR, by simp only; omega⟩
  | c + 1, f, k, nb, hv, o, σ, h1, h2, h3, h4, h5, hR => by
    obtain ⟨f, rfl⟩ : ∃ g, f = g + 1 := ⟨f - 1, by omega⟩
    have hsr : sc σ ra = 4 := by rw [hR.2.2.1]; exact ha
    have hwr : sW σ ra = w := by rw [((hR.2.1.2 ra hlt).2 hz).1]; exact hw
    have hsz : sc σ z = 4 := hR.rw.1
    have hoz : (sW σ z).length = o.length := by rw [hR.1, hz0]; simp
    have hr := lk_rg (n := w.length) (wI_lt w) k
    have hs := six_rg (wI w k : Int)
    have h64 : hv < 64 := by
      rcases h3 with e | e | e | e <;> rw [e] at h4 <;> omega
    refine Rn_eq (fun bb => by rw [b64_read_L78, gd_pos (by omega), gd_pos (by omega), if_neg (by omega), bind_some', gd_pos hsr, row_at_eq hsr rfl (by omega), hwr, lk_lt (by omega), bind_some', b64_value_eq (by have := wI_lt w k; omega), bind_some', gd_pos (by omega)]) ?_
    rw [ubf]
    by_cases q : six (wI w k : Int) = -1
    · rw [if_pos q]
      refine Rn_neg (by omega) (Rn_some (Le.refl _) ⟨σ, o, rfl, hR, by omega⟩)
    · rw [if_neg q]
      refine Rn_pos (by omega) ?_
      have ex : iOr (iShl (hv : Int) 6) (six (wI w k : Int)) = ((hv * 64 + (six (wI w k : Int)).toNat : Nat) : Int) := by
        have := or6 (hv := hv) (v := (six (wI w k : Int)).toNat) (by omega) (by omega)
        rw [show (((six (wI w k : Int)).toNat : Nat) : Int) = six (wI w k : Int) by omega] at this
        exact this
      refine Rn_eq (fun bb => by rw [nm_eq, ex, gd_pos (by omega)]) ?_
      have hx : ∃ x, x = hv * 64 + (six (wI w k : Int)).toNat := ⟨_, rfl⟩
      obtain ⟨x, hx⟩ := hx
      rw [← hx]
      have hx12 : x < 4096 := by omega
      by_cases d : nb < 2
      · rw [if_pos d]
        have hnb : nb = 0 := by omega
        refine Rn_eq (fun bb => by rw [if_neg (by omega), bind_some', show (nb : Int) + 6 = ((nb + 6 : Nat) : Int) by omega, show (k : Int) + 1 = ((k + 1 : Nat) : Int) by omega]) ?_
        exact b64_L78 ha hw hl hz hlt hz0 hN c f (k + 1) (nb + 6) x o σ (by omega) (by omega) (by omega) (by rw [hnb] at h4 ⊢; omega) (by omega) hR
      · rw [if_neg d]
        have eShr : iShr (x : Int) ((nb : Int) + 6 + -8) = ((x / 2 ^ (nb - 2) : Nat) : Int) := iShr_n rfl (by omega) (by omega) (by omega)
        have eAnd : iAnd (x : Int) ((iShl 1 ((nb : Int) + 6 + -8)) - 1) = ((x % 2 ^ (nb - 2) : Nat) : Int) := by
          rw [show (nb : Int) + 6 + -8 = ((nb - 2 : Nat) : Int) by omega]; exact and_m (by omega)
        have hb : x / 2 ^ (nb - 2) < 256 := by
          rcases h3 with e | e | e | e
          · omega
          · rw [e] at h4 ⊢; omega
          · rw [e] at h4 ⊢; omega
          · rw [e] at h4 ⊢; omega
        have hm : x % 2 ^ (nb - 2) < 2 ^ (nb - 2) := Nat.mod_lt _ (Nat.pow_pos (by decide))
        refine Rn_bind (su := fun y => y.2.2) (J := fun y => ∃ σ', y = (((nb - 2 : Nat) : Int), ((x % 2 ^ (nb - 2) : Nat) : Int), σ') ∧ RA σ0 z (o ++ [UInt8.ofNat (x / 2 ^ (nb - 2))]) σ') ?_ (fun y _ hy => ?_)
        · refine Rn_pos (by omega) ?_
          refine Rn_gd hsz ?_
          refine Rn_bind (rn_add hR.rw (by omega) _) (fun σ1 _ g1 => ?_)
          refine Rn_eq (fun bb => by rw [nm_eq, eAnd]) (Rn_some (Le.refl _) ⟨σ1, ?_, ?_⟩)
          · rw [show (nb : Int) + 6 + -8 = ((nb - 2 : Nat) : Int) by omega]
          · rw [eShr, u8_n rfl hb] at g1
            exact hR.tr g1
        · obtain ⟨σ1, q1, q2⟩ := hy
          subst q1
          refine Rn_eq (fun bb => by rw [show (k : Int) + 1 = ((k + 1 : Nat) : Int) by omega]) ?_
          exact b64_L78 ha hw hl hz hlt hz0 hN c f (k + 1) (nb - 2) _ _ σ1 (by omega) (by omega) (by omega) hm (by rw [List.length_append]; simp; omega) q2
theorem rn_unb (ha : RW σ ra) (hw : sW σ ra = w) (hl : w.length ≤ 1000) (hlt : ra < sZ σ) : Rn (·.2) σ (fun bb => b64_read bb (some ra) σ) (fun r => match unb w with | some o => ∃ σ', r = (some (sZ σ), σ') ∧ RA (nW σ) (sZ σ) o σ' ∧ o.length ≤ 1000 | none => ∃ σ', r = (none, σ') ∧ (σ' = σ ∨ ∃ o, RA (nW σ) (sZ σ) o σ' ∧ o.length ≤ 1000)) := by
  have hn := nse_le w w.length
  unfold b64_read
  refine Rn_eq (fun bb => by rw [bind_some', gd_pos ha.1, nm_eq, hw, b64_L5 bb ha.1 hw hl w.length FU (FU_gt (by omega)) (Nat.le_refl _), bind_some', nm_eq, iRem_n (y := 4) (a := nse w w.length) (b := 4) rfl rfl (by omega) (by omega) (by omega), iRem_n (y := 4) (a := w.length) (b := 4) rfl rfl (by omega) (by omega) (by omega)]) ?_
  unfold unb
  by_cases c1 : nse w w.length % 4 = 1
  · rw [if_pos (Or.inl c1)]
    refine Rn_pos (by omega) (Rn_some (Le.refl _) ⟨σ, rfl, Or.inl rfl⟩)
  · refine Rn_neg (by omega) ?_
    by_cases c2 : nse w w.length < w.length ∧ (w.length - nse w w.length > 2 ∨ w.length % 4 ≠ 0)
    · rw [if_pos (Or.inr c2)]
      refine Rn_eq (fun bb => by rw [gd_pos (by omega), if_neg (by omega), if_pos (by omega), bind_some', elim_l]) (Rn_some (Le.refl _) ⟨σ, rfl, Or.inl rfl⟩)
    · rw [if_neg (show ¬ (nse w w.length % 4 = 1 ∨ (nse w w.length < w.length ∧ (w.length - nse w w.length > 2 ∨ w.length % 4 ≠ 0))) by omega)]
      have e : (gd (rg (((w.length : Nat) : Int) - ((nse w w.length : Nat) : Int))) (if ((w.length : Nat) : Int) - ((nse w w.length : Nat) : Int) ≤ 0 then (some (Sum.inr (()))) else (if (2 < ((w.length : Nat) : Int) - ((nse w w.length : Nat) : Int)) ∨ (¬ (((w.length % 4 : Nat) : Int) = 0)) then (some (Sum.inl ((none, σ)))) else (some (Sum.inr (()))))) : Option ((Option Nat × ST) ⊕ Unit)) = some (Sum.inr ()) := by
        rw [gd_pos (by omega)]
        by_cases d : ((w.length : Nat) : Int) - ((nse w w.length : Nat) : Int) ≤ 0
        · rw [if_pos d]
        · rw [if_neg d, if_neg (by omega)]
      refine Rn_eq (fun bb => by rw [e, bind_some', elim_r]) ?_
      refine Rn_rm (σ1 := nW σ) (Nat.le_refl _) (Nat.le_refl _) (Nat.le_succ _) ?_
      refine Rn_eq (fun bb => by rw [nm_eq]) ?_
      have hz : ra ≠ sZ σ := by omega
      have hRW : RW (nW σ) (sZ σ) := ⟨by rw [sc_nW_, if_pos rfl], by rw [sW_nW_, if_pos rfl]; exact Nat.zero_le _, Or.inl (by rw [sN_nW_, if_pos rfl])⟩
      refine Rn_bind (su := stB) (b64_L78 (σ0 := nW σ) (z := sZ σ) (ra := ra) (by rw [sc_nW_, if_neg hz]; exact ha.1) (by rw [sW_nW_, if_neg hz]; exact hw) hl hz (by rw [sZ_nW_]; omega) (by rw [sW_nW_, if_pos rfl]) (N := nse w w.length) hn (nse w w.length) FU 0 0 0 [] (nW σ) (by omega) (FU_gt (by omega)) (Or.inl rfl) (by decide) (by simp) (RA.nil hRW)) (fun y _ hy => ?_)
      cases eu : ubf w (nse w w.length) 0 0 0 [] with
      | none =>
        rw [eu] at hy
        obtain ⟨σ', o', q1, q2, q3⟩ := hy
        subst q1
        exact Rn_eq (fun bb => by rw [elim_l]) (Rn_some (Le.refl _) ⟨σ', rfl, Or.inr ⟨o', q2, q3⟩⟩)
      | some r =>
        rw [eu] at hy
        obtain ⟨σ', q1, q2, q3⟩ := hy
        subst q1
        refine Rn_eq (fun bb => by rw [elim_r]) ?_
        have hrv : r.1 < 64 := ubf_rg _ _ _ _ _ _ (Or.inl rfl) (by decide) eu
        refine Rn_gd (by show rg (r.1 : Int); omega) ?_
        show Rn _ _ _ (fun x => match (if r.1 = 0 then some r.2 else none) with | some o => _ | none => _)
        by_cases d : r.1 = 0
        · rw [if_pos d]
          exact Rn_pos (by show (r.1 : Int) = 0; omega) (Rn_some (Le.refl _) ⟨σ', rfl, q2, q3⟩)
        · rw [if_neg d]
          exact Rn_neg (by show ¬ (r.1 : Int) = 0; omega) (Rn_some (Le.refl _) ⟨σ', rfl, Or.inr ⟨r.2, q2, q3⟩⟩)
end B6
