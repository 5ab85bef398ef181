set_option maxRecDepth 100000
/-! JSON, WRITTEN: texts and bytes, both sides -/
/-- the bytes of a string constant -/
def sxB (s : Nat) : List UInt8 := (sx s).map (fun c => u8 ((c : Nat) : Int))
theorem sxB_len (s : Nat) : (sxB s).length = slen s := by unfold sxB; rw [List.length_map]; rfl
theorem sxB_at {s i : Nat} (h : i < slen s) : (sxB s).drop i = u8 ((sch s i : Nat) : Int) :: (sxB s).drop (i + 1) := by
  have h' : i < (sxB s).length := by rw [sxB_len]; exact h
  have hx : i < (sx s).length := h
  have e : (sxB s).getD i 0 = u8 ((sch s i : Nat) : Int) := by
    unfold sxB sch
    rw [List.getD_eq_getElem?_getD, List.getElem?_map, List.getD_eq_getElem?_getD, List.getElem?_eq_getElem hx]; rfl
  rw [drop_cons h', e]
def hxB (k : Nat) : UInt8 := u8 ((sch 1 k : Nat) : Int)
def escB (b : UInt8) : List UInt8 := if b.toNat = 34 ∨ b.toNat = 92 then [92, b] else if 32 ≤ b.toNat then [b] else if b.toNat = 8 then [92, 98] else if b.toNat = 9 then [92, 116] else if b.toNat = 10 then [92, 110] else if b.toNat = 12 then [92, 102] else if b.toNat = 13 then [92, 114] else [92, 117, 48, 48, hxB (b.toNat / 16), hxB (b.toNat % 16)]
def escT (w : List UInt8) : List UInt8 := 34 :: (w.flatMap escB ++ [34])
theorem escB_len (b : UInt8) : (escB b).length ≤ 6 := by
  unfold escB
  repeat' split
  all_goals simp
theorem escT_len (w : List UInt8) : (escT w).length ≤ 6 * w.length + 2 := by
  have h : ∀ w : List UInt8, (w.flatMap escB).length ≤ 6 * w.length := by
    intro w
    induction w with
    | nil => simp
    | cons b w ih =>
      have := escB_len b
      rw [List.flatMap_cons, List.length_append, List.length_cons]; omega
  have := h w
  unfold escT
  rw [List.length_cons, List.length_append]; simp only [List.length_cons, List.length_nil]; omega
section Ts2
variable {σ : ST} {a : Nat}
theorem rn_at (a s : Nat) (hs : slen s ≤ 100) : ∀ (c N i : Nat) (σ : ST), i + c = slen s → c < N → RW σ a → (sW σ a).length + c ≤ 7999999 → Rn id σ (fun bb => row_addText_L2 bb a s N (i : Int) σ) (RA σ a ((sxB s).drop i))
  | c, 0, i, σ, _, h, _, _ => by omega
  | 0, N + 1, i, σ, hi, _, hR, _ => by
    rw [List.drop_eq_nil_of_le (by rw [sxB_len]; omega)]
    refine Rn_eq (fun bb => by rw [row_addText_L2, gd_pos (by omega), if_pos (by omega)]) ?_
    exact Rn_some (Le.refl _) (RA.nil hR)
  | c + 1, N + 1, i, σ, hi, hN, hR, hl => by
    rw [sxB_at (by omega)]
    refine Rn_eq (fun bb => by rw [row_addText_L2, gd_pos (by omega), if_neg (by omega), gd_pos (by omega), gd_pos hR.1, Int.toNat_natCast]) ?_
    refine Rn_bind (rn_add hR (by omega) _) (fun σ1 _ g => ?_)
    have hl1 := g.len
    simp only [List.length_cons, List.length_nil] at hl1
    rw [show (i : Int) + 1 = ((i + 1 : Nat) : Int) by omega]
    refine (rn_at a s hs c N (i + 1) σ1 (by omega) (by omega) g.rw (by show (sW σ1 a).length + c ≤ _; omega)).mono (fun σ2 _ g2 => ?_)
    exact g.tr g2
theorem rn_addT (s : Nat) (hs : slen s ≤ 100) (hR : RW σ a) (hl : (sW σ a).length ≤ 7999000) : Rn id σ (fun bb => row_addText bb a s σ) (RA σ a (sxB s)) := by
  unfold row_addText
  exact rn_at a s hs (slen s) FU 0 σ (by omega) (FU_gt (by omega)) hR (by omega)
theorem rn_control (b : UInt8) (hb : b.toNat < 32) (hR : RW σ a) (hl : (sW σ a).length ≤ 7998000) {x : Int} (hx : x = (b.toNat : Int)) : Rn id σ (fun bb => jw_control bb (some a) x σ) (RA σ a (escB b)) := by
  have e1 : slen 1 = 16 ∧ slen 0 = 3 := by decide +kernel
  have e0 : sxB 0 = [117, 48, 48] := by decide +kernel
  unfold jw_control
  refine Rn_eq (fun bb => by rw [bind_some', gd_pos hR.1]) ?_
  refine Rn_bind (rn_add hR (by omega) 92) (fun σ1 _ g => ?_)
  have hl1 := g.len
  simp only [List.length_cons, List.length_nil] at hl1
  have hl1' : (sW σ1 a).length ≤ 7998001 := by omega
  have r1 := g.rw
  have one : ∀ y : Int, Rn id σ1 (fun bb => gd (sc σ1 a = 4) (Option.bind (r_add bb a y σ1) fun y9 => some y9)) (RA σ a [u8 92, u8 y]) := fun y => by
    refine Rn_gd r1.1 ?_
    exact Rn_bind (rn_add r1 (by omega) y) (fun σ2 _ g2 => Rn_some (Le.refl _) (g.tr g2))
  refine Rn_gd (by omega) ?_
  unfold escB
  rw [if_neg (by omega), if_neg (by omega)]
  by_cases c8 : b.toNat = 8
  · rw [if_pos c8]
    exact Rn_pos (by omega) (one 98)
  · rw [if_neg c8]
    refine Rn_neg (by omega) ?_
    by_cases c9 : b.toNat = 9
    · rw [if_pos c9]
      exact Rn_pos (by omega) (one 116)
    · rw [if_neg c9]
      refine Rn_neg (by omega) ?_
      by_cases c10 : b.toNat = 10
      · rw [if_pos c10]
        exact Rn_pos (by omega) (one 110)
      · rw [if_neg c10]
        refine Rn_neg (by omega) ?_
        by_cases c12 : b.toNat = 12
        · rw [if_pos c12]
          exact Rn_pos (by omega) (one 102)
        · rw [if_neg c12]
          refine Rn_neg (by omega) ?_
          by_cases c13 : b.toNat = 13
          · rw [if_pos c13]
            exact Rn_pos (by omega) (one 114)
          · rw [if_neg c13]
            refine Rn_neg (by omega) ?_
            refine Rn_gd r1.1 ?_
            refine Rn_bind (rn_addT (σ := σ1) 0 (by omega) r1 (by show (sW σ1 a).length ≤ _; omega)) (fun σ2 _ g2 => ?_)
            have hl2 := g2.len
            rw [e0] at hl2 g2
            simp only [List.length_cons, List.length_nil] at hl2
            have s1 : iShr x 4 = ((b.toNat / 16 : Nat) : Int) := iShr_n (y := 4) (a := b.toNat) (k := 4) hx rfl (by omega) (by omega)
            have s2 : iAnd x 15 = ((b.toNat % 16 : Nat) : Int) := by
              rw [iAnd_n (y := 15) (a := b.toNat) (b := 15) hx rfl (by decide)]
              congr 1
              exact Nat.and_two_pow_sub_one_eq_mod _ 4
            refine Rn_eq (fun bb => by rw [s1, gd_pos (by omega), gd_pos g2.rw.1, Int.toNat_natCast]) ?_
            refine Rn_bind (rn_add g2.rw (by show (sW σ2 a).length < _; omega) _) (fun σ3 _ g3 => ?_)
            have hl3 := g3.len
            simp only [List.length_cons, List.length_nil] at hl3
            refine Rn_eq (fun bb => by rw [s2, gd_pos (by omega), gd_pos g3.rw.1, Int.toNat_natCast]) ?_
            refine Rn_bind (rn_add g3.rw (by show (sW σ3 a).length < _; omega) _) (fun σ4 _ g4 => Rn_some (Le.refl _) ?_)
            exact ((g.tr g2).tr g3).tr g4
theorem rn_tL {b : Nat} {w : List UInt8} (hw1 : w.length ≤ 1000) (hab : b ≠ a) : ∀ (c N i : Nat) (σ0 σ : ST) (u : List UInt8), RA σ0 a u σ → b < sZ σ0 → sc σ0 b = 4 → sW σ0 b = w → i + c = w.length → c < N → (sW σ a).length + 6 * c ≤ 7990000 → Rn id σ (fun bb => jw_text_L8 bb (some a) (some b) N (i : Int) σ) (RA σ a ((w.drop i).flatMap escB))
  | c, 0, i, σ0, σ, u, _, _, _, _, _, h, _ => by omega
  | 0, N + 1, i, σ0, σ, u, hA, hb, hb4, hbw, hi, _, hl => by
    have k4 : sc σ b = 4 := by rw [hA.2.2.1]; exact hb4
    have kw : sW σ b = w := by rw [((hA.2.1.2 b hb).2 hab).1]; exact hbw
    rw [List.drop_eq_nil_of_le (by omega)]
    refine Rn_eq (fun bb => by rw [jw_text_L8, bind_some', gd_pos k4, kw, gd_pos (by omega), if_pos (by omega)]) ?_
    exact Rn_some (Le.refl _) (RA.nil hA.rw)
  | c + 1, N + 1, i, σ0, σ, u, hA, hb, hb4, hbw, hi, hN, hl => by
    have k4 : sc σ b = 4 := by rw [hA.2.2.1]; exact hb4
    have kw : sW σ b = w := by rw [((hA.2.1.2 b hb).2 hab).1]; exact hbw
    obtain ⟨x, hx⟩ : ∃ x, x = w.getD i 0 := ⟨_, rfl⟩
    have hx256 : x.toNat < 256 := x.toNat_lt
    have ra : row_at b (i : Int) σ = some (x.toNat : Int) := by
      rw [row_at_eq k4 rfl (by omega), kw, lk_lt (by omega)]
      unfold wI
      rw [← hx]
    rw [drop_cons (by omega), List.flatMap_cons, ← hx]
    have he := escB_len x
    refine Rn_eq (fun bb => by rw [jw_text_L8, bind_some', gd_pos k4, kw, gd_pos (by omega), if_neg (by omega), ra, bind_some', gd_pos (by omega)]) ?_
    refine Rn_bind (su := id) (J := RA σ a (escB x)) ?_ (fun σ1 _ g => ?_)
    · by_cases c1 : x.toNat = 34 ∨ x.toNat = 92
      · have e : escB x = [92, x] := by unfold escB; rw [if_pos c1]
        rw [e]
        refine Rn_pos (by omega) ?_
        refine Rn_eq (fun bb => by rw [bind_some', gd_pos hA.rw.1]) ?_
        refine Rn_bind (rn_add hA.rw (by omega) 92) (fun σ1 _ g => ?_)
        have hl1 := g.len
        simp only [List.length_cons, List.length_nil] at hl1
        refine Rn_gd g.rw.1 ?_
        refine Rn_bind (rn_add g.rw (by show (sW σ1 a).length < _; omega) _) (fun σ2 _ g2 => Rn_some (Le.refl _) ?_)
        rw [u8_b] at g2
        exact g.tr g2
      · refine Rn_neg (by omega) ?_
        by_cases c2 : 32 ≤ x.toNat
        · have e : escB x = [x] := by unfold escB; rw [if_neg c1, if_pos c2]
          rw [e]
          refine Rn_pos (by omega) ?_
          refine Rn_eq (fun bb => by rw [bind_some', gd_pos hA.rw.1]) ?_
          refine Rn_bind (rn_add hA.rw (by omega) _) (fun σ1 _ g => Rn_some (Le.refl _) ?_)
          rw [u8_b] at g
          exact g
        · refine Rn_neg (by omega) ?_
          exact Rn_bind (rn_control x (by omega) hA.rw (by omega) rfl) (fun σ1 _ g => Rn_some (Le.refl _) g)
    · have hl1 := g.len
      rw [show (i : Int) + 1 = ((i + 1 : Nat) : Int) by omega]
      refine (rn_tL hw1 hab c N (i + 1) σ0 σ1 _ (hA.tr g) hb hb4 hbw (by omega) (by omega) (by omega)).mono (fun σ2 _ g2 => ?_)
      exact g.tr g2
theorem rn_text {b : Nat} {w : List UInt8} (hw1 : w.length ≤ 1000) (hab : b ≠ a) (hb : b < sZ σ) (hb4 : sc σ b = 4) (hbw : sW σ b = w) (hR : RW σ a) (hl : (sW σ a).length ≤ 7900000) : Rn id σ (fun bb => jw_text bb (some a) (some b) σ) (RA σ a (escT w)) := by
  unfold jw_text
  refine Rn_eq (fun bb => by rw [bind_some', gd_pos hR.1]) ?_
  refine Rn_bind (rn_add hR (by omega) 34) (fun σ1 _ g => ?_)
  have hl1 := g.len
  simp only [List.length_cons, List.length_nil] at hl1
  refine Rn_bind (rn_tL hw1 hab w.length FU 0 σ σ1 _ g hb hb4 hbw (by omega) (FU_gt (by omega)) (by show (sW σ1 a).length + _ ≤ _; omega)) (fun σ2 _ g2 => ?_)
  rw [List.drop_zero] at g2
  have g3 := g.tr g2
  have hl2 := g3.len
  have he := escT_len w
  unfold escT at he
  rw [List.length_cons, List.length_append] at he
  simp only [List.length_cons, List.length_nil] at he
  refine Rn_gd g3.rw.1 ?_
  refine Rn_bind (rn_add g3.rw (by show (sW σ2 a).length < _; rw [hl2]; rw [List.length_append]; simp only [List.length_cons, List.length_nil]; omega) 34) (fun σ3 _ g4 => Rn_some (Le.refl _) ?_)
  have := g3.tr g4
  exact this
end Ts2
section Tr2
variable {τ : TT} {w : List UInt8} {I : Nat → Nat} {n : Nat}
theorem TIn.x {τ τ' : TT} {I : Nat → Nat} {n : Nat} (h : TIn τ I n) (f : TF KX τ τ') : TIn τ' I n := h.tr f (by decide) (by decide)
theorem m_all_L (s : Nat) (hs : slen s ≤ 100) : ∀ (c N i : Nat) (τ : TT) (w : List UInt8), i + c = slen s → c < N → OX τ w → ∃ τ', m_putAll_L2 s N (i : Int) τ = some τ' ∧ MX τ w ((sxB s).drop i) τ'
  | c, 0, i, τ, w, _, h, _ => by omega
  | 0, N + 1, i, τ, w, hi, _, hO => by
    rw [List.drop_eq_nil_of_le (by rw [sxB_len]; omega)]
    exact ⟨τ, by rw [m_putAll_L2, gd_pos (by omega), if_pos (by omega)], MX.nil hO⟩
  | c + 1, N + 1, i, τ, w, hi, hN, hO => by
    rw [sxB_at (by omega)]
    obtain ⟨τ1, e1, g1⟩ := m_put_X hO ((sch s i : Nat) : Int)
    obtain ⟨τ2, e2, g2⟩ := m_all_L s hs c N (i + 1) τ1 _ (by omega) (by omega) g1.2
    refine ⟨τ2, ?_, g1.tr g2⟩
    rw [m_putAll_L2, gd_pos (by omega), if_neg (by omega), gd_pos (by omega), Int.toNat_natCast, e1, bind_some', show (i : Int) + 1 = ((i + 1 : Nat) : Int) by omega, e2]
theorem m_putAll_eq (s : Nat) (hs : slen s ≤ 100) (h : OX τ w) : ∃ τ', m_putAll s τ = some τ' ∧ MX τ w (sxB s) τ' := m_all_L s hs (slen s) FU 0 τ w (by omega) (FU_gt (by omega)) h
theorem m_txt_L {e : Nat} (he : e ≤ n) : ∀ (c N p : Nat) (τ : TT) (w : List UInt8), TIn τ I n → OX τ w → p + c = e → c < N → ∃ τ', m_putText_L8 (e : Int) N (p : Int) τ = some τ' ∧ MX τ w ((cut I p e).flatMap escB) τ'
  | c, 0, p, τ, w, _, _, _, h => by omega
  | 0, N + 1, p, τ, w, hI, hO, hp, _ => by
    have hn := hI.2.1
    have ec : cut I p e = [] := by unfold cut; rw [show e - p = 0 by omega]; rfl
    rw [ec]
    exact ⟨τ, by rw [m_putText_L8, gd_pos (by omega), gd_pos (by omega), if_pos (by omega)], MX.nil hO⟩
  | c + 1, N + 1, p, τ, w, hI, hO, hp, hN => by
    have hn := hI.2.1
    have h256 := hI.2.2.2 p
    have hx : tA τ 2 p = (I p : Int) := hI.2.2.1 p (by omega)
    have ec : cut I p e = UInt8.ofNat (I p) :: cut I (p + 1) e := by
      unfold cut
      rw [show e - p = (e - (p + 1)) + 1 by omega, List.range_succ_eq_map, List.map_cons, List.map_map]
      congr 1
      refine List.map_congr_left (fun j _ => ?_)
      show UInt8.ofNat (I (p + (j + 1))) = UInt8.ofNat (I (p + 1 + j))
      rw [show p + (j + 1) = p + 1 + j by omega]
    rw [ec, List.flatMap_cons]
    have tx : (UInt8.ofNat (I p)).toNat = I p := tn_of h256
    obtain ⟨k, hk⟩ : ∃ k, k = I p := ⟨_, rfl⟩
    rw [← hk] at hx h256 tx ⊢
    -- one letter
    have one : ∃ τ1, (Option.bind (gd (rg (k : Int)) (if (k : Int) = 8 then (some 98) else (if (k : Int) = 12 then (some 102) else (if (k : Int) = 10 then (some 110) else (if (k : Int) = 13 then (some 114) else (if (k : Int) = 9 then (some 116) else (if ((k : Int) = 34) ∨ ((k : Int) = 92) then (some (k : Int)) else (some 0)))))))) fun (v17 : Int) => (gd (rg v17) (if v17 ≤ 0 then (gd (rg (k : Int)) (if 32 ≤ (k : Int) then (Option.bind (m_put (k : Int) τ) fun y32 => some y32) else (Option.bind (m_putAll 24 τ) fun y33 => Option.bind (m_put (48 + (iDiv (k : Int) 16)) y33) fun y34 => Option.bind (if 10 ≤ (iRem (k : Int) 16) then (some (((97 + (iRem (k : Int) 16)) - 10))) else (some ((48 + (iRem (k : Int) 16))))) fun (v37 : Int) => Option.bind (m_put v37 y34) fun y41 => some y41))) else (Option.bind (m_put 92 τ) fun y50 => Option.bind (m_put v17 y50) fun y51 => some y51))) : Option TT) = some τ1 ∧ MX τ w (escB (UInt8.ofNat k)) τ1 := by
      have two : ∀ (y : Int) (b : UInt8), u8 y = b → escB (UInt8.ofNat k) = [92, b] → rg y → ¬ y ≤ 0 → ∃ τ1, (gd (rg y) (if y ≤ 0 then (gd (rg (k : Int)) (if 32 ≤ (k : Int) then (Option.bind (m_put (k : Int) τ) fun y32 => some y32) else (Option.bind (m_putAll 24 τ) fun y33 => Option.bind (m_put (48 + (iDiv (k : Int) 16)) y33) fun y34 => Option.bind (if 10 ≤ (iRem (k : Int) 16) then (some (((97 + (iRem (k : Int) 16)) - 10))) else (some ((48 + (iRem (k : Int) 16))))) fun (v37 : Int) => Option.bind (m_put v37 y34) fun y41 => some y41))) else (Option.bind (m_put 92 τ) fun y50 => Option.bind (m_put y y50) fun y51 => some y51)) : Option TT) = some τ1 ∧ MX τ w (escB (UInt8.ofNat k)) τ1 := fun y b hy hb ry hy0 => by
        obtain ⟨τ1, e1, g1⟩ := m_put_X hO 92
        obtain ⟨τ2, e2, g2⟩ := m_put_X g1.2 y
        rw [hy] at g2
        refine ⟨τ2, ?_, ?_⟩
        · rw [gd_pos ry, if_neg hy0, e1, bind_some', e2, bind_some']
        · rw [hb]
          have := g1.tr g2
          exact this
      rw [gd_pos (by omega)]
      unfold escB at two ⊢
      rw [tx] at two ⊢
      by_cases c8 : k = 8
      · rw [if_pos (show (k : Int) = 8 by omega), bind_some']
        exact two 98 98 rfl (by rw [if_neg (by omega), if_neg (by omega), if_pos c8]) (by omega) (by omega)
      · rw [if_neg (show ¬ (k : Int) = 8 by omega)]
        by_cases c12 : k = 12
        · rw [if_pos (show (k : Int) = 12 by omega), bind_some']
          exact two 102 102 rfl (by rw [if_neg (by omega), if_neg (by omega), if_neg c8, if_neg (by omega), if_neg (by omega), if_pos c12]) (by omega) (by omega)
        · rw [if_neg (show ¬ (k : Int) = 12 by omega)]
          by_cases c10 : k = 10
          · rw [if_pos (show (k : Int) = 10 by omega), bind_some']
            exact two 110 110 rfl (by rw [if_neg (by omega), if_neg (by omega), if_neg c8, if_neg (by omega), if_pos c10]) (by omega) (by omega)
          · rw [if_neg (show ¬ (k : Int) = 10 by omega)]
            by_cases c13 : k = 13
            · rw [if_pos (show (k : Int) = 13 by omega), bind_some']
              exact two 114 114 rfl (by rw [if_neg (by omega), if_neg (by omega), if_neg c8, if_neg (by omega), if_neg c10, if_neg c12, if_pos c13]) (by omega) (by omega)
            · rw [if_neg (show ¬ (k : Int) = 13 by omega)]
              by_cases c9 : k = 9
              · rw [if_pos (show (k : Int) = 9 by omega), bind_some']
                exact two 116 116 rfl (by rw [if_neg (by omega), if_neg (by omega), if_neg c8, if_pos c9]) (by omega) (by omega)
              · rw [if_neg (show ¬ (k : Int) = 9 by omega)]
                by_cases cq : k = 34 ∨ k = 92
                · rw [if_pos (show ((k : Int) = 34) ∨ ((k : Int) = 92) by omega), bind_some']
                  have hu : u8 (k : Int) = UInt8.ofNat k := u8_n rfl h256
                  exact two (k : Int) _ hu (by rw [if_pos cq]) (by omega) (by omega)
                · rw [if_neg (show ¬ (((k : Int) = 34) ∨ ((k : Int) = 92)) by omega), bind_some', gd_pos (by omega), if_pos (show (0 : Int) ≤ 0 by omega), gd_pos (by omega), if_neg cq]
                  by_cases c32 : 32 ≤ k
                  · rw [if_pos (show (32 : Int) ≤ (k : Int) by omega), if_pos c32]
                    obtain ⟨τ1, e1, g1⟩ := m_put_X hO (k : Int)
                    rw [u8_n (k := k) rfl h256] at g1
                    exact ⟨τ1, by rw [e1, bind_some'], g1⟩
                  · rw [if_neg (show ¬ (32 : Int) ≤ (k : Int) by omega), if_neg c32, if_neg c8, if_neg c9, if_neg c10, if_neg c12, if_neg c13]
                    have e24 : sxB 24 = [92, 117, 48, 48] ∧ slen 24 = 4 := by decide +kernel
                    have hd : iDiv (k : Int) 16 = ((k / 16 : Nat) : Int) := iDiv_n (y := 16) (a := k) (b := 16) rfl rfl (by omega) (by omega) (by omega)
                    have hr : iRem (k : Int) 16 = ((k % 16 : Nat) : Int) := iRem_n (y := 16) (a := k) (b := 16) rfl rfl (by omega) (by omega) (by omega)
                    have h1 : ∀ k : Fin 32, u8 (48 + ((k.val / 16 : Nat) : Int)) = hxB (k.val / 16) := by decide +kernel
                    have h2 : ∀ k : Fin 16, u8 (if 10 ≤ ((k.val : Nat) : Int) then (97 + ((k.val : Nat) : Int)) - 10 else 48 + ((k.val : Nat) : Int)) = hxB k.val := by decide +kernel
                    obtain ⟨τ1, e1, g1⟩ := m_putAll_eq 24 (by omega) hO
                    rw [e24.1] at g1
                    obtain ⟨τ2, e2, g2⟩ := m_put_X g1.2 (48 + ((k / 16 : Nat) : Int))
                    have hh1 := h1 ⟨k, by omega⟩
                    simp only at hh1
                    rw [hh1] at g2
                    obtain ⟨τ3, e3, g3⟩ := m_put_X (g1.tr g2).2 (if 10 ≤ ((k % 16 : Nat) : Int) then (97 + ((k % 16 : Nat) : Int)) - 10 else 48 + ((k % 16 : Nat) : Int))
                    have hh2 := h2 ⟨k % 16, by omega⟩
                    simp only at hh2
                    rw [hh2] at g3
                    refine ⟨τ3, ?_, ?_⟩
                    · rw [e1, bind_some', hd, e2, bind_some', hr]
                      by_cases q : (10 : Int) ≤ ((k % 16 : Nat) : Int)
                      · rw [if_pos q] at e3 ⊢
                        rw [bind_some', e3, bind_some']
                      · rw [if_neg q] at e3 ⊢
                        rw [bind_some', e3, bind_some']
                    · have := (g1.tr g2).tr g3
                      exact this
    obtain ⟨τ1, e1, g1⟩ := one
    obtain ⟨τ2, e2, g2⟩ := m_txt_L he c N (p + 1) τ1 _ (hI.x g1.1) g1.2 (by omega) (by omega)
    refine ⟨τ2, ?_, g1.tr g2⟩
    rw [m_putText_L8, gd_pos (by omega), gd_pos (by omega), if_neg (by omega), gd_pos (by omega), nm_eq, Int.toNat_natCast, hx, ← Option.bind_assoc, e1, bind_some', show (p : Int) + 1 = ((p + 1 : Nat) : Int) by omega, e2]
theorem m_putText_eq {p e : Nat} (hp : p ≤ e) (he : e ≤ n) (hI : TIn τ I n) (hO : OX τ w) : ∃ τ', m_putText (p : Int) (e : Int) τ = some τ' ∧ MX τ w (escT (cut I p e)) τ' := by
  have hn := hI.2.1
  obtain ⟨τ1, e1, g1⟩ := m_put_X hO 34
  obtain ⟨τ2, e2, g2⟩ := m_txt_L he (e - p) FU p τ1 _ (hI.x g1.1) g1.2 (by omega) (FU_gt (by omega))
  obtain ⟨τ3, e3, g3⟩ := m_put_X (g1.tr g2).2 34
  refine ⟨τ3, ?_, ?_⟩
  · unfold m_putText
    rw [e1, bind_some', e2, bind_some', e3, bind_some']
  · have := (g1.tr g2).tr g3
    exact this
end Tr2
