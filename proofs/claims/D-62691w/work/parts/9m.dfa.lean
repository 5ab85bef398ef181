set_option maxRecDepth 100000
/-! TEXTS: UTF-8 byte by byte -/
def uD (s : Nat) (c : Int) : Nat :=
  if s = 0 then (if c < 128 then 0 else if c < 194 then 8 else if c < 224 then 1 else if c = 224 then 4 else if c = 237 then 5 else if c < 240 then 2 else if c = 240 then 6 else if c < 244 then 3 else if c = 244 then 7 else 8)
  else if s = 8 then 8
  else if ¬ ctb c then 8
  else if s = 1 then 0 else if s = 2 then 1 else if s = 3 then 2
  else if s = 4 then (if c < 160 then 8 else 1) else if s = 5 then (if 159 < c then 8 else 1) else if s = 6 then (if c < 144 then 8 else 2) else (if 143 < c then 8 else 2)
def uR (g : Nat → Int) : Nat → Nat → Nat → Nat
  | 0, _, s => s
  | c + 1, k, s => uR g c (k + 1) (uD s (g k))
theorem uD_8 (c : Int) : uD 8 c = 8 := by unfold uD; rw [if_neg (by decide), if_pos rfl]
theorem uR_8 (g : Nat → Int) : ∀ c k, uR g c k 8 = 8
  | 0, _ => rfl
  | c + 1, k => by rw [uR, uD_8]; exact uR_8 g c (k + 1)
theorem uR_add (g : Nat → Int) : ∀ (a b k s : Nat), uR g (a + b) k s = uR g b (k + a) (uR g a k s)
  | 0, b, k, s => by rw [Nat.zero_add]; rfl
  | a + 1, b, k, s => by
    rw [show a + 1 + b = (a + b) + 1 by omega, uR, uR, uR_add g a b (k + 1), show k + 1 + a = k + (a + 1) by omega]
theorem uD_a {c : Int} (h : c < 128) (s : Nat) : uD s c = if s = 0 then 0 else 8 := by
  unfold uD
  by_cases e : s = 0
  · rw [if_pos e, if_pos e, if_pos h]
  · rw [if_neg e, if_neg e]
    by_cases e8 : s = 8
    · rw [if_pos e8]
    · rw [if_neg e8, if_pos (by omega)]
theorem uD_2 {a : Int} (h : 194 ≤ a ∧ a < 224) : uD 0 a = 1 := by
  unfold uD
  rw [if_pos rfl, if_neg (by omega), if_neg (by omega), if_pos (by omega)]
theorem uD_t1 (b : Int) : uD 1 b = if ctb b then 0 else 8 := by
  unfold uD
  rw [if_neg (by decide), if_neg (by decide)]
  by_cases c : ctb b
  · rw [if_neg (fun q => q c), if_pos c]; rfl
  · rw [if_pos c, if_neg c]
theorem uD_t2 (b : Int) : uD 2 b = if ctb b then 1 else 8 := by
  unfold uD
  rw [if_neg (by decide), if_neg (by decide)]
  by_cases c : ctb b
  · rw [if_neg (fun q => q c), if_pos c]; rfl
  · rw [if_pos c, if_neg c]
theorem uD_t3 (b : Int) : uD 3 b = if ctb b then 2 else 8 := by
  unfold uD
  rw [if_neg (by decide), if_neg (by decide)]
  by_cases c : ctb b
  · rw [if_neg (fun q => q c), if_pos c]; rfl
  · rw [if_pos c, if_neg c]
theorem uD_34 {a b : Int} (ha : 224 ≤ a ∧ a < 245) (hb : 0 ≤ b ∧ b < 256) : uD 0 a ≠ 0 ∧ uD (uD 0 a) b = if ctb b ∧ ¬ wrg a b then sgm a - 2 else 8 := by
  have q : ∀ a : Fin 21, ∀ b : Fin 256, uD 0 (224 + (a.val : Int)) ≠ 0 ∧ uD (uD 0 (224 + (a.val : Int))) (b.val : Int) = if ctb (b.val : Int) ∧ ¬ wrg (224 + (a.val : Int)) (b.val : Int) then sgm (224 + (a.val : Int)) - 2 else 8 := by decide +kernel
  have := q ⟨(a - 224).toNat, by omega⟩ ⟨b.toNat, by omega⟩
  simp only at this
  rw [show (224 : Int) + (((a - 224).toNat : Nat) : Int) = a by omega, show ((b.toNat : Nat) : Int) = b by omega] at this
  exact this
theorem uD_x {a : Int} (h : 128 ≤ a) (hm : sgm a = 0) : uD 0 a = 8 := by
  unfold sgm at hm
  unfold uD
  rw [if_pos rfl]
  repeat' split at hm
  all_goals first | omega | skip
  all_goals
    repeat' split
    all_goals omega
theorem sgm_2 {a : Int} : sgm a = 2 ↔ 194 ≤ a ∧ a < 224 := by
  unfold sgm
  repeat' split
  all_goals omega
theorem sgm_3 {a : Int} : sgm a = 3 ↔ 224 ≤ a ∧ a < 240 := by
  unfold sgm
  repeat' split
  all_goals omega
theorem sgm_4 {a : Int} : sgm a = 4 ↔ 240 ≤ a ∧ a < 245 := by
  unfold sgm
  repeat' split
  all_goals omega
theorem sgm_c (a : Int) : sgm a = 0 ∨ sgm a = 2 ∨ sgm a = 3 ∨ sgm a = 4 := by
  unfold sgm
  repeat' split
  all_goals omega
theorem txt_f {g : Nat → Int} {e k : Nat} (hk : k < e) (h0 : sgl g e k = 0) : txt g e k = false := by rw [txt, dif_pos hk, dif_pos h0]
theorem txt_n {g : Nat → Int} {e k m : Nat} (hk : k < e) (h0 : sgl g e k = m) (hm : m ≠ 0) : txt g e k = txt g e (k + m) := by
  rw [txt, dif_pos hk, dif_neg (by rw [h0]; exact hm), h0]
theorem txt_dfa {g : Nat → Int} {e : Nat} (hg : ∀ j, j < e → 0 ≤ g j ∧ g j < 256) : ∀ (N c k : Nat), c ≤ N → k + c = e → (txt g e k = true ↔ uR g c k 0 = 0)
  | N, 0, k, _, h => by
    rw [txt, dif_neg (by omega)]
    exact ⟨fun _ => rfl, fun _ => rfl⟩
  | 0, c + 1, k, hN, h => by omega
  | N + 1, c + 1, k, hN, h => by
    have hk : k < e := by omega
    have hga := hg k hk
    rw [uR]
    by_cases c1 : g k < 128
    · have e1 : sgl g e k = 1 := by unfold sgl; rw [if_pos c1]
      rw [txt_n hk e1 (by decide), uD_a c1, if_pos rfl]
      exact txt_dfa hg N c (k + 1) (by omega) (by omega)
    · have fl : ∀ {X : Nat}, sgl g e k = 0 → X ≠ 0 → (txt g e k = true ↔ X = 0) := fun h0 hX => by
        rw [txt_f hk h0]
        exact ⟨fun q => (by cases q), fun q => absurd q hX⟩
      have n8 : (8 : Nat) ≠ 0 := by decide
      rcases sgm_c (g k) with m0 | m2 | m3 | m4
      · rw [uD_x (by omega) m0, uR_8]
        exact fl (sgl_0 c1 (Or.inl m0)) n8
      · rw [uD_2 (sgm_2.mp m2)]
        cases c with
        | zero => exact fl (sgl_0 c1 (Or.inr (by rw [m2]; omega))) (by decide : (1 : Nat) ≠ 0)
        | succ c =>
          rw [uR, uD_t1]
          by_cases cb : ctb (g (k + 1))
          · rw [if_pos cb]
            have w : ¬ wrg (g k) (g (k + 1)) := by have := sgm_2.mp m2; omega
            have e2 : sgl g e k = 2 := sgl_v c1 m2 (by decide) (by omega) (fun j hj h1 => by rw [show j = 1 by omega]; exact cb) w
            rw [txt_n hk e2 (by decide)]
            exact txt_dfa hg N c (k + 2) (by omega) (by omega)
          · rw [if_neg cb, uR_8]
            exact fl (sgl_c c1 (j := 1) (by rw [m2]; decide) (by decide) cb) n8
      · have ha := sgm_3.mp m3
        cases c with
        | zero => exact fl (sgl_0 c1 (Or.inr (by rw [m3]; omega))) (uD_34 (b := 0) (by omega) (by omega)).1
        | succ c =>
          have hb := hg (k + 1) (by omega)
          have q := (uD_34 (a := g k) (b := g (k + 1)) (by omega) hb).2
          rw [m3] at q
          rw [uR, q]
          by_cases cb : ctb (g (k + 1)) ∧ ¬ wrg (g k) (g (k + 1))
          · rw [if_pos cb]
            show _ ↔ uR g c (k + 1 + 1) 1 = 0
            cases c with
            | zero => exact fl (sgl_0 c1 (Or.inr (by rw [m3]; omega))) (by decide : (1 : Nat) ≠ 0)
            | succ c =>
              rw [uR, uD_t1]
              by_cases cc : ctb (g (k + 1 + 1))
              · rw [if_pos cc]
                have e3 : sgl g e k = 3 := sgl_v c1 m3 (by decide) (by omega) (fun j hj h1 => by
                  by_cases j1 : j = 1
                  · rw [j1]; exact cb.1
                  · rw [show j = 2 by omega]; exact cc) cb.2
                rw [txt_n hk e3 (by decide)]
                exact txt_dfa hg N c (k + 3) (by omega) (by omega)
              · rw [if_neg cc, uR_8]
                exact fl (sgl_c c1 (j := 2) (by rw [m3]; decide) (by decide) cc) n8
          · rw [if_neg cb, uR_8]
            by_cases cw : ctb (g (k + 1))
            · have w : wrg (g k) (g (k + 1)) := by
                by_cases w : wrg (g k) (g (k + 1))
                · exact w
                · exact absurd ⟨cw, w⟩ cb
              exact fl (sgl_w c1 w) n8
            · exact fl (sgl_c c1 (j := 1) (by rw [m3]; decide) (by decide) cw) n8
      · have ha := sgm_4.mp m4
        cases c with
        | zero => exact fl (sgl_0 c1 (Or.inr (by rw [m4]; omega))) (uD_34 (b := 0) (by omega) (by omega)).1
        | succ c =>
          have hb := hg (k + 1) (by omega)
          have q := (uD_34 (a := g k) (b := g (k + 1)) (by omega) hb).2
          rw [m4] at q
          rw [uR, q]
          by_cases cb : ctb (g (k + 1)) ∧ ¬ wrg (g k) (g (k + 1))
          · rw [if_pos cb]
            show _ ↔ uR g c (k + 1 + 1) 2 = 0
            cases c with
            | zero => exact fl (sgl_0 c1 (Or.inr (by rw [m4]; omega))) (by decide : (2 : Nat) ≠ 0)
            | succ c =>
              rw [uR, uD_t2]
              by_cases cc : ctb (g (k + 1 + 1))
              · rw [if_pos cc]
                cases c with
                | zero => exact fl (sgl_0 c1 (Or.inr (by rw [m4]; omega))) (by decide : (1 : Nat) ≠ 0)
                | succ c =>
                  rw [uR, uD_t1]
                  by_cases cd : ctb (g (k + 1 + 1 + 1))
                  · rw [if_pos cd]
                    have e4 : sgl g e k = 4 := sgl_v c1 m4 (by decide) (by omega) (fun j hj h1 => by
                      by_cases j1 : j = 1
                      · rw [j1]; exact cb.1
                      · by_cases j2 : j = 2
                        · rw [j2]; exact cc
                        · rw [show j = 3 by omega]; exact cd) cb.2
                    rw [txt_n hk e4 (by decide)]
                    exact txt_dfa hg N c (k + 4) (by omega) (by omega)
                  · rw [if_neg cd, uR_8]
                    exact fl (sgl_c c1 (j := 3) (by rw [m4]; decide) (by decide) cd) n8
              · rw [if_neg cc, uR_8]
                exact fl (sgl_c c1 (j := 2) (by rw [m4]; decide) (by decide) cc) n8
          · rw [if_neg cb, uR_8]
            by_cases cw : ctb (g (k + 1))
            · have w : wrg (g k) (g (k + 1)) := by
                by_cases w : wrg (g k) (g (k + 1))
                · exact w
                · exact absurd ⟨cw, w⟩ cb
              exact fl (sgl_w c1 w) n8
            · exact fl (sgl_c c1 (j := 1) (by rw [m4]; decide) (by decide) cw) n8
/-- the same over a row -/
def uL (w : List UInt8) (s : Nat) : Nat := w.foldl (fun s b => uD s (b.toNat : Int)) s
theorem uL_app (w u : List UInt8) (s : Nat) : uL (w ++ u) s = uL u (uL w s) := List.foldl_append ..
theorem uR_uL : ∀ (w : List UInt8) (g : Nat → Int) (k s : Nat), (∀ j, j < w.length → g (k + j) = ((w.getD j 0).toNat : Int)) → uR g w.length k s = uL w s
  | [], g, k, s, _ => rfl
  | b :: w, g, k, s, h => by
    rw [List.length_cons, uR]
    have e0 := h 0 (by simp)
    rw [Nat.add_zero] at e0
    rw [e0]
    exact uR_uL w g (k + 1) _ (fun j hj => by
      have := h (j + 1) (by simp only [List.length_cons]; omega)
      rw [show k + 1 + j = k + (j + 1) by omega, this]; rfl)
theorem tw_dfa (w : List UInt8) : tw w = true ↔ uL w 0 = 0 := by
  unfold tw
  rw [txt_dfa (fun j hj => by rw [lk_lt hj]; have := wI_lt w j; omega) w.length w.length 0 (Nat.le_refl _) (Nat.zero_add _), uR_uL w _ 0 0 (fun j hj => by rw [Nat.zero_add, lk_lt hj]; rfl)]
theorem sayL_dfa {v : Int} (hv : (0 ≤ v ∧ v < 55296) ∨ (57344 ≤ v ∧ v < 1114112)) (s : Nat) : uL (sayL v) s = if s = 0 then 0 else 8 := by
  have o128 : ∀ x : Fin 64, ((u8 (iOr 128 (x.val : Int))).toNat : Int) = 128 + (x.val : Int) := by decide +kernel
  have o192 : ∀ x : Fin 32, ((u8 (iOr 192 (x.val : Int))).toNat : Int) = 192 + (x.val : Int) := by decide +kernel
  have o224 : ∀ x : Fin 16, ((u8 (iOr 224 (x.val : Int))).toNat : Int) = 224 + (x.val : Int) := by decide +kernel
  have o240 : ∀ x : Fin 8, ((u8 (iOr 240 (x.val : Int))).toNat : Int) = 240 + (x.val : Int) := by decide +kernel
  have ux : ∀ x : Fin 128, ((u8 (x.val : Int)).toNat : Int) = (x.val : Int) := by decide +kernel
  obtain ⟨n, rfl⟩ : ∃ n : Nat, v = (n : Int) := ⟨v.toNat, by omega⟩
  have a63 : ∀ x : Nat, iAnd (x : Int) 63 = ((x % 64 : Nat) : Int) := fun x => by
    rw [iAnd_n (y := 63) (a := x) (b := 63) rfl rfl (by decide)]
    congr 1
    exact Nat.and_two_pow_sub_one_eq_mod x 6
  have s6 : iShr (n : Int) 6 = ((n / 64 : Nat) : Int) := by rw [iShr_n (y := 6) (a := n) (k := 6) rfl rfl (by omega) (by omega)]
  have s12 : iShr (n : Int) 12 = ((n / 4096 : Nat) : Int) := by rw [iShr_n (y := 12) (a := n) (k := 12) rfl rfl (by omega) (by omega)]
  have s18 : iShr (n : Int) 18 = ((n / 262144 : Nat) : Int) := by rw [iShr_n (y := 18) (a := n) (k := 18) rfl rfl (by omega) (by omega)]
  have t128 : ∀ x : Nat, x < 64 → ((u8 (iOr 128 (x : Int))).toNat : Int) = 128 + (x : Int) := fun x hx => o128 ⟨x, hx⟩
  have hd : ∀ (a : Int), 192 ≤ a → s ≠ 0 → uD s a = 8 := fun a h1 h2 => by
    unfold uD
    rw [if_neg h2]
    by_cases e : s = 8
    · rw [if_pos e]
    · rw [if_neg e, if_pos (by omega)]
  unfold sayL
  rw [s6, s12, s18, a63, a63, a63]
  by_cases c1 : 128 ≤ (n : Int)
  · rw [if_pos c1]
    by_cases c2 : 2048 ≤ (n : Int)
    · rw [if_pos c2]
      by_cases c3 : 65536 ≤ (n : Int)
      · rw [if_pos c3]
        show uD (uD (uD (uD s _) _) _) _ = _
        rw [show ((u8 (iOr 240 ((n / 262144 : Nat) : Int))).toNat : Int) = 240 + ((n / 262144 : Nat) : Int) from o240 ⟨n / 262144, by omega⟩, t128 _ (by omega), t128 _ (by omega), t128 _ (by omega)]
        by_cases e : s = 0
        · rw [if_pos e, e, (uD_34 (a := 240 + ((n / 262144 : Nat) : Int)) (b := 128 + ((n / 4096 % 64 : Nat) : Int)) (by omega) (by omega)).2, if_pos (by constructor <;> omega), sgm_4.mpr (by omega), uD_t2, if_pos (by omega), uD_t1, if_pos (by omega)]
        · rw [if_neg e, hd _ (by omega) e, uD_8, uD_8, uD_8]
      · rw [if_neg c3]
        show uD (uD (uD s _) _) _ = _
        rw [show ((u8 (iOr 224 ((n / 4096 : Nat) : Int))).toNat : Int) = 224 + ((n / 4096 : Nat) : Int) from o224 ⟨n / 4096, by omega⟩, t128 _ (by omega), t128 _ (by omega)]
        by_cases e : s = 0
        · rw [if_pos e, e, (uD_34 (a := 224 + ((n / 4096 : Nat) : Int)) (b := 128 + ((n / 64 % 64 : Nat) : Int)) (by omega) (by omega)).2, if_pos (by constructor <;> omega), sgm_3.mpr (by omega), uD_t1, if_pos (by omega)]
        · rw [if_neg e, hd _ (by omega) e, uD_8, uD_8]
    · rw [if_neg c2]
      show uD (uD s _) _ = _
      rw [show ((u8 (iOr 192 ((n / 64 : Nat) : Int))).toNat : Int) = 192 + ((n / 64 : Nat) : Int) from o192 ⟨n / 64, by omega⟩, t128 _ (by omega)]
      by_cases e : s = 0
      · rw [if_pos e, e, uD_2 (by omega), uD_t1, if_pos (by omega)]
      · rw [if_neg e, hd _ (by omega) e, uD_8]
  · rw [if_neg c1]
    show uD s _ = _
    rw [show ((u8 (n : Int)).toNat : Int) = (n : Int) from ux ⟨n, by omega⟩, uD_a (by omega)]
