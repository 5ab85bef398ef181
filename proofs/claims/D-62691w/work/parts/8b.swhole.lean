set_option maxRecDepth 100000
/-! NUMBERS: how the system reckons them -/
theorem pJ_pJ (σ : ST) (k a : Nat) (v w : Int64) : pJ (pJ σ k a v) k a w = pJ σ k a w := by
  show (sc σ, sI σ, up (up (sJ σ) k (up (sJ σ k) a v)) k (up (up (sJ σ) k (up (sJ σ k) a v) k) a w), sR σ, sW σ, sA σ, sN σ, sB σ, sE σ, sF σ, sH σ, sZ σ, sC σ, sS σ) = _
  rw [up_up2]
  rfl
theorem At1.tr {σ σ1 σ2 : ST} {a : Nat} (h : At1 σ σ1 a) (k : At1 σ1 σ2 a) : At1 σ σ2 a := by
  obtain ⟨a1, a2, a3, a4, a5, a6⟩ := h
  obtain ⟨b1, b2, b3, b4, b5, b6⟩ := k
  exact ⟨b1.trans a1, b2.trans a2, b3.trans a3, fun b hb => (a4 b hb).tr (b4 b hb), b5.trans a5, b6.trans a6⟩
theorem lN_sub2 {a c : Nat} (h : c ≤ a) : lN a - lN c = lN (a - c) := by
  have e : lN a = lN (a - c) + lN c := by rw [lN_add]; congr 1; omega
  rw [e, Int64.add_sub_cancel]
theorem lN_int {a : Nat} (h : a < 9223372036854775808) : (lN a).toInt = (a : Int) := by
  rw [sg_un, un_lN (by omega), if_pos h]
theorem lN_lt2 {a c : Nat} (ha : a < 9223372036854775808) (hc : c < 9223372036854775808) : lN a < lN c ↔ a < c := by
  rw [Int64.lt_iff_toInt_lt, lN_int ha, lN_int hc]; omega
section Sw
variable {σ : ST} {a ra : Nat} {w : List UInt8}
theorem wh_isDigit_eq {x : Int} (hx : rg x) : wh_isDigit x = some (if (x < 48) ∨ (57 < x) then 0 else 1) := by
  unfold wh_isDigit
  rw [gd_pos hx]
  split <;> rfl
theorem wh_L42 (bb : Nat × Nat) (u0 : Nat) (u3 : Int) (ha : sc σ ra = 4) (hw : sW σ ra = w) (hl : w.length ≤ 1000) : ∀ (m f k : Nat), w.length - k ≤ m → m < f → k ≤ 5000 → wh_read_L42 bb u0 (some ra) u3 σ f (k : Int) = some ((dg (wI w) w.length k : Nat) : Int) := by
  intro m
  induction m with
  | zero =>
    intro f k h1 h2 hk
    obtain ⟨f, rfl⟩ : ∃ g, f = g + 1 := ⟨f - 1, by omega⟩
    rw [dg_eq, wh_read_L42, bind_some', gd_pos ha, row_at_eq ha rfl (by omega), hw, lk_ge (by omega), bind_some', wh_isDigit_eq (by omega), bind_some', if_pos (by omega), gd_pos (by omega), if_pos rfl, if_pos (by omega)]
  | succ m ih =>
    intro f k h1 h2 hk
    obtain ⟨f, rfl⟩ : ∃ g, f = g + 1 := ⟨f - 1, by omega⟩
    have hr := lk_rg (n := w.length) (wI_lt w) k
    rw [dg_eq, wh_read_L42, bind_some', gd_pos ha, row_at_eq ha rfl (by omega), hw, bind_some', wh_isDigit_eq (by omega), bind_some']
    by_cases c : (lk (wI w) w.length k < 48) ∨ (57 < lk (wI w) w.length k)
    · rw [if_pos c, gd_pos (by omega), if_pos rfl, if_pos c]
    · have hk2 : k < w.length := lk_in (I := wI w) (by omega)
      rw [if_neg c, gd_pos (by omega), if_neg (by omega), if_neg c, show (k : Int) + 1 = ((k + 1 : Nat) : Int) by omega]
      exact ih f (k + 1) (by omega) (by omega) (by omega)
theorem wh_L107 (bb : Nat × Nat) (u0 : Nat) (u3 u4 u5 : Int) (ha : sc σ ra = 4) (hw : sW σ ra = w) (hl : w.length ≤ 1000) : ∀ (m f k : Nat), w.length - k ≤ m → m < f → k ≤ 5000 → wh_read_L107 bb u0 (some ra) u3 u4 u5 σ f (k : Int) = some ((dg (wI w) w.length k : Nat) : Int) := by
  intro m
  induction m with
  | zero =>
    intro f k h1 h2 hk
    obtain ⟨f, rfl⟩ : ∃ g, f = g + 1 := ⟨f - 1, by omega⟩
    rw [dg_eq, wh_read_L107, bind_some', gd_pos ha, row_at_eq ha rfl (by omega), hw, lk_ge (by omega), bind_some', wh_isDigit_eq (by omega), bind_some', if_pos (by omega), gd_pos (by omega), if_pos rfl, if_pos (by omega)]
  | succ m ih =>
    intro f k h1 h2 hk
    obtain ⟨f, rfl⟩ : ∃ g, f = g + 1 := ⟨f - 1, by omega⟩
    have hr := lk_rg (n := w.length) (wI_lt w) k
    rw [dg_eq, wh_read_L107, bind_some', gd_pos ha, row_at_eq ha rfl (by omega), hw, bind_some', wh_isDigit_eq (by omega), bind_some']
    by_cases c : (lk (wI w) w.length k < 48) ∨ (57 < lk (wI w) w.length k)
    · rw [if_pos c, gd_pos (by omega), if_pos rfl, if_pos c]
    · have hk2 : k < w.length := lk_in (I := wI w) (by omega)
      rw [if_neg c, gd_pos (by omega), if_neg (by omega), if_neg c, show (k : Int) + 1 = ((k + 1 : Nat) : Int) by omega]
      exact ih f (k + 1) (by omega) (by omega) (by omega)
theorem spw_dg (J : Nat → Nat) (N : Nat) (c k v : Nat) : spw J N (c + 1) k v = spw J N c (k + 1) (min 100000 (10 * v + dv J N k)) := rfl
theorem wh_L216 (bb : Nat × Nat) (u0 : Nat) (u3 u4 u5 u6 u9 u10 : Int) (ha : sc σ ra = 4) (hw : sW σ ra = w) (hl : w.length ≤ 1000) : ∀ (m f k v : Nat), w.length - k ≤ m → m < f → k ≤ 5000 → v ≤ 100000 → wh_read_L216 bb u0 (some ra) u3 u4 u5 u6 u9 u10 σ f (k : Int) (lN v) = some (((dg (wI w) w.length k : Nat) : Int), lN (spw (wI w) w.length (dg (wI w) w.length k - k) k v)) := by
  intro m
  induction m with
  | zero =>
    intro f k v h1 h2 hk hv
    obtain ⟨f, rfl⟩ : ∃ g, f = g + 1 := ⟨f - 1, by omega⟩
    have e : dg (wI w) w.length k = k := by rw [dg_eq, lk_ge (by omega), if_pos (by omega)]
    rw [e, Nat.sub_self, wh_read_L216, bind_some', gd_pos ha, row_at_eq ha rfl (by omega), hw, lk_ge (by omega), bind_some', wh_isDigit_eq (by omega), bind_some', if_pos (by omega), gd_pos (by omega), if_pos rfl]
    rfl
  | succ m ih =>
    intro f k v h1 h2 hk hv
    obtain ⟨f, rfl⟩ : ∃ g, f = g + 1 := ⟨f - 1, by omega⟩
    have hr := lk_rg (n := w.length) (wI_lt w) k
    rw [wh_read_L216, bind_some', gd_pos ha, row_at_eq ha rfl (by omega), hw, bind_some', wh_isDigit_eq (by omega), bind_some']
    by_cases c : (lk (wI w) w.length k < 48) ∨ (57 < lk (wI w) w.length k)
    · have e : dg (wI w) w.length k = k := by rw [dg_eq, if_pos c]
      rw [if_pos c, gd_pos (by omega), if_pos rfl, e, Nat.sub_self]
      rfl
    · have hk2 : k < w.length := lk_in (I := wI w) (by omega)
      have h9 := dv_9 (J := wI w) (N := w.length) (k := k) (by omega)
      have e : dg (wI w) w.length k = dg (wI w) w.length (k + 1) := by rw [dg_eq, if_neg c]
      have hd := dg_sp (wI w) w.length (k + 1)
      rw [if_neg c, gd_pos (by omega), if_neg (by omega), bind_some', e, show dg (wI w) w.length (k + 1) - k = (dg (wI w) w.length (k + 1) - (k + 1)) + 1 by omega, spw_dg, lN_10, lN_mul, iL_n (k := dv (wI w) w.length k + 48) (by omega) (by omega), lN_add, show (48 : Int64) = lN 48 from rfl, lN_sub2 (by omega), show 10 * v + (dv (wI w) w.length k + 48) - 48 = 10 * v + dv (wI w) w.length k by omega]
      have e2 : jl_min_2 100000 (lN (10 * v + dv (wI w) w.length k)) = some (lN (min 100000 (10 * v + dv (wI w) w.length k))) := by
        unfold jl_min_2
        rw [show (100000 : Int64) = lN 100000 from rfl]
        by_cases q : 10 * v + dv (wI w) w.length k < 100000
        · rw [if_pos ((lN_lt2 (by omega) (by omega)).mpr q), Nat.min_eq_right (by omega)]
        · rw [if_neg (fun r => q ((lN_lt2 (by omega) (by omega)).mp r)), Nat.min_eq_left (by omega)]
      rw [e2, bind_some', show (k : Int) + 1 = ((k + 1 : Nat) : Int) by omega]
      exact ih f (k + 1) _ (by omega) (by omega) (by omega) (by omega)
/-- digits one behind the other -/
theorem wh_L18 (bb : Nat × Nat) (ha : sc σ a = 15) (hr : sc σ ra = 4) (hw : sW σ ra = w) (hl : w.length ≤ 1000) {k0 pt e : Nat} {W : Int} {W64 : Int64} (hW : W64.toInt = W) (he : e ≤ 1000) (hp : pt ≤ 5000) (hk0 : k0 ≤ pt) (hsh : ∀ j, k0 ≤ j → j < e → (j = pt ∧ lk (wI w) w.length j = 46) ∨ (j ≠ pt ∧ 48 ≤ lk (wI w) w.length j ∧ lk (wI w) w.length j ≤ 57)) : ∀ (c f k s : Nat) (x : Int64) (fi : Int), k + c = e → c < f → k0 ≤ k → ((fi = 1 ∧ x = lN s ∧ s < T64) ∨ fi = 0) → ∃ x' fi', wh_reckon_L18 bb a (some ra) (pt : Int) (e : Int) W64 f (lN (ix k0 pt k)) fi (k : Int) (pJ σ 226 a x) = some (lN (ix k0 pt e), fi', pJ σ 226 a x') ∧ (match sl1 (wI w) w.length pt k0 W c k (if fi = 1 then some s else none) with | some s' => fi' = 1 ∧ x' = lN s' ∧ s' < T64 | none => fi' = 0)
  | 0, f, k, s, x, fi, h1, h2, h3, h4 => by
    obtain ⟨f, rfl⟩ : ∃ g, f = g + 1 := ⟨f - 1, by omega⟩
    refine ⟨x, fi, ?_, ?_⟩
    · rw [wh_reckon_L18, gd_pos (by omega), gd_pos (by omega), if_pos (by omega), show e = k by omega]
    · rw [sl1]
      rcases h4 with ⟨q1, q2, q3⟩ | q
      · rw [if_pos q1]; exact ⟨q1, q2, q3⟩
      · rw [if_neg (by omega)]; exact q
  | c + 1, f, k, s, x, fi, h1, h2, h3, h4 => by
    obtain ⟨f, rfl⟩ : ∃ g, f = g + 1 := ⟨f - 1, by omega⟩
    have hrg := lk_rg (n := w.length) (wI_lt w) k
    have hf01 : fi = 0 ∨ fi = 1 := by omega
    rw [wh_reckon_L18, gd_pos (by omega), gd_pos (by omega), if_neg (by omega), gd_pos (by omega), sl1]
    rcases hsh k h3 (by omega) with ⟨q1, q2⟩ | ⟨q1, q2⟩
    · have e1 : ix k0 pt k = ix k0 pt (k + 1) := by unfold ix; rw [if_neg (by omega), if_pos (by omega)]; omega
      rw [if_pos (by omega), bind_some', if_pos q1, e1, show (k : Int) + 1 = ((k + 1 : Nat) : Int) by omega]
      exact wh_L18 bb ha hr hw hl hW he hp hk0 hsh c f (k + 1) s x fi (by omega) (by omega) (by omega) h4
    · have h9 := dv_9 q2
      have e1 : ix k0 pt k + 1 = ix k0 pt (k + 1) := by unfold ix; split <;> split <;> omega
      have hix : ix k0 pt k < 5000 := by unfold ix; omega
      have hcmp : lN (ix k0 pt k) < W64 ↔ (ix k0 pt k : Int) < W := by rw [Int64.lt_iff_toInt_lt, lN_int (by omega), hW]
      have e1' : lN (ix k0 pt k) + 1 = lN (ix k0 pt (k + 1)) := by rw [show (1 : Int64) = lN 1 from rfl, lN_add, e1]
      rw [if_neg (by omega), bind_some', gd_pos (show sc (pJ σ 226 a x) ra = 4 from hr), row_at_eq (show sc (pJ σ 226 a x) ra = 4 from hr) rfl (by omega), show sW (pJ σ 226 a x) ra = w from hw, bind_some', nm_eq, if_neg q1, show lk (wI w) w.length k - 48 = (dv (wI w) w.length k : Int) by omega]
      by_cases c1 : (ix k0 pt k : Int) < W
      · rw [if_pos (hcmp.mpr c1), if_pos c1, gd_pos (by omega)]
        rcases h4 with ⟨p1, p2, p3⟩ | p
        · rw [if_neg (show ¬ fi = 0 by omega), gd_pos (show sc (pJ σ 226 a x) a = 15 from ha), wh_grow_eq (s := s) (d := dv (wI w) w.length k) bb (show sc (pJ σ 226 a x) a = 15 from ha) (by rw [sJ_pJ, if_pos ⟨rfl, rfl⟩]; exact p2) p3 rfl h9.1, if_pos p1]
          by_cases z : 10 * s + dv (wI w) w.length k < T64
          · rw [if_pos z, bind_some']
            show ∃ (x' : Int64) (fi' : Int), (Option.bind (Option.bind (Option.bind (gd (rg 1) (if (1 : Int) = 0 then some (0, pJ (pJ σ 226 a x) 226 a (lN (10 * s + dv (wI w) w.length k))) else some (1, pJ (pJ σ 226 a x) 226 a (lN (10 * s + dv (wI w) w.length k))))) fun (v60 : Int × ST) => some ((v60.1, v60.2))) fun (v53 : Int × ST) => nm (lN (ix k0 pt k) + 1) fun x57 => some ((x57, v53.1, v53.2))) fun (v40 : Int64 × Int × ST) => wh_reckon_L18 bb a (some ra) (pt : Int) (e : Int) W64 f v40.1 v40.2.1 ((k : Int) + 1) v40.2.2) = _ ∧ (match sl1 (wI w) w.length pt k0 W c (k + 1) (if 10 * s + dv (wI w) w.length k < T64 then some (10 * s + dv (wI w) w.length k) else none) with | some s' => fi' = 1 ∧ x' = lN s' ∧ s' < T64 | none => fi' = 0)
            rw [gd_pos (by omega), if_neg (show ¬ (1 : Int) = 0 by omega), bind_some', bind_some', nm_eq, bind_some', pJ_pJ, e1', show (k : Int) + 1 = ((k + 1 : Nat) : Int) by omega, if_pos z]
            have q := wh_L18 bb ha hr hw hl hW he hp hk0 hsh c f (k + 1) (10 * s + dv (wI w) w.length k) (lN (10 * s + dv (wI w) w.length k)) 1 (by omega) (by omega) (by omega) (Or.inl ⟨rfl, rfl, z⟩)
            rw [if_pos (show (1 : Int) = 1 from rfl)] at q
            exact q
          · rw [if_neg z, bind_some']
            show ∃ (x' : Int64) (fi' : Int), (Option.bind (Option.bind (Option.bind (gd (rg 0) (if (0 : Int) = 0 then some (0, pJ σ 226 a x) else some (1, pJ σ 226 a x))) fun (v60 : Int × ST) => some ((v60.1, v60.2))) fun (v53 : Int × ST) => nm (lN (ix k0 pt k) + 1) fun x57 => some ((x57, v53.1, v53.2))) fun (v40 : Int64 × Int × ST) => wh_reckon_L18 bb a (some ra) (pt : Int) (e : Int) W64 f v40.1 v40.2.1 ((k : Int) + 1) v40.2.2) = _ ∧ (match sl1 (wI w) w.length pt k0 W c (k + 1) (if 10 * s + dv (wI w) w.length k < T64 then some (10 * s + dv (wI w) w.length k) else none) with | some s' => fi' = 1 ∧ x' = lN s' ∧ s' < T64 | none => fi' = 0)
            rw [gd_pos (by omega), if_pos (show (0 : Int) = 0 from rfl), bind_some', bind_some', nm_eq, bind_some', e1', show (k : Int) + 1 = ((k + 1 : Nat) : Int) by omega, if_neg z]
            have q := wh_L18 bb ha hr hw hl hW he hp hk0 hsh c f (k + 1) s x 0 (by omega) (by omega) (by omega) (Or.inr rfl)
            rw [if_neg (show ¬ (0 : Int) = 1 by omega)] at q
            exact q
        · rw [if_pos p, bind_some', bind_some', nm_eq, bind_some', e1', show (k : Int) + 1 = ((k + 1 : Nat) : Int) by omega, if_neg (show ¬ fi = 1 by omega)]
          have q := wh_L18 bb ha hr hw hl hW he hp hk0 hsh c f (k + 1) s x 0 (by omega) (by omega) (by omega) (Or.inr rfl)
          rw [if_neg (show ¬ (0 : Int) = 1 by omega)] at q
          exact q
      · rw [if_neg (fun r => c1 (hcmp.mp r)), if_neg c1, gd_pos (by omega), gd_pos (by omega)]
        by_cases z : fi = 0 ∨ ¬ (dv (wI w) w.length k : Int) = 0
        · rw [if_pos z, bind_some', bind_some', nm_eq, bind_some', e1', show (k : Int) + 1 = ((k + 1 : Nat) : Int) by omega]
          have q := wh_L18 bb ha hr hw hl hW he hp hk0 hsh c f (k + 1) s x 0 (by omega) (by omega) (by omega) (Or.inr rfl)
          rw [if_neg (show ¬ (0 : Int) = 1 by omega)] at q
          have e3 : (if dv (wI w) w.length k = 0 then (if fi = 1 then some s else none) else none) = none := by
            split
            · rw [if_neg (by omega)]
            · rfl
          rw [e3]
          exact q
        · rw [if_neg z, bind_some', bind_some', nm_eq, bind_some', e1', show (k : Int) + 1 = ((k + 1 : Nat) : Int) by omega, if_pos (show dv (wI w) w.length k = 0 by omega), show fi = 1 by omega]
          rcases h4 with ⟨p1, p2, p3⟩ | p
          · exact wh_L18 bb ha hr hw hl hW he hp hk0 hsh c f (k + 1) s x 1 (by omega) (by omega) (by omega) (Or.inl ⟨rfl, p2, p3⟩)
          · omega
end Sw
