set_option maxRecDepth 100000
/-! NUMBERS: what the system reckons -/
section BB
variable (bb : Nat × Nat)
theorem bb_L18 (u0 : Nat) (u1 : Option Nat) (u3 u4 : Int) (u7 : Int64) : ∀ (f : Nat) (w9 : Int64) (w11 w12 : Int) (σ : ST), wh_reckon_L18 bb u0 u1 u3 u4 u7 f w9 w11 w12 σ = wh_reckon_L18 (0, 0) u0 u1 u3 u4 u7 f w9 w11 w12 σ := by
  intro f
  induction f with
  | zero => intros; rfl
  | succ f ih =>
    intro w9 w11 w12 σ
    rw [wh_reckon_L18, wh_reckon_L18]
    simp only [ih]
    rfl
theorem bb_L106 (u0 : Nat) (u7 : Int64) : ∀ (f : Nat) (w9 : Int64) (w11 : Int) (σ : ST), wh_reckon_L106 bb u0 u7 f w9 w11 σ = wh_reckon_L106 (0, 0) u0 u7 f w9 w11 σ := by
  intro f
  induction f with
  | zero => intros; rfl
  | succ f ih =>
    intro w9 w11 σ
    rw [wh_reckon_L106, wh_reckon_L106]
    simp only [ih]
    rfl
theorem bb_reckon (a0 : Nat) (a1 : Option Nat) (a2 a3 a4 : Int) (a5 : Int64) (σ : ST) : wh_reckon bb a0 a1 a2 a3 a4 a5 σ = wh_reckon (0, 0) a0 a1 a2 a3 a4 a5 σ := by
  unfold wh_reckon
  simp only [bb_L18 bb, bb_L106 bb]
theorem bb_L42 (u0 : Nat) (u1 : Option Nat) (u3 : Int) (σ : ST) : ∀ (f : Nat) (w : Int), wh_read_L42 bb u0 u1 u3 σ f w = wh_read_L42 (0, 0) u0 u1 u3 σ f w := by
  intro f
  induction f with
  | zero => intros; rfl
  | succ f ih => intro w; rw [wh_read_L42, wh_read_L42]; simp only [ih]
theorem bb_L107 (u0 : Nat) (u1 : Option Nat) (u3 u4 u5 : Int) (σ : ST) : ∀ (f : Nat) (w : Int), wh_read_L107 bb u0 u1 u3 u4 u5 σ f w = wh_read_L107 (0, 0) u0 u1 u3 u4 u5 σ f w := by
  intro f
  induction f with
  | zero => intros; rfl
  | succ f ih => intro w; rw [wh_read_L107, wh_read_L107]; simp only [ih]
theorem bb_L216 (u0 : Nat) (u1 : Option Nat) (u3 u4 u5 u6 u9 u10 : Int) (σ : ST) : ∀ (f : Nat) (w : Int) (v : Int64), wh_read_L216 bb u0 u1 u3 u4 u5 u6 u9 u10 σ f w v = wh_read_L216 (0, 0) u0 u1 u3 u4 u5 u6 u9 u10 σ f w v := by
  intro f
  induction f with
  | zero => intros; rfl
  | succ f ih => intro w v; rw [wh_read_L216, wh_read_L216]; simp only [ih]
theorem bb_read (a0 : Nat) (a1 : Option Nat) (σ : ST) : wh_read bb a0 a1 σ = wh_read (0, 0) a0 a1 σ := by
  unfold wh_read
  simp only [bb_L42 bb, bb_L107 bb, bb_L216 bb, bb_reckon bb]
end BB
section Sx
variable {σ : ST} {a ra : Nat} {w : List UInt8}
theorem wh_L106 (bb : Nat × Nat) (ha : sc σ a = 15) {W : Int} {W64 : Int64} (hW : W64.toInt = W) : ∀ (q f m s : Nat), s < T64 → (s = 0 ∨ T64 ≤ s * 10 ^ q) → q + 1 < f → m + q < 1000000 → ∃ x' fi', wh_reckon_L106 bb a W64 f (lN m) 1 (pJ σ 226 a (lN s)) = some (fi', pJ σ 226 a x') ∧ (match pz (W.toNat - m) s with | some v => fi' = 1 ∧ x' = lN v ∧ v < T64 | none => fi' = 0) := by
  intro q
  induction q with
  | zero =>
    intro f m s h1 h2 h3 h4
    obtain ⟨f, rfl⟩ : ∃ g, f = g + 1 := ⟨f - 1, by omega⟩
    have hs : s = 0 := by
      rcases h2 with h | h
      · exact h
      · rw [Nat.pow_zero, Nat.mul_one] at h; omega
    subst hs
    refine ⟨lN 0, 1, ?_, ?_⟩
    · rw [wh_reckon_L106, gd_pos (by exact fun _ => by omega), gd_pos (by exact fun _ => ha), if_pos (Or.inr (by rw [sJ_pJ, if_pos ⟨rfl, rfl⟩]; rfl))]
    · rw [pz_zero]; exact ⟨rfl, rfl, by decide⟩
  | succ q ih =>
    intro f m s h1 h2 h3 h4
    obtain ⟨f, rfl⟩ : ∃ g, f = g + 1 := ⟨f - 1, by omega⟩
    have hle : W64 ≤ lN m ↔ W ≤ (m : Int) := by rw [Int64.le_iff_toInt_le, lN_int (by omega), hW]
    rw [wh_reckon_L106, gd_pos (by exact fun _ => by omega), gd_pos (by exact fun _ => ha)]
    by_cases c : W ≤ (m : Int)
    · rw [if_pos (Or.inl (Or.inl (hle.mpr c))), show W.toNat - m = 0 by omega]
      exact ⟨lN s, 1, rfl, rfl, rfl, h1⟩
    · by_cases z : s = 0
      · subst z
        rw [if_pos (Or.inr (by rw [sJ_pJ, if_pos ⟨rfl, rfl⟩]; rfl)), pz_zero]
        exact ⟨lN 0, 1, rfl, rfl, rfl, by decide⟩
      · have hz : ¬ lN s = 0 := fun e => z (by have := congrArg un e; rw [un_lN h1] at this; rw [this]; rfl)
        rw [if_neg (by
          rintro ((e | e) | e)
          · exact c (hle.mp e)
          · omega
          · rw [sJ_pJ, if_pos ⟨rfl, rfl⟩] at e; exact hz e), gd_pos (show sc (pJ σ 226 a (lN s)) a = 15 from ha), wh_grow_eq (x := 0) (s := s) (d := 0) bb (show sc (pJ σ 226 a (lN s)) a = 15 from ha) (by rw [sJ_pJ, if_pos ⟨rfl, rfl⟩]) h1 rfl (by omega), bind_some', nm_eq, show W.toNat - m = (W.toNat - (m + 1)) + 1 by omega, pz, show 10 * s + 0 = 10 * s from rfl]
        by_cases t : 10 * s < T64
        · rw [if_pos t, if_pos t]
          show ∃ x' fi', wh_reckon_L106 bb a W64 f (lN m + 1) 1 (pJ (pJ σ 226 a (lN s)) 226 a (lN (10 * s))) = _ ∧ _
          rw [pJ_pJ, show lN m + 1 = lN (m + 1) from by rw [show (1 : Int64) = lN 1 from rfl, lN_add]]
          refine ih f (m + 1) (10 * s) t (Or.inr ?_) (by omega) (by omega)
          rcases h2 with h | h
          · omega
          · rw [Nat.pow_succ, Nat.mul_comm (10 ^ q) 10, ← Nat.mul_assoc, Nat.mul_comm s 10] at h; exact h
        · rw [if_neg t, if_neg t]
          obtain ⟨f, rfl⟩ : ∃ g, f = g + 1 := ⟨f - 1, by omega⟩
          refine ⟨lN s, 0, ?_, rfl⟩
          show wh_reckon_L106 bb a W64 (f + 1) (lN m + 1) 0 (pJ σ 226 a (lN s)) = _
          rw [wh_reckon_L106, gd_pos (by exact fun _ => by omega), gd_pos (by exact fun _ => ha), if_pos (Or.inl (Or.inr rfl))]
theorem wh_L106z (bb : Nat × Nat) (ha : sc σ a = 15) {W64 x : Int64} {m : Int64} (f : Nat) : wh_reckon_L106 bb a W64 (f + 1) m 0 (pJ σ 226 a x) = some (0, pJ σ 226 a x) := by
  rw [wh_reckon_L106, gd_pos (by exact fun _ => by omega), gd_pos (by exact fun _ => ha), if_pos (Or.inl (Or.inr rfl))]
theorem add_int {x y : Int64} {a b : Int} (hx : x.toInt = a) (hy : y.toInt = b) (ha : -1000000000 ≤ a ∧ a ≤ 1000000000) (hb : -1000000000 ≤ b ∧ b ≤ 1000000000) : (x + y).toInt = a + b := by
  rw [Int64.toInt_add, hx, hy, Int.bmod_def]
  split <;> omega
theorem neg_int {x : Int64} {a : Int} (hx : x.toInt = a) (ha : -1000000000 ≤ a ∧ a ≤ 1000000000) : (-x).toInt = -a := by
  rw [Int64.toInt_neg, hx, Int.bmod_def]
  split <;> omega
theorem pJ_self (σ : ST) (k a : Nat) {v : Int64} (h : sJ σ k a = v) : pJ σ k a v = σ := by
  subst h
  show (sc σ, sI σ, up (sJ σ) k (up (sJ σ k) a (sJ σ k a)), sR σ, sW σ, sA σ, sN σ, sB σ, sE σ, sF σ, sH σ, sZ σ, sC σ, sS σ) = _
  rw [up_self2]
  rfl
theorem wh_reckon_eq (bb : Nat × Nat) (ha : sc σ a = 15) (hr : sc σ ra = 4) (hw : sW σ ra = w) (hl : w.length ≤ 1000) (h0 : sJ σ 226 a = 0) {k0 pt e : Nat} {P : Int} {P64 : Int64} (hP : P64.toInt = P) (hPr : -100000 ≤ P ∧ P ≤ 100000) (he : e ≤ 1000) (hp : pt ≤ 5000) (hk0 : k0 ≤ pt) (hke : k0 ≤ e) (hsh : ∀ j, k0 ≤ j → j < e → (j = pt ∧ lk (wI w) w.length j = 46) ∨ (j ≠ pt ∧ 48 ≤ lk (wI w) w.length j ∧ lk (wI w) w.length j ≤ 57)) : ∃ x' fi', wh_reckon bb a (some ra) (k0 : Int) (pt : Int) (e : Int) P64 σ = some (pI (pJ σ 226 a x') 224 a fi') ∧ (match nv (wI w) w.length k0 pt e ((pt : Int) - (k0 : Int) + P) with | some v => fi' = 1 ∧ x' = lN v ∧ v < T64 | none => fi' = 0) := by
  have hW : (iL ((pt : Int) - (k0 : Int)) + P64).toInt = (pt : Int) - (k0 : Int) + P := add_int (by rw [iL_n (k := pt - k0) (by omega) (by omega), lN_int (by omega)]; omega) hP (by omega) (by omega)
  unfold wh_reckon
  rw [nm_eq]
  have hself : pJ σ 226 a (lN 0) = σ := pJ_self σ 226 a h0
  have hix0 : ix k0 pt k0 = 0 := by unfold ix; rw [if_neg (by omega)]; omega
  have q := wh_L18 bb ha hr hw hl hW he hp hk0 hsh (e - k0) FU k0 0 (lN 0) 1 (by omega) (FU_gt (by omega)) (Nat.le_refl _) (Or.inl ⟨rfl, rfl, by decide⟩)
  rw [hself, if_pos (show (1 : Int) = 1 from rfl), hix0, show lN 0 = (0 : Int64) from rfl] at q
  obtain ⟨x1, f1, q1, q2⟩ := q
  rw [q1, bind_some']
  unfold nv
  have hix : ix k0 pt e < 5000 := by unfold ix; omega
  cases es : sl1 (wI w) w.length pt k0 ((pt : Int) - (k0 : Int) + P) (e - k0) k0 (some 0) with
  | none =>
    rw [es] at q2
    subst q2
    refine ⟨x1, 0, ?_, rfl⟩
    show Option.bind (wh_reckon_L106 bb a (iL ((pt : Int) - (k0 : Int)) + P64) FU (lN (ix k0 pt e)) 0 (pJ σ 226 a x1)) _ = _
    rw [FU_s 0 (by omega), wh_L106z bb ha, bind_some', gd_pos (show sc (pJ σ 226 a x1) a = 15 from ha), gd_pos (by omega), nm_eq]
  | some s =>
    rw [es] at q2
    obtain ⟨p1, p2, p3⟩ := q2
    subst p1 p2
    have r := wh_L106 bb ha hW 20 FU (ix k0 pt e) s p3 (by
      rcases Nat.eq_zero_or_pos s with e | e
      · exact Or.inl e
      · exact Or.inr (Nat.le_trans (by decide) (Nat.le_mul_of_pos_left (10 ^ 20) e))) (FU_gt (by omega)) (by omega)
    obtain ⟨x2, f2, r1, r2⟩ := r
    refine ⟨x2, f2, ?_, r2⟩
    show Option.bind (wh_reckon_L106 bb a (iL ((pt : Int) - (k0 : Int)) + P64) FU (lN (ix k0 pt e)) 1 (pJ σ 226 a (lN s))) _ = _
    have hf : f2 = 0 ∨ f2 = 1 := by
      revert r2
      cases pz (((pt : Int) - (k0 : Int) + P).toNat - ix k0 pt e) s with
      | none => intro r2; exact Or.inl r2
      | some v => intro r2; exact Or.inr r2.1
    rw [r1, bind_some', gd_pos (show sc (pJ σ 226 a x2) a = 15 from ha), gd_pos (by exact hf), nm_eq]
set_option maxHeartbeats 4000000 in
theorem wh_read_eq (ha : sc σ a = 15) (hr : sc σ ra = 4) (hw : sW σ ra = w) (hl : w.length ≤ 1000) : ∃ σ', (∀ bb, wh_read bb a (some ra) σ = some σ') ∧ At1 σ σ' a ∧ (match (if gok (wI w) w.length 0 ∧ g4 (wI w) w.length 0 = w.length then wv (wI w) w.length 0 else none) with | some v => sI σ' 224 a = 1 ∧ sJ σ' 226 a = lN v ∧ v < T64 ∧ sI σ' 225 a = (if lk (wI w) w.length 0 = 45 ∧ v ≠ 0 then 1 else 0) | none => sI σ' 224 a = 0) := by
  have red : (∃ σ', wh_read (0, 0) a (some ra) σ = some σ' ∧ At1 σ σ' a ∧ (match (if gok (wI w) w.length 0 ∧ g4 (wI w) w.length 0 = w.length then wv (wI w) w.length 0 else none) with | some v => sI σ' 224 a = 1 ∧ sJ σ' 226 a = lN v ∧ v < T64 ∧ sI σ' 225 a = (if lk (wI w) w.length 0 = 45 ∧ v ≠ 0 then 1 else 0) | none => sI σ' 224 a = 0)) → ∃ σ', (∀ bb, wh_read bb a (some ra) σ = some σ') ∧ At1 σ σ' a ∧ (match (if gok (wI w) w.length 0 ∧ g4 (wI w) w.length 0 = w.length then wv (wI w) w.length 0 else none) with | some v => sI σ' 224 a = 1 ∧ sJ σ' 226 a = lN v ∧ v < T64 ∧ sI σ' 225 a = (if lk (wI w) w.length 0 = 45 ∧ v ≠ 0 then 1 else 0) | none => sI σ' 224 a = 0) := fun ⟨σ', h1, h2, h3⟩ => ⟨σ', fun bb => by rw [bb_read]; exact h1, h2, h3⟩
  apply red
  have hB := wI_lt w
  generalize hJ : wI w = J at *
  generalize hN : w.length = N at *
  obtain ⟨s1, s2, s3, s4, s5, s6, s7, s8, s9, s10⟩ := g_sp J N 0
  have t1 : g1 J N 0 ≤ 1001 := by omega
  have t2 : g2 J N 0 ≤ 1002 := by omega
  have t4 : g4 J N 0 ≤ 1004 := by omega
  clear s8 s9 s10
  have hrg : ∀ k, -1 ≤ lk J N k ∧ lk J N k < 256 := fun k => lk_rg hB k
  have hm : ∃ m : Int, m = (if lk J N 0 = 45 then 1 else 0) := ⟨_, rfl⟩
  obtain ⟨m, hm⟩ := hm
  have hm2 : m = 0 ∨ m = 1 := by rw [hm]; split <;> omega
  have hmg : m = (g0 J N 0 : Int) := by rw [hm]; unfold g0; split <;> rfl
  have hX : ∃ X, X = pI (pJ (pI σ 224 a 0) 226 a 0) 225 a m := ⟨_, rfl⟩
  obtain ⟨X, hX⟩ := hX
  have xa : sc X a = 15 := by rw [hX]; exact ha
  have xr : sc X ra = 4 := by rw [hX]; exact hr
  have xw : sW X ra = w := by rw [hX]; exact hw
  have hAt : At1 σ X a := by rw [hX]; exact ((at_pI σ 224 a 0).tr (at_pJ _ 226 a 0)).tr (at_pI _ 225 a m)
  have rowX : ∀ (x : Int) (k : Nat), x = (k : Int) → k < 100000 → row_at ra x X = some (lk J N k) := fun x k hx hk => by
    rw [row_at_eq xr hx (by omega), xw, hJ, hN]
  have x224 : sI X 224 a = 0 := by rw [hX, sI_pI, if_neg (by omega), sI_pJ, sI_pI, if_pos ⟨rfl, rfl⟩]
  have x225 : sI X 225 a = m := by rw [hX, sI_pI, if_pos ⟨rfl, rfl⟩]
  have x226 : sJ X 226 a = 0 := by rw [hX, sJ_pI, sJ_pJ, if_pos ⟨rfl, rfl⟩]
  unfold wh_read
  rw [gd_pos ha, nm_eq, gd_pos (show sc (pI σ 224 a 0) a = 15 from ha), nm_eq, bind_some', gd_pos (show sc (pJ (pI σ 224 a 0) 226 a 0) ra = 4 from hr), row_at_eq (x := 0) (k := 0) (show sc (pJ (pI σ 224 a 0) 226 a 0) ra = 4 from hr) rfl (by omega), show sW (pJ (pI σ 224 a 0) 226 a 0) ra = w from hw, hJ, hN, bind_some', gd_pos (rg_byte (hrg 0))]
  have e12 : (if lk J N 0 = 45 then (some 1) else (some 0) : Option Int) = some m := by rw [hm]; split <;> rfl
  rw [e12, bind_some', gd_pos (by omega)]
  have e19 : (if m = 1 then (some 1) else (some 0) : Option Int) = some m := by
    rcases hm2 with e | e
    · rw [if_neg (by omega), e]
    · rw [if_pos e, e]
  rw [e19, bind_some', gd_pos (show sc (pJ (pI σ 224 a 0) 226 a 0) a = 15 from ha), gd_pos (by exact hm2), nm_eq, ← hX, hmg]
  have e42 := wh_L42 (0, 0) a (g0 J N 0 : Int) xr xw (by omega) N FU (g0 J N 0) (by omega) (FU_gt (by omega)) (by omega)
  rw [hJ, hN] at e42
  rw [e42, bind_some', show dg J N (g0 J N 0) = g1 J N 0 from rfl]
  have hc1 : ∃ c : Int, c = (if g0 J N 0 < g1 J N 0 ∧ ¬ (lk J N (g0 J N 0) = 48 ∧ g0 J N 0 + 1 < g1 J N 0) then 1 else 0) := ⟨_, rfl⟩
  obtain ⟨c1, hc1⟩ := hc1
  have c01 : c1 = 0 ∨ c1 = 1 := by rw [hc1]; split <;> omega
  have e36 : (gd (rg (g1 J N 0 : Int)) (gd (rg (g0 J N 0 : Int)) (if (g1 J N 0 : Int) ≤ (g0 J N 0 : Int) then (some 0) else (gd (sc X ra = 4) (Option.bind (row_at ra (g0 J N 0 : Int) X) fun y197 => gd (rg y197) (gd (y197 = 48 → rg ((g0 J N 0 : Int) + 1)) (if (y197 = 48) ∧ (¬ ((g1 J N 0 : Int) = ((g0 J N 0 : Int) + 1))) then (some 0) else (some 1))))))) : Option Int) = some c1 := by
    rw [gd_pos (by omega), gd_pos (by omega), hc1]
    by_cases c : g0 J N 0 < g1 J N 0
    · rw [if_neg (show ¬ (g1 J N 0 : Int) ≤ (g0 J N 0 : Int) by omega), gd_pos xr, rowX _ _ rfl (by omega), bind_some', gd_pos (rg_byte (hrg _)), gd_pos (by omega)]
      by_cases d : lk J N (g0 J N 0) = 48 ∧ g0 J N 0 + 1 < g1 J N 0
      · rw [if_pos (show (lk J N (g0 J N 0) = 48) ∧ (¬ ((g1 J N 0 : Int) = ((g0 J N 0 : Int) + 1))) by omega), if_neg (fun q => q.2 d)]
      · rw [if_neg (show ¬ ((lk J N (g0 J N 0) = 48) ∧ (¬ ((g1 J N 0 : Int) = ((g0 J N 0 : Int) + 1)))) by omega), if_pos ⟨c, d⟩]
    · rw [if_pos (show (g1 J N 0 : Int) ≤ (g0 J N 0 : Int) by omega), if_neg (fun q => c q.1)]
  rw [e36, bind_some', gd_pos xr, rowX _ (g1 J N 0) rfl (by omega), bind_some', gd_pos (rg_byte (hrg _))]
  have hc2 : ∃ c : Int, c = (if c1 = 1 ∧ (lk J N (g1 J N 0) = 46 → g1 J N 0 + 1 < g2 J N 0) then 1 else 0) := ⟨_, rfl⟩
  obtain ⟨c2, hc2⟩ := hc2
  have c02 : c2 = 0 ∨ c2 = 1 := by rw [hc2]; split <;> omega
  have e44 : (if lk J N (g1 J N 0) = 46 then (Option.bind (wh_read_L107 (0, 0) a (some ra) (g0 J N 0 : Int) c1 (g1 J N 0 : Int) X FU ((g1 J N 0 : Int) + 1)) fun (v161 : Int) => Option.bind (gd (rg c1) (gd (¬ (c1 = 0) → rg v161) (gd (¬ (c1 = 0) → rg ((g1 J N 0 : Int) + 1)) (if (c1 = 0) ∨ (v161 ≤ ((g1 J N 0 : Int) + 1)) then (some 0) else (some 1))))) fun (v171 : Int) => some ((v161, v171, v161))) else (some (((g1 J N 0 : Int), c1, (g1 J N 0 : Int)))) : Option (Int × Int × Int)) = some ((g2 J N 0 : Int), c2, (g2 J N 0 : Int)) := by
    by_cases c : lk J N (g1 J N 0) = 46
    · have e2 : g2 J N 0 = dg J N (g1 J N 0 + 1) := if_pos c
      have e107 := wh_L107 (0, 0) a (g0 J N 0 : Int) c1 (g1 J N 0 : Int) xr xw (by omega) N FU (g1 J N 0 + 1) (by omega) (FU_gt (by omega)) (by omega)
      rw [hJ, hN, ← e2] at e107
      rw [if_pos c, show (g1 J N 0 : Int) + 1 = ((g1 J N 0 + 1 : Nat) : Int) by omega, e107, bind_some', gd_pos (by omega), gd_pos (by omega), gd_pos (by omega), hc2]
      by_cases d : c1 = 1 ∧ (lk J N (g1 J N 0) = 46 → g1 J N 0 + 1 < g2 J N 0)
      · have := d.2 c
        rw [if_neg (show ¬ (c1 = 0 ∨ (g2 J N 0 : Int) ≤ ((g1 J N 0 + 1 : Nat) : Int)) by omega), if_pos d]
        rfl
      · rw [if_neg d, if_pos (show c1 = 0 ∨ (g2 J N 0 : Int) ≤ ((g1 J N 0 + 1 : Nat) : Int) by
          rcases c01 with e | e
          · exact Or.inl e
          · right
            by_cases r : g1 J N 0 + 1 < g2 J N 0
            · exact absurd ⟨e, fun _ => r⟩ d
            · omega)]
        rfl
    · have e2 : g2 J N 0 = g1 J N 0 := if_neg c
      have e3 : c2 = c1 := by
        rw [hc2]
        rcases c01 with e | e
        · rw [if_neg (by omega), e]
        · rw [if_pos ⟨e, fun q => absurd q c⟩, e]
      rw [if_neg c, e2, e3]
  rw [e44, bind_some']
  show ∃ σ', (Option.bind (row_at ra (g2 J N 0 : Int) X) fun y48 => Option.bind (gd (rg y48) (gd (¬ (y48 = 101) → ok (row_at ra (g2 J N 0 : Int) X)) (gd (¬ (y48 = 101) → rg (vv (row_at ra (g2 J N 0 : Int) X))) (if (y48 = 101) ∨ ((vv (row_at ra (g2 J N 0 : Int) X)) = 69) then (Option.bind (row_at ra ((g2 J N 0 : Int) + 1) X) fun y82 => Option.bind (gd (rg y82) (if y82 = 45 then (some 1) else (some 0))) fun (v86 : Int) => Option.bind (gd (rg v86) (gd (v86 = 0 → ok (row_at ra ((g2 J N 0 : Int) + 1) X)) (gd (v86 = 0 → rg (vv (row_at ra ((g2 J N 0 : Int) + 1) X))) (if (v86 = 0) ∧ (¬ ((vv (row_at ra ((g2 J N 0 : Int) + 1) X)) = 43)) then (some 0) else (some 1))))) fun (v96 : Int) => nm (((g2 J N 0 : Int) + 1) + v96) fun x100 => Option.bind (wh_read_L216 (0, 0) a (some ra) (g0 J N 0 : Int) c2 (g1 J N 0 : Int) (g2 J N 0 : Int) v86 x100 X FU x100 0) fun (v101 : Int × Int64) => Option.bind (gd (rg c2) (gd (¬ (c2 = 0) → rg v101.1) (gd (¬ (c2 = 0) → rg x100) (if (c2 = 0) ∨ (v101.1 ≤ x100) then (some 0) else (some 1))))) fun (v111 : Int) => Option.bind (gd (rg v86) (if v86 = 0 then (some v101.2) else (some ((-v101.2))))) fun (v118 : Int64) => some ((v101.1, v111, v118))) else (some (((g2 J N 0 : Int), c2, 0))))))) fun (v54 : Int × Int × Int64) => Option.bind (gd (rg v54.2.1) (gd (¬ (v54.2.1 = 0) → rg v54.1) (if (v54.2.1 = 0) ∨ (¬ (v54.1 = ((((sW X ra).length : Nat) : Int)))) then (some X) else (gd (sc X a = 15) (Option.bind (wh_reckon (0, 0) a (some ra) (g0 J N 0 : Int) (g1 J N 0 : Int) (g2 J N 0 : Int) v54.2.2 X) fun y76 => some y76))))) fun (v64 : ST) => gd (sc v64 a = 15) (if (sJ v64 226 a) = 0 then (nm (pI v64 225 a 0) fun σ70 => some σ70) else (some v64))) = some σ' ∧ _
  rw [rowX _ (g2 J N 0) rfl (by omega), bind_some', gd_pos (rg_byte (hrg _)), gd_pos (by exact fun _ => rfl), gd_pos (by exact fun _ => by rw [vv_s]; exact rg_byte (hrg _)), vv_s]
  have hc3 : ∃ c : Int, c = (if c2 = 1 ∧ (isE (lk J N (g2 J N 0)) → g3 J N 0 < g4 J N 0) then 1 else 0) := ⟨_, rfl⟩
  obtain ⟨c3, hc3⟩ := hc3
  have c03 : c3 = 0 ∨ c3 = 1 := by rw [hc3]; split <;> omega
  have e54 : ∃ P64 : Int64, P64.toInt = ept J N 0 (spw J N (g4 J N 0 - g3 J N 0) (g3 J N 0) 0) ∧ (if (lk J N (g2 J N 0) = 101) ∨ (lk J N (g2 J N 0) = 69) then (Option.bind (row_at ra ((g2 J N 0 : Int) + 1) X) fun y82 => Option.bind (gd (rg y82) (if y82 = 45 then (some 1) else (some 0))) fun (v86 : Int) => Option.bind (gd (rg v86) (gd (v86 = 0 → ok (row_at ra ((g2 J N 0 : Int) + 1) X)) (gd (v86 = 0 → rg (vv (row_at ra ((g2 J N 0 : Int) + 1) X))) (if (v86 = 0) ∧ (¬ ((vv (row_at ra ((g2 J N 0 : Int) + 1) X)) = 43)) then (some 0) else (some 1))))) fun (v96 : Int) => nm (((g2 J N 0 : Int) + 1) + v96) fun x100 => Option.bind (wh_read_L216 (0, 0) a (some ra) (g0 J N 0 : Int) c2 (g1 J N 0 : Int) (g2 J N 0 : Int) v86 x100 X FU x100 0) fun (v101 : Int × Int64) => Option.bind (gd (rg c2) (gd (¬ (c2 = 0) → rg v101.1) (gd (¬ (c2 = 0) → rg x100) (if (c2 = 0) ∨ (v101.1 ≤ x100) then (some 0) else (some 1))))) fun (v111 : Int) => Option.bind (gd (rg v86) (if v86 = 0 then (some v101.2) else (some ((-v101.2))))) fun (v118 : Int64) => some ((v101.1, v111, v118))) else (some (((g2 J N 0 : Int), c2, 0))) : Option (Int × Int × Int64)) = some ((g4 J N 0 : Int), c3, P64) := by
    by_cases c : isE (lk J N (g2 J N 0))
    · have e4 : g4 J N 0 = dg J N (g3 J N 0) := if_pos c
      have e3 : g3 J N 0 = if lk J N (g2 J N 0 + 1) = 43 ∨ lk J N (g2 J N 0 + 1) = 45 then g2 J N 0 + 2 else g2 J N 0 + 1 := if_pos c
      rw [if_pos c, show (g2 J N 0 : Int) + 1 = ((g2 J N 0 + 1 : Nat) : Int) by omega, rowX _ (g2 J N 0 + 1) rfl (by omega), bind_some', gd_pos (rg_byte (hrg _))]
      have hu : ∃ u : Int, u = (if lk J N (g2 J N 0 + 1) = 45 then 1 else 0) := ⟨_, rfl⟩
      obtain ⟨u, hu⟩ := hu
      have u01 : u = 0 ∨ u = 1 := by rw [hu]; split <;> omega
      have e86 : (if lk J N (g2 J N 0 + 1) = 45 then (some 1) else (some 0) : Option Int) = some u := by rw [hu]; split <;> rfl
      rw [e86, bind_some', gd_pos (by omega), gd_pos (by exact fun _ => rfl), gd_pos (by exact fun _ => by rw [vv_s]; exact rg_byte (hrg _)), vv_s]
      have e96 : ∃ v : Int, (if (u = 0) ∧ (¬ (lk J N (g2 J N 0 + 1) = 43)) then (some 0) else (some 1) : Option Int) = some v ∧ ((g2 J N 0 + 1 : Nat) : Int) + v = (g3 J N 0 : Int) := by
        by_cases d : lk J N (g2 J N 0 + 1) = 43 ∨ lk J N (g2 J N 0 + 1) = 45
        · rw [if_pos d] at e3
          refine ⟨1, ?_, by omega⟩
          rw [if_neg (by
            rintro ⟨q1, q2⟩
            rcases d with d | d
            · exact q2 d
            · rw [hu, if_pos d] at q1; omega)]
        · rw [if_neg d] at e3
          refine ⟨0, ?_, by omega⟩
          rw [if_pos ⟨by rw [hu, if_neg (fun q => d (Or.inr q))], fun q => d (Or.inl q)⟩]
      obtain ⟨v, e96, e97⟩ := e96
      rw [e96, bind_some', nm_eq, e97]
      have e216 := wh_L216 (0, 0) a (g0 J N 0 : Int) c2 (g1 J N 0 : Int) (g2 J N 0 : Int) u (g3 J N 0 : Int) xr xw (by omega) N FU (g3 J N 0) 0 (by omega) (FU_gt (by omega)) (by omega) (by omega)
      rw [hJ, hN, ← e4, show lN 0 = (0 : Int64) from rfl] at e216
      rw [e216, bind_some']
      have hsp : spw J N (g4 J N 0 - g3 J N 0) (g3 J N 0) 0 ≤ 100000 := by
        have hrel := pw_rel (J := J) (N := N) (g4 J N 0 - g3 J N 0) (g3 J N 0) 0 0 (fun j h1 h2 => (dv_9 (g_exp J N 0 j h1 (by omega))).1) (Or.inl ⟨rfl, by omega⟩)
        omega
      have hsi : (lN (spw J N (g4 J N 0 - g3 J N 0) (g3 J N 0) 0)).toInt = (spw J N (g4 J N 0 - g3 J N 0) (g3 J N 0) 0 : Int) := lN_int (by omega)
      have e111 : (gd (rg c2) (gd (¬ (c2 = 0) → rg (g4 J N 0 : Int)) (gd (¬ (c2 = 0) → rg (g3 J N 0 : Int)) (if (c2 = 0) ∨ ((g4 J N 0 : Int) ≤ (g3 J N 0 : Int)) then (some 0) else (some 1)))) : Option Int) = some c3 := by
        rw [gd_pos (by omega), gd_pos (by omega), gd_pos (by omega), hc3]
        by_cases d : c2 = 1 ∧ (isE (lk J N (g2 J N 0)) → g3 J N 0 < g4 J N 0)
        · have := d.2 c
          rw [if_neg (show ¬ (c2 = 0 ∨ (g4 J N 0 : Int) ≤ (g3 J N 0 : Int)) by omega), if_pos d]
        · rw [if_neg d, if_pos (show c2 = 0 ∨ (g4 J N 0 : Int) ≤ (g3 J N 0 : Int) by
            rcases c02 with e | e
            · exact Or.inl e
            · right
              by_cases r : g3 J N 0 < g4 J N 0
              · exact absurd ⟨e, fun _ => r⟩ d
              · omega)]
      show ∃ P64 : Int64, _ ∧ (Option.bind (gd (rg c2) (gd (¬ (c2 = 0) → rg (g4 J N 0 : Int)) (gd (¬ (c2 = 0) → rg (g3 J N 0 : Int)) (if (c2 = 0) ∨ ((g4 J N 0 : Int) ≤ (g3 J N 0 : Int)) then (some 0) else (some 1))))) fun (v111 : Int) => Option.bind (gd (rg u) (if u = 0 then (some (lN (spw J N (g4 J N 0 - g3 J N 0) (g3 J N 0) 0))) else (some ((-(lN (spw J N (g4 J N 0 - g3 J N 0) (g3 J N 0) 0)))))))  fun (v118 : Int64) => some (((g4 J N 0 : Int), v111, v118))) = _
      rw [e111, bind_some', gd_pos (by omega)]
      unfold ept
      rw [if_pos c]
      by_cases d : lk J N (g2 J N 0 + 1) = 45
      · rw [if_pos d, if_neg (show ¬ u = 0 by rw [hu, if_pos d]; decide)]
        exact ⟨_, neg_int hsi (by omega), rfl⟩
      · rw [if_neg d, if_pos (show u = 0 by rw [hu, if_neg d])]
        exact ⟨_, hsi, rfl⟩
    · have e4 : g4 J N 0 = g2 J N 0 := if_neg c
      have e3 : c3 = c2 := by
        rw [hc3]
        rcases c02 with e | e
        · rw [if_neg (by omega), e]
        · rw [if_pos ⟨e, fun q => absurd q c⟩, e]
      rw [if_neg c, e4, e3]
      refine ⟨0, ?_, rfl⟩
      unfold ept
      rw [if_neg c]
      rfl
  obtain ⟨P64, hP64, e54⟩ := e54
  rw [e54, bind_some']
  show ∃ σ', (Option.bind (gd (rg c3) (gd (¬ (c3 = 0) → rg (g4 J N 0 : Int)) (if (c3 = 0) ∨ (¬ ((g4 J N 0 : Int) = ((((sW X ra).length : Nat) : Int)))) then (some X) else (gd (sc X a = 15) (Option.bind (wh_reckon (0, 0) a (some ra) (g0 J N 0 : Int) (g1 J N 0 : Int) (g2 J N 0 : Int) P64 X) fun y76 => some y76))))) fun (v64 : ST) => gd (sc v64 a = 15) (if (sJ v64 226 a) = 0 then (nm (pI v64 225 a 0) fun σ70 => some σ70) else (some v64))) = some σ' ∧ _
  rw [xw, hN, gd_pos (by omega), gd_pos (by omega)]
  have hg : c3 = 1 ↔ gok J N 0 := by
    constructor
    · intro q
      have h3 : c2 = 1 ∧ (isE (lk J N (g2 J N 0)) → g3 J N 0 < g4 J N 0) := by
        by_cases r : c2 = 1 ∧ (isE (lk J N (g2 J N 0)) → g3 J N 0 < g4 J N 0)
        · exact r
        · rw [hc3, if_neg r] at q; omega
      have h2 : c1 = 1 ∧ (lk J N (g1 J N 0) = 46 → g1 J N 0 + 1 < g2 J N 0) := by
        by_cases r : c1 = 1 ∧ (lk J N (g1 J N 0) = 46 → g1 J N 0 + 1 < g2 J N 0)
        · exact r
        · have q2 := h3.1
          rw [hc2, if_neg r] at q2; omega
      have h1 : g0 J N 0 < g1 J N 0 ∧ ¬ (lk J N (g0 J N 0) = 48 ∧ g0 J N 0 + 1 < g1 J N 0) := by
        by_cases r : g0 J N 0 < g1 J N 0 ∧ ¬ (lk J N (g0 J N 0) = 48 ∧ g0 J N 0 + 1 < g1 J N 0)
        · exact r
        · have q1 := h2.1
          rw [hc1, if_neg r] at q1; omega
      exact ⟨h1.1, h1.2, h2.2, h3.2⟩
    · rintro ⟨q1, q2, q3, q4⟩
      have a1 : c1 = 1 := by rw [hc1, if_pos ⟨q1, q2⟩]
      have a2 : c2 = 1 := by rw [hc2, if_pos ⟨a1, q3⟩]
      rw [hc3, if_pos ⟨a2, q4⟩]
  by_cases hok : gok J N 0 ∧ g4 J N 0 = N
  · have hc31 : c3 = 1 := hg.mpr hok.1
    rw [if_neg (show ¬ (c3 = 0 ∨ ¬ ((g4 J N 0 : Int) = (N : Int))) by have := hok.2; omega), gd_pos xa, if_pos hok]
    have hsp : -100000 ≤ ept J N 0 (spw J N (g4 J N 0 - g3 J N 0) (g3 J N 0) 0) ∧ ept J N 0 (spw J N (g4 J N 0 - g3 J N 0) (g3 J N 0) 0) ≤ 100000 := by
      have hrel := pw_rel (J := J) (N := N) (g4 J N 0 - g3 J N 0) (g3 J N 0) 0 0 (fun j h1 h2 => (dv_9 (g_exp J N 0 j h1 (by omega))).1) (Or.inl ⟨rfl, by omega⟩)
      unfold ept
      split
      · split <;> omega
      · omega
    have hg4 := hok.2
    obtain ⟨x', fi', r1, r2⟩ := wh_reckon_eq (0, 0) xa xr xw (by omega) x226 (k0 := g0 J N 0) (pt := g1 J N 0) (e := g2 J N 0) hP64 hsp (by omega) (by omega) s2 (by omega) (by rw [hJ, hN]; exact fun j h1 h2 => g_shape J N 0 j h1 h2)
    rw [hJ, hN] at r2
    rw [r1, bind_some', bind_some', gd_pos (show sc (pI (pJ X 226 a x') 224 a fi') a = 15 from xa)]
    have h226 : sJ (pI (pJ X 226 a x') 224 a fi') 226 a = x' := by rw [sJ_pI, sJ_pJ, if_pos ⟨rfl, rfl⟩]
    have h224 : sI (pI (pJ X 226 a x') 224 a fi') 224 a = fi' := by rw [sI_pI, if_pos ⟨rfl, rfl⟩]
    have h225 : sI (pI (pJ X 226 a x') 224 a fi') 225 a = m := by rw [sI_pI, if_neg (by omega), sI_pJ, x225]
    have hAt2 : At1 σ (pI (pJ X 226 a x') 224 a fi') a := (hAt.tr (at_pJ _ 226 a x')).tr (at_pI _ 224 a fi')
    have hwv : wv J N 0 = nv J N (g0 J N 0) (g1 J N 0) (g2 J N 0) ((g1 J N 0 : Int) - (g0 J N 0 : Int) + ept J N 0 (spw J N (g4 J N 0 - g3 J N 0) (g3 J N 0) 0)) := rfl
    rw [hwv]
    rw [h226]
    cases env : nv J N (g0 J N 0) (g1 J N 0) (g2 J N 0) ((g1 J N 0 : Int) - (g0 J N 0 : Int) + ept J N 0 (spw J N (g4 J N 0 - g3 J N 0) (g3 J N 0) 0)) with
    | none =>
      rw [env] at r2
      by_cases z : x' = 0
      · rw [if_pos z, nm_eq]
        refine ⟨_, rfl, hAt2.tr (at_pI _ 225 a 0), ?_⟩
        show sI (pI (pI (pJ X 226 a x') 224 a fi') 225 a 0) 224 a = 0
        rw [sI_pI, if_neg (by omega), h224]; exact r2
      · rw [if_neg z]
        exact ⟨_, rfl, hAt2, by show sI (pI (pJ X 226 a x') 224 a fi') 224 a = 0; rw [h224]; exact r2⟩
    | some v =>
      rw [env] at r2
      obtain ⟨p1, p2, p3⟩ := r2
      by_cases z : x' = 0
      · have hv0 : v = 0 := by
          rw [p2] at z
          have := congrArg un z
          rw [un_lN p3] at this
          rw [this]; rfl
        rw [if_pos z, nm_eq]
        refine ⟨_, rfl, hAt2.tr (at_pI _ 225 a 0), ?_, ?_, p3, ?_⟩
        · rw [sI_pI, if_neg (by omega), h224]; exact p1
        · rw [sJ_pI, h226]; exact p2
        · rw [sI_pI, if_pos ⟨rfl, rfl⟩, if_neg (fun q => q.2 hv0)]
      · have hv0 : v ≠ 0 := fun e => z (by rw [p2, e]; rfl)
        rw [if_neg z]
        refine ⟨_, rfl, hAt2, ?_, ?_, p3, ?_⟩
        · rw [h224]; exact p1
        · rw [h226]; exact p2
        · rw [h225, hm]
          by_cases q : lk J N 0 = 45
          · rw [if_pos q, if_pos ⟨q, hv0⟩]
          · rw [if_neg q, if_neg (fun r => q r.1)]
  · rw [if_pos (show c3 = 0 ∨ ¬ ((g4 J N 0 : Int) = (N : Int)) by
      rcases c03 with e | e
      · exact Or.inl e
      · right
        intro q
        exact hok ⟨hg.mp e, by omega⟩), bind_some', gd_pos xa, x226, if_pos rfl, nm_eq, if_neg hok]
    refine ⟨_, rfl, hAt.tr (at_pI _ 225 a 0), ?_⟩
    show sI (pI X 225 a 0) 224 a = 0
    rw [sI_pI, if_neg (by omega)]; exact x224
end Sx
