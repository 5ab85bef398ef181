set_option maxRecDepth 100000
/-! SCHEMAS, CHECKED: names, by the system -/
/-- what the system has when it checks -/
def SFk (y : Nat) (σ : ST) (I : Nat → Nat) (n : Nat) (ob : Nat → Prop) (L : Nat → Nat → List Nat) (sd root : Nat) (M : List TyM) (E : List TyE) (V : List TyV) (F : List TyF) (O : List TyO) (R : List TyR) (N : List TyN) (a0 : Nat) : Prop :=
  HVw y σ ob L ∧ QV sd root M E V F O R N L ∧ OBS y σ I n ob L sd root M E V F O N ∧ PW I n M E V F O R N ∧ CNT σ sd M V O R ∧ (sc σ a0 = 10 ∧ sR σ 144 a0 = some sd ∧ a0 < sZ σ)
section Sy
variable {y n sd root a0 : Nat} {I : Nat → Nat} {σ σ' : ST} {ob : Nat → Prop} {L : Nat → Nat → List Nat} {M : List TyM} {E : List TyE} {V : List TyV} {F : List TyF} {O : List TyO} {R : List TyR} {N : List TyN}
theorem SFk.fr (h : SFk y σ I n ob L sd root M E V F O R N a0) (g : FR6 σ σ') : SFk y σ' I n ob L sd root M E V F O R N a0 := by
  obtain ⟨h1, h2, h3, h4, h5, h6, h7, h8⟩ := h
  exact ⟨h1.fr g, h2, h3.kp (fun x hx => (h1.1 x hx).2) g.kp, h4, h5.fr h1 h3 g, by rw [g.tgE h8]; exact h6, by rw [(g.sm h8 (by omega)).2.2.2.2.2.2.2.2.2]; exact h7, Nat.lt_of_lt_of_le h8 g.1.1⟩
theorem rtx_map {α : Type} {l : List α} {f : α → Nat} {g : α → List UInt8} (h : ∀ a, a ∈ l → sW σ (f a) = g a) : rtx σ (l.map f) = l.map g := by
  unfold rtx
  rw [List.map_map]
  exact List.map_congr_left h
/-- names twice in message j -/
def CLj (I : Nat → Nat) (n : Nat) (F : List TyF) (O : List TyO) (N : List TyN) (j : Nat) : Prop := ¬ ((N.filter (fun w => decide (w.2.2 = (j : Int)))).map (fun w => tx I n w.2.1)).Nodup ∨ ¬ ((F.filter (fun f => decide (fMs f = j))).map (fun f => tx I n (fNm f)) ++ (O.filter (fun o => decide (o.2.2 = j))).map (fun o => tx I n o.2.1)).Nodup
theorem scope_tw (h : SFk y σ I n ob L sd root M E V F O R N a0) {p : Int} {s : Nat} (hs : scA M root p = some s) : ∃ l v, sR σ 35 s = some l ∧ ck_isTwice (some l) σ = some v ∧ Fg v (¬ ((N.filter (fun w => decide (w.2.2 = p))).map (fun w => tx I n w.2.1)).Nodup) := by
  obtain ⟨H, Q, B, W, -, -⟩ := h
  obtain ⟨os, os3⟩ := B.sc3 hs
  obtain ⟨l, l1, l2, l3, l4, l5, -⟩ := H.get (k := 35) os (by decide) os3
  have l5 := l5 rfl
  have q := (Q.2.1 p s hs).2.2
  have hN := B.2.2.2.2.2.2.2
  have hlen : (L 35 s).length ≤ 1000 := by
    rw [q, List.length_map]
    refine Nat.le_trans (List.length_filter_le _ _) ?_
    rw [W.len]
    have := W.1
    omega
  obtain ⟨v, v1, v2⟩ := isTwice_eq (σ := σ) l4 l5.1 (fun r hr => by
    rw [q] at hr
    obtain ⟨w, w1, w2⟩ := List.mem_map.mp hr
    rw [← w2]; exact (hN w (List.mem_filter.mp w1).1).2.2.1) hlen
  refine ⟨l, v, l1, v1, ?_⟩
  rw [q, rtx_map (g := fun w => tx I n w.2.1) (fun w hw => (hN w (List.mem_filter.mp hw).1).2.2.2)] at v2
  exact v2
theorem clash_loop : ∀ (N1 c j : Nat) (f : Int) (A : Prop) (σ : ST), Fg f A → j + c = M.length → c < N1 → SFk y σ I n ob L sd root M E V F O R N a0 →
    Rn (fun r : Int × ST => r.2) σ (fun bb => ck_namesClash_L16 bb a0 N1 f (j : Int) σ) (fun r => Fg r.1 (A ∨ ∃ x, j ≤ x ∧ x < M.length ∧ CLj I n F O N x) ∧ FR (fun _ => False) σ r.2 ∧ sS r.2 ≤ sS σ + 540 * c ∧ sC r.2 ≤ sC σ + 64 * c)
  | 0, c, j, f, A, σ, _, _, h, _ => by omega
  | N1 + 1, 0, j, f, A, σ, hf, hj, _, h => by
    obtain ⟨H, Q, B, W, C, k1, k2, k3⟩ := h
    have hl := W.1
    have d2 : sc σ sd = 2 := B.1.2.2.1
    obtain ⟨l, l1, l2, l3, l4, l5, -⟩ := H.get (k := 17) B.1.1 (by decide) d2
    have l4 : sc σ l = 16 := l4
    have l5 := l5 rfl
    have eL : (L 17 sd).length = M.length := by rw [Q.1.1, List.length_map]
    refine Rn_eq (fun bb => by rw [ck_namesClash_L16, gd_pos k1, k2, bind_some', gd_pos d2, l1, bind_some', gd_pos l4, l_sz l4, bind_some', l5.1, eL, gd_pos (by omega), gd_pos (by omega), if_pos (by omega), gd_pos hf.rgv.2]) ?_
    exact Rn_some (Le.refl _) ⟨hf.cg (ex_no (by omega)).symm, FR.refl _ _, Nat.le_refl _, Nat.le_refl _⟩
  | N1 + 1, c + 1, j, f, A, σ, hf, hj, hN1, h => by
    obtain ⟨H, Q, B, W, C, k1, k2, k3⟩ := id h
    have hl := W.1
    have d2 : sc σ sd = 2 := B.1.2.2.1
    obtain ⟨l, l1, l2, l3, l4, l5, -⟩ := H.get (k := 17) B.1.1 (by decide) d2
    have l4 : sc σ l = 16 := l4
    have l5 := l5 rfl
    have eL : (L 17 sd).length = M.length := by rw [Q.1.1, List.length_map]
    obtain ⟨m, hm, hmem, -⟩ := drop_at (show j < M.length by omega)
    obtain ⟨o1, o2, o7, o96, o97, o98, o3, o32, -⟩ := B.2.1 j m hm
    have eg : l_get l (j : Int) σ = some (some m.1) := by
      rw [l_gt l4 (i := j) (by rw [l5.1, eL]; omega) rfl, l5.1, Q.1.1, List.getD_eq_getElem?_getD, List.getElem?_map, hm]; rfl
    refine Rn_eq (fun bb => by rw [ck_namesClash_L16, gd_pos k1, k2, bind_some', gd_pos d2, l1, bind_some', gd_pos l4, l_sz l4, bind_some', l5.1, eL, gd_pos (by omega), gd_pos (by omega), if_neg (by omega), eg, bind_some', bind_some', gd_pos o7]) ?_
    refine Rn_nL ?_
    have F1 : ∀ W, FR W σ (nL σ) := fun W => FR.nL W σ
    obtain ⟨σ1, hσ1⟩ : ∃ X, X = nL σ := ⟨_, rfl⟩
    have z1 : sZ σ1 = sZ σ + 1 := by rw [hσ1]; rfl
    have s1 : sS σ1 = sS σ + 3 := by rw [hσ1]; rfl
    have c1 : sC σ1 = sC σ + 1 := by rw [hσ1]; rfl
    have T1 : sc σ1 (sZ σ) = 16 := by rw [hσ1, sc_nL_, if_pos rfl]
    have T1a : sA σ1 (sZ σ) = [] := by rw [hσ1, sA_nL_, if_pos rfl]
    have T1n : sN σ1 (sZ σ) = 0 := by rw [hσ1, sN_nL_, if_pos rfl]
    rw [← hσ1] at F1 ⊢
    have h1 := h.fr (F1 (fun x => sc σ x = 6))
    obtain ⟨H1, Q1, B1, W1, C1, -⟩ := id h1
    obtain ⟨p1, p2, p7, p96, p97, p98, p3, p32, -⟩ := B1.2.1 j m hm
    obtain ⟨la, la1, la2, la3, la4, la5, -⟩ := H1.get (k := 99) p1 (by decide) p7
    obtain ⟨lb, lb1, lb2, lb3, lb4, lb5, -⟩ := H1.get (k := 100) p1 (by decide) p7
    have la4 : sc σ1 la = 16 := la4
    have lb4 : sc σ1 lb = 16 := lb4
    have la5 := la5 rfl
    have lb5 := lb5 rfl
    obtain ⟨q99, q100, -⟩ := Q.2.2.1 j m hm
    have n99 : (L 99 m.1).length ≤ 50 := by
      rw [q99, List.length_map]
      exact Nat.le_trans (List.length_filter_le _ _) (by omega)
    have n100 : (L 100 m.1).length ≤ 12 := by
      rw [q100, List.length_map]
      exact Nat.le_trans (List.length_filter_le _ _) (by omega)
    have laz : la < sZ σ := by
      obtain ⟨x, x1, x2, x3, -⟩ := H.get (k := 99) o1 (by decide) o7
      have : sR σ1 99 m.1 = sR σ 99 m.1 := by rw [hσ1]; rfl
      rw [this, x1] at la1
      have := Option.some.inj la1
      omega
    have lbz : lb < sZ σ := by
      obtain ⟨x, x1, x2, x3, -⟩ := H.get (k := 100) o1 (by decide) o7
      have : sR σ1 100 m.1 = sR σ 100 m.1 := by rw [hσ1]; rfl
      rw [this, x1] at lb1
      have := Option.some.inj lb1
      omega
    have hFm : ∀ x, x ∈ L 99 m.1 → ∃ g, g ∈ F ∧ fMs g = j ∧ g.1 = x := fun x hx => by
      rw [q99] at hx
      obtain ⟨g, g1, g2⟩ := List.mem_map.mp hx
      obtain ⟨g3, g4⟩ := List.mem_filter.mp g1
      exact ⟨g, g3, of_decide_eq_true g4, g2⟩
    have R57 := clash_L57 (a0 := a0) (mo := m.1) (T := sZ σ) (p := la) (w := L 99 m.1) (u1 := f) (u2 := (j : Int)) (by omega) (by omega) FU 0 σ1 p7 la1 la4 la5.1 T1 (by rw [T1a]; decide) (by rw [T1n]; omega) (fun x hx => by
      obtain ⟨g, g1, -, g3⟩ := hFm x hx
      obtain ⟨-, b1, -, ⟨r, r1, r2⟩, -⟩ := B1.2.2.2.1 g g1
      rw [← g3]; exact ⟨b1, r, r1, r2.2.2.1⟩) (by omega) (FU_gt (by omega))
    refine Rn_bind (su := id) R57 (fun σ2 _ A2 => ?_)
    have A2 : LAs (sZ σ) (((L 99 m.1).drop 0).map (fun x => ad (sR σ1 129 x))) σ1 σ2 := A2
    rw [List.drop_zero] at A2
    obtain ⟨a1, a2, a3, a4, a5, a6, a7, a8, a9, a10⟩ := id A2
    have T2a : sA σ2 (sZ σ) = (L 99 m.1).map (fun x => ad (sR σ1 129 x)) := by rw [a6, if_pos rfl, T1a]; rfl
    have R99 := clash_L99 (a0 := a0) (mo := m.1) (T := sZ σ) (p := lb) (w := L 100 m.1) (u1 := f) (u2 := (j : Int)) (by omega) (by omega) FU 0 σ2 (by rw [a1]; exact p7) (by rw [a3]; exact lb1) (by rw [a1]; exact lb4) (by rw [a6, if_neg (by omega)]; exact lb5.1) (by rw [a1]; exact T1) (by rw [T2a, List.length_map]; omega) a7 (fun x hx => by
      rw [q100] at hx
      obtain ⟨g, g1, g2⟩ := List.mem_map.mp hx
      rw [a1, ← g2]
      exact (B1.2.2.2.2.2.2.1 g (List.mem_filter.mp g1).1).2.2.1) (by omega) (FU_gt (by omega))
    refine Rn_bind (su := id) R99 (fun σ3 _ A3 => ?_)
    have A3 : LAs (sZ σ) ((L 100 m.1).drop 0) σ2 σ3 := A3
    rw [List.drop_zero] at A3
    obtain ⟨b1, b2, b3, b4, b5, b6, b7, b8, b9, b10⟩ := id A3
    have T3a : sA σ3 (sZ σ) = (L 99 m.1).map (fun x => ad (sR σ1 129 x)) ++ L 100 m.1 := by rw [b6, if_pos rfl, T2a]
    show Rn _ σ3 _ _
    have F3 : FR (fun _ => False) σ σ3 := FR.tr (FR.tr (F1 _) a8 (fun x hx e => by omega)) b8 (fun x hx e => by omega)
    have h3 := h.fr (F3.up (fun x _ e => e.elim))
    obtain ⟨H3, Q3, B3, -⟩ := id h3
    obtain ⟨r1, r2, r7, -, -, r98, r3, -⟩ := B3.2.1 j m hm
    have hsc : scA M root (j : Int) = some m.2.1 := by rw [scA_n, hm]; rfl
    obtain ⟨l35, v35, e35, t35, g35⟩ := scope_tw h3 hsc
    have txF : ∀ g, g ∈ F → sW σ3 (ad (sR σ1 129 g.1)) = tx I n (fNm g) := fun g hg => by
      obtain ⟨-, w1, -, ⟨r, w2, w3⟩, -⟩ := B1.2.2.2.1 g hg
      rw [w2]
      show sW σ3 r = _
      rw [b4, a4]; exact w3.2.2.2
    have txO : ∀ g, g ∈ O → sW σ3 g.1 = tx I n g.2.1 := fun g hg => by
      have := (B1.2.2.2.2.2.2.1 g hg).2.2.2
      rw [b4, a4]; exact this
    obtain ⟨vT, tT, gT⟩ := isTwice_eq (σ := σ3) (l := sZ σ) (by rw [b1, a1]; exact T1) T3a (fun x hx => by
      rcases List.mem_append.mp hx with hx | hx
      · obtain ⟨f', f1, f2⟩ := List.mem_map.mp hx
        obtain ⟨g, g1, -, g3⟩ := hFm f' f1
        obtain ⟨-, w1, -, ⟨r, w2, w3⟩, -⟩ := B1.2.2.2.1 g g1
        rw [← f2, ← g3, w2, b1, a1]; exact w3.2.2.1
      · rw [q100] at hx
        obtain ⟨g, g1, g2⟩ := List.mem_map.mp hx
        rw [b1, a1, ← g2]
        exact (B1.2.2.2.2.2.2.1 g (List.mem_filter.mp g1).1).2.2.1) (by rw [List.length_append, List.length_map]; omega)
    have eT : rtx σ3 ((L 99 m.1).map (fun x => ad (sR σ1 129 x)) ++ L 100 m.1) = (F.filter (fun f => decide (fMs f = j))).map (fun f => tx I n (fNm f)) ++ (O.filter (fun o => decide (o.2.2 = j))).map (fun o => tx I n o.2.1) := by
      unfold rtx
      rw [List.map_append, q99, q100, List.map_map, List.map_map, List.map_map]
      congr 1
      · exact List.map_congr_left (fun g hg => txF g (List.mem_filter.mp hg).1)
      · exact List.map_congr_left (fun g hg => txO g (List.mem_filter.mp hg).1)
    rw [eT] at gT
    have S3 : sS σ3 ≤ sS σ + 540 ∧ sC σ3 ≤ sC σ + 64 := by
      have e1 : (sA σ3 (sZ σ)).length = (L 99 m.1).length + (L 100 m.1).length := by rw [T3a, List.length_append, List.length_map]
      rw [e1] at b7
      rw [T1n] at a9
      rw [List.length_map] at a10
      omega
    have st := ex_st (A := A) (H := fun x => CLj I n F O N x) (show j < M.length by omega)
    have fin : ∀ v, Fg v (A ∨ CLj I n F O N j) → Rn (fun r : Int × ST => r.2) σ3 (fun bb => ck_namesClash_L16 bb a0 N1 v ((j + 1 : Nat) : Int) σ3) (fun r => Fg r.1 (A ∨ ∃ x, j ≤ x ∧ x < M.length ∧ CLj I n F O N x) ∧ FR (fun _ => False) σ r.2 ∧ sS r.2 ≤ sS σ + 540 * (c + 1) ∧ sC r.2 ≤ sC σ + 64 * (c + 1)) := fun v hv => by
      refine Rn.mono (clash_loop N1 c (j + 1) v _ σ3 hv (by omega) (by omega) h3) (fun r _ hr => ?_)
      obtain ⟨w1, w2, w3, w4⟩ := hr
      exact ⟨w1.cg st, F3.tr w2 (fun _ _ e => e), by omega, by omega⟩
    rcases hf with ⟨e, hA⟩ | ⟨e, hA⟩
    · subst e
      refine Rn_eq (G := fun bb => Option.bind (if ((0 : Int) = 0 ∧ v35 = 0) ∧ vT = 0 then some (0 : Int) else some 1) fun v53 => ck_namesClash_L16 bb a0 N1 v53 ((j + 1 : Nat) : Int) σ3) (fun bb => by
        rw [gd_pos (by omega), gd_pos (by exact fun _ => r7), r98, gd_pos (by exact fun _ h => by cases h), show ad (some m.2.1) = m.2.1 from rfl, gd_pos (by exact fun _ => r3), e35, t35, gd_pos (by exact fun _ => ok_some _), vv_s, gd_pos (by exact fun _ => g35.rgv.1), tT, gd_pos (by exact fun _ => ok_some _), vv_s, gd_pos (by exact fun _ => gT.rgv.1), show (j : Int) + 1 = ((j + 1 : Nat) : Int) by omega]) ?_
      by_cases q : ((0 : Int) = 0 ∧ v35 = 0) ∧ vT = 0
      · refine Rn_eq (fun bb => by rw [if_pos q, bind_some']) ?_
        refine fin 0 (Or.inl ⟨rfl, fun w => ?_⟩)
        rcases w with w | w | w
        · exact hA w
        · rcases g35 with ⟨-, g⟩ | ⟨g, -⟩
          · exact g w
          · have := q.1.2; omega
        · rcases gT with ⟨-, g⟩ | ⟨g, -⟩
          · exact g w
          · have := q.2; omega
      · refine Rn_eq (fun bb => by rw [if_neg q, bind_some']) ?_
        refine fin 1 (Or.inr ⟨rfl, Or.inr ?_⟩)
        rcases g35 with ⟨g, -⟩ | ⟨-, g⟩
        · rcases gT with ⟨g', -⟩ | ⟨-, g'⟩
          · exact absurd ⟨⟨rfl, g⟩, g'⟩ q
          · exact Or.inr g'
        · exact Or.inl g
    · subst e
      refine Rn_eq (G := fun bb => ck_namesClash_L16 bb a0 N1 1 ((j + 1 : Nat) : Int) σ3) (fun bb => by
        rw [gd_pos (by omega), gd_pos (by exact fun h => by cases h), gd_pos (by exact fun h => by cases h), gd_pos (by exact fun h => by cases h), gd_pos (by exact fun h => by cases h), gd_pos (by exact fun h => by cases h), gd_pos (by exact fun h => by cases h.1), gd_pos (by exact fun h => by cases h.1), if_neg (fun h => by cases h.1.1), bind_some', show (j : Int) + 1 = ((j + 1 : Nat) : Int) by omega]) ?_
      exact fin 1 (Or.inr ⟨rfl, Or.inl hA⟩)
theorem clash_eq (h : SFk y σ I n ob L sd root M E V F O R N a0) : Rn (fun r : Int × ST => r.2) σ (fun bb => ck_namesClash bb a0 σ) (fun r => Fg r.1 (¬ ((N.filter (fun w => decide (w.2.2 = -1))).map (fun w => tx I n w.2.1)).Nodup ∨ ∃ x, x < M.length ∧ CLj I n F O N x) ∧ FR (fun _ => False) σ r.2 ∧ sS r.2 ≤ sS σ + 5400 ∧ sC r.2 ≤ sC σ + 640) := by
  obtain ⟨H, Q, B, W, C, k1, k2, k3⟩ := id h
  have hl := W.1
  have d2 : sc σ sd = 2 := B.1.2.2.1
  obtain ⟨l, v, e1, e2, e3⟩ := scope_tw h (p := -1) (s := root) rfl
  unfold ck_namesClash
  refine Rn_eq (fun bb => by rw [gd_pos k1, k2, bind_some', gd_pos d2, B.1.2.2.2.1, bind_some', gd_pos B.1.2.2.2.2.1, e1, e2, bind_some']) ?_
  have L := clash_loop (y := y) (sd := sd) (root := root) (ob := ob) (L := L) (E := E) (V := V) (R := R) (a0 := a0) FU M.length 0 v _ σ e3 (by omega) (FU_gt (by omega)) h
  refine Rn.mono L (fun r _ hr => ?_)
  obtain ⟨w1, w2, w3, w4⟩ := hr
  refine ⟨w1.cg ?_, w2, by omega, by omega⟩
  constructor
  · intro q
    rcases q with q | ⟨x, -, q1, q2⟩
    · exact Or.inl q
    · exact Or.inr ⟨x, q1, q2⟩
  · intro q
    rcases q with q | ⟨x, q1, q2⟩
    · exact Or.inl q
    · exact Or.inr ⟨x, Nat.zero_le _, q1, q2⟩
end Sy
