set_option maxRecDepth 100000
/-! SCHEMAS, CHECKED: the order of fields, whole -/
/-- only orders were written -/
def OY (y : Nat) (σ σ' : ST) : Prop := FR (fun b => y ≤ b) σ σ' ∧ ∀ x, x < sZ σ → sW σ' x = sW σ x ∧ sA σ' x = sA σ x ∧ sN σ' x = sN σ x ∧ sE σ' x = sE σ x ∧ sF σ' x = sF σ x ∧ (∀ k, k ≠ 134 → sI σ' k x = sI σ k x) ∧ (∀ k, k ≠ 103 → sR σ' k x = sR σ k x) ∧ (sR σ' 103 x = sR σ 103 x ∨ ∃ fa, sR σ' 103 x = some fa ∧ sZ σ ≤ fa ∧ fa < sZ σ' ∧ sc σ' fa = 103)
/-- message mo has its order q -/
def ORd (σ : ST) (y mo : Nat) (w q : List Nat) : Prop := q.Perm w ∧ q.Pairwise (fun a b => sI σ 131 a ≤ sI σ 131 b) ∧ (∃ oa, sR σ 103 mo = some oa ∧ y ≤ oa ∧ oa < sZ σ ∧ sc σ oa = 103 ∧ sN σ oa = q.length ∧ ∀ j, j < q.length → sF σ oa j = q[j]?) ∧ ∀ j x : Nat, q[j]? = some x → sI σ 134 x = (j : Int)
/-- only key 134 was written -/
def IX (σ σ' : ST) : Prop := sc σ' = sc σ ∧ sR σ' = sR σ ∧ sW σ' = sW σ ∧ sA σ' = sA σ ∧ sN σ' = sN σ ∧ sE σ' = sE σ ∧ sF σ' = sF σ ∧ sZ σ' = sZ σ ∧ sS σ' = sS σ ∧ sC σ' = sC σ ∧ sB σ' = sB σ ∧ sH σ' = sH σ ∧ sJ σ' = sJ σ ∧ ∀ k x, k ≠ 134 → sI σ' k x = sI σ k x
section Sj
variable {y n sd root a0 : Nat} {I : Nat → Nat} {σ σ0 σ1 σ' : ST} {ob : Nat → Prop} {L : Nat → Nat → List Nat} {M : List TyM} {E : List TyE} {V : List TyV} {F : List TyF} {O : List TyO} {R : List TyR} {N : List TyN}
theorem OY.refl (y : Nat) (σ : ST) : OY y σ σ := ⟨FR.refl _ _, fun _ _ => ⟨rfl, rfl, rfl, rfl, rfl, fun _ _ => rfl, fun _ _ => rfl, Or.inl rfl⟩⟩
theorem OY.tr (h : OY y σ σ1) (g : OY y σ1 σ') : OY y σ σ' := by
  refine ⟨h.1.tr g.1 (fun _ _ e => e), fun x hx => ?_⟩
  obtain ⟨a1, a2, a3, a4, a5, a6, a7, a8⟩ := h.2 x hx
  have hz := h.1.1.1
  have gz := g.1.1.1
  obtain ⟨b1, b2, b3, b4, b5, b6, b7, b8⟩ := g.2 x (by omega)
  refine ⟨b1.trans a1, b2.trans a2, b3.trans a3, b4.trans a4, b5.trans a5, fun k hk => (b6 k hk).trans (a6 k hk), fun k hk => (b7 k hk).trans (a7 k hk), ?_⟩
  rcases b8 with b8 | ⟨fa, c1, c2, c3, c4⟩
  · rcases a8 with a8 | ⟨fa, c1, c2, c3, c4⟩
    · exact Or.inl (b8.trans a8)
    · exact Or.inr ⟨fa, b8.trans c1, c2, by omega, by rw [(g.1.2 fa c3).1]; exact c4⟩
  · exact Or.inr ⟨fa, c1, by omega, c3, c4⟩
theorem HVw.oy (h : HVw y σ ob L) (g : OY y σ σ') : HVw y σ' ob L := by
  have kk : ∀ k, k ∈ HK → k ≠ 103 := by decide
  have hz := g.1.1.1
  have cE : ∀ x, x < sZ σ → sc σ' x = sc σ x := fun x hx => (g.1.2 x hx).1
  refine ⟨fun x hx => ⟨(h.1 x hx).1, by have := (h.1 x hx).2; omega⟩, fun x k hx hk hc => ?_, fun x x' k k' hx hx' hk hk' hc hc' e => ?_⟩
  · rw [cE x (h.1 x hx).2] at hc
    obtain ⟨l, e1, e2, e3, e4, e5, e6⟩ := h.2.1 x k hx hk hc
    obtain ⟨a1, a2, a3, a4, a5, a6, a7, a8⟩ := g.2 l e3
    exact ⟨l, by rw [(g.2 x (h.1 x hx).2).2.2.2.2.2.2.1 k (kk k hk)]; exact e1, e2, by omega, by rw [cE l e3]; exact e4, by rw [a2, a3]; exact e5, by rw [a3, a4]; exact e6⟩
  · rw [cE x (h.1 x hx).2] at hc
    rw [cE x' (h.1 x' hx').2] at hc'
    rw [(g.2 x (h.1 x hx).2).2.2.2.2.2.2.1 k (kk k hk), (g.2 x' (h.1 x' hx').2).2.2.2.2.2.2.1 k' (kk k' hk')] at e
    exact h.2.2 x x' k k' hx hx' hk hk' hc hc' e
theorem Rt.oy {r : Nat} {w : List UInt8} (h : Rt y σ r w) (g : OY y σ σ') : Rt y σ' r w := by
  obtain ⟨h1, h2, h3, h4⟩ := h
  have hz := g.1.1.1
  exact ⟨h1, by omega, by rw [(g.1.2 r h2).1]; exact h3, by rw [(g.2 r h2).1]; exact h4⟩
theorem SFr.oy (h : SFr y σ I n ob L sd root M E V F O R N a0) (g : OY y σ σ') : SFr y σ' I n ob L sd root M E V F O R N a0 := by
  obtain ⟨h1, h2, ⟨⟨p1, p2, p3, p4, p5, p6⟩, b2, b3, b4, b5, b6, b7, b8⟩, h4, ⟨c1, c2, c3, c4⟩, h6, h7, h8⟩ := h
  have hz := g.1.1.1
  have cE : ∀ x, x < sZ σ → sc σ' x = sc σ x := fun x hx => (g.1.2 x hx).1
  have oE : ∀ x, ob x → sc σ' x = sc σ x := fun x hx => cE x (h1.1 x hx).2
  have iE : ∀ x k, ob x → k ≠ 134 → sI σ' k x = sI σ k x := fun x k hx hk => (g.2 x (h1.1 x hx).2).2.2.2.2.2.1 k hk
  have rE : ∀ x k, ob x → k ≠ 103 → sR σ' k x = sR σ k x := fun x k hx hk => (g.2 x (h1.1 x hx).2).2.2.2.2.2.2.1 k hk
  refine ⟨h1.oy g, h2, ⟨⟨p1, p2, by rw [oE _ p1]; exact p3, by rw [rE _ _ p1 (by decide)]; exact p4, by rw [oE _ p2]; exact p5, by rw [rE _ _ p2 (by decide)]; exact p6⟩, fun j m hm => ?_, fun j e he => ?_, fun f hf => ⟨(b4 f hf).1, ?_⟩, b5, fun v hv => (b6 v hv).oy g, fun v hv => (b7 v hv).oy g, fun v hv => (b8 v hv).oy g⟩, h4, ⟨by rw [iE _ _ p1 (by decide)]; exact c1, by rw [iE _ _ p1 (by decide)]; exact c2, by rw [iE _ _ p1 (by decide)]; exact c3, fun j m hm => by rw [iE _ _ (b2 j m hm).1 (by decide)]; exact c4 j m hm⟩, by rw [cE _ h8]; exact h6, by rw [(g.2 _ h8).2.2.2.2.2.2.1 _ (by decide)]; exact h7, by omega⟩
  · obtain ⟨d1, d2, d3, d4, ⟨r, d5, d6⟩, d7, d8, d9, dA, fa, dB, dC, dD, dE⟩ := b2 j m hm
    refine ⟨d1, d2, by rw [oE _ d1]; exact d3, by rw [iE _ _ d1 (by decide)]; exact d4, ⟨r, by rw [rE _ _ d1 (by decide)]; exact d5, d6.oy g⟩, by rw [rE _ _ d1 (by decide)]; exact d7, by rw [oE _ d2]; exact d8, by rw [rE _ _ d2 (by decide)]; exact d9, dA, ?_⟩
    rcases (g.2 m.1 (h1.1 _ d1).2).2.2.2.2.2.2.2 with q | ⟨fb, q1, q2, q3, q4⟩
    · exact ⟨fa, by rw [q]; exact dB, dC, by omega, by rw [cE _ dD]; exact dE⟩
    · exact ⟨fb, q1, by have := h1.1 _ p1; omega, q3, q4⟩
  · obtain ⟨d1, d2, d3, r, d4, d5⟩ := b3 j e he
    exact ⟨d1, by rw [oE _ d1]; exact d2, by rw [iE _ _ d1 (by decide)]; exact d3, r, by rw [rE _ _ d1 (by decide)]; exact d4, d5.oy g⟩
  · obtain ⟨d1, d2, ⟨r3, d3, d3'⟩, ⟨r4, d4, d4'⟩, d5, d6, d7, d8, d9, dA⟩ := (b4 f hf).2
    have o := (b4 f hf).1
    exact ⟨by rw [oE _ o]; exact d1, by rw [rE _ _ o (by decide)]; exact d2, ⟨r3, by rw [rE _ _ o (by decide)]; exact d3, d3'.oy g⟩, ⟨r4, by rw [rE _ _ o (by decide)]; exact d4, d4'.oy g⟩, by rw [iE _ _ o (by decide)]; exact d5, by rw [iE _ _ o (by decide)]; exact d6, by rw [iE _ _ o (by decide)]; exact d7, by rw [iE _ _ o (by decide)]; exact d8, d9, fun q r h => (dA q r h).oy g⟩
/-- the places of the fields are noted -/
theorem ord_L104 {mo oa : Nat} {q : List Nat} (hm : q.length ≤ 1000) (hnd : q.Nodup) : ∀ (c N1 k : Nat) (σ : ST), sc σ mo = 7 → sR σ 103 mo = some oa → sc σ oa = 103 → sN σ oa = q.length → (∀ j, j < q.length → sF σ oa j = q[j]?) → (∀ a, a ∈ q → sc σ a = 9) → k + c = q.length → c < N1 →
    ∃ σ' : ST, (∀ bb : Nat × Nat, mt_order_L104 bb mo N1 (k : Int) σ = some σ') ∧ IX σ σ' ∧ (∀ x : Nat, (∀ j, k ≤ j → q[j]? ≠ some x) → sI σ' 134 x = sI σ 134 x) ∧ ∀ j x : Nat, k ≤ j → q[j]? = some x → sI σ' 134 x = (j : Int)
  | c, 0, k, σ, _, _, _, _, _, _, _, h => by omega
  | 0, N1 + 1, k, σ, h1, h2, h3, h4, h5, h6, hk, _ => by
    refine ⟨σ, fun bb => ?_, ⟨rfl, rfl, rfl, rfl, rfl, rfl, rfl, rfl, rfl, rfl, rfl, rfl, rfl, fun _ _ _ => rfl⟩, fun _ _ => rfl, fun j x h1 h2 => by have := gq_lt h2; omega⟩
    rw [mt_order_L104, gd_pos h1, h2, bind_some', gd_pos h3, gd_pos (by omega), h4, gd_pos (by omega), if_pos (by omega)]
  | c + 1, N1 + 1, k, σ, h1, h2, h3, h4, h5, h6, hk, hN => by
    obtain ⟨x, hx, xm, -⟩ := drop_at (show k < q.length by omega)
    obtain ⟨σ', w1, w2, w3, w4⟩ := ord_L104 hm hnd c N1 (k + 1) (pI σ 134 x (k : Int)) h1 h2 h3 h4 h5 h6 (by omega) (by omega)
    obtain ⟨b1, b2, b3, b4, b5, b6, b7, b8, b9, bA, bB, bC, bD, bE⟩ := w2
    refine ⟨σ', fun bb => ?_, ⟨b1, b2, b3, b4, b5, b6, b7, b8, b9, bA, bB, bC, bD, fun k' x' h => by rw [bE k' x' h, sI_pI, if_neg (fun e => h e.1)]⟩, fun x' hx' => ?_, fun j x' hj hx' => ?_⟩
    · rw [mt_order_L104, gd_pos h1, h2, bind_some', gd_pos h3, gd_pos (by omega), h4, gd_pos (by omega), if_neg (by omega), gd_pos (by constructor <;> omega), Int.toNat_natCast, h5 k (by omega), hx, bind_some', gd_pos (h6 x xm), nm_eq, show (k : Int) + 1 = ((k + 1 : Nat) : Int) by omega]
      exact w1 bb
    · rw [w3 x' (fun j hj => hx' j (by omega)), sI_pI, if_neg (fun e => hx' k (Nat.le_refl _) (by rw [e.2]; exact hx))]
    · by_cases e : j = k
      · subst e
        have ex : x' = x := Option.some.inj (hx'.symm.trans hx)
        subst ex
        rw [w3 x' (fun i hi hq => by
          have p := List.pairwise_iff_getElem.mp hnd j i (gq_lt hx) (gq_lt hq) (by omega)
          rw [(List.getElem?_eq_some_iff.mp hx).2, (List.getElem?_eq_some_iff.mp hq).2] at p
          exact p rfl), sI_pI, if_pos ⟨rfl, rfl⟩]
      · exact w4 j x' (by omega) hx'
theorem nd_inj {α : Type} {g : α → Nat} : ∀ {l : List α}, (l.map g).Nodup → ∀ {a b : α}, a ∈ l → b ∈ l → g a = g b → a = b
  | [], _, a, b, ha, _, _ => by cases ha
  | x :: l, h, a, b, ha, hb, e => by
    rw [List.map_cons, List.nodup_cons] at h
    rcases List.mem_cons.mp ha with h1 | h1
    · rcases List.mem_cons.mp hb with h2 | h2
      · rw [h1, h2]
      · have q : g x ∈ l.map g := List.mem_map.mpr ⟨b, h2, by rw [← e, h1]⟩
        exact absurd q h.1
    · rcases List.mem_cons.mp hb with h2 | h2
      · have q : g x ∈ l.map g := List.mem_map.mpr ⟨a, h1, by rw [e, h2]⟩
        exact absurd q h.1
      · exact nd_inj h.2 h1 h2 e
/-- the fields of a message, by their objects -/
theorem SFr.fl (h : SFr y σ I n ob L sd root M E V F O R N a0) {j : Nat} {m : TyM} (hm : M[j]? = some m) {x : Nat} : x ∈ L 99 m.1 ↔ ∃ f, f ∈ F ∧ fMs f = j ∧ f.1 = x := by
  rw [(h.2.1.2.2.1 j m hm).1, List.mem_map]
  constructor
  · rintro ⟨f, h1, h2⟩
    exact ⟨f, (List.mem_filter.mp h1).1, of_decide_eq_true (List.mem_filter.mp h1).2, h2⟩
  · rintro ⟨f, h1, h2, h3⟩
    exact ⟨f, List.mem_filter.mpr ⟨h1, decide_eq_true h2⟩, h3⟩
theorem order_eq (h : SFr y σ I n ob L sd root M E V F O R N a0) {j : Nat} {m : TyM} (hm : M[j]? = some m) : Rn id σ (fun bb => mt_order bb m.1 σ) (fun σ' => OY y σ σ' ∧ (∃ q, ORd σ' y m.1 (L 99 m.1) q) ∧ (∀ x, x ≠ m.1 → x < sZ σ → sR σ' 103 x = sR σ 103 x) ∧ (∀ x, x < sZ σ → x ∉ L 99 m.1 → sI σ' 134 x = sI σ 134 x) ∧ sS σ' ≤ sS σ + 50 ∧ sC σ' ≤ sC σ + 1) := by
  obtain ⟨H, Q, B, W, C, k1, k2, k3⟩ := id h
  have hl := W.1
  obtain ⟨o1, -, o7, -⟩ := B.2.1 j m hm
  obtain ⟨oy, oz⟩ := H.1 _ o1
  obtain ⟨la, la1, la2, la3, la4, la5, -⟩ := H.get (k := 99) o1 (by decide) o7
  have la4 : sc σ la = 16 := la4
  have la5 := la5 rfl
  have q99 := (Q.2.2.1 j m hm).1
  have n99 : (L 99 m.1).length ≤ 50 := by
    rw [q99, List.length_map]
    exact Nat.le_trans (List.length_filter_le _ _) (by omega)
  have wnd : (L 99 m.1).Nodup := by
    rw [q99]
    exact List.Nodup.sublist (List.Sublist.map _ List.filter_sublist) B.2.2.2.2.1
  have w9 : ∀ a, a ∈ L 99 m.1 → sc σ a = 9 ∧ rg (sI σ 131 a) ∧ y ≤ a ∧ a < sZ σ := fun a ha => by
    obtain ⟨f, f1, f2, f3⟩ := (h.fl hm).mp ha
    obtain ⟨g1, g2, -, -, -, g6, -⟩ := B.2.2.2.1 f f1
    have := (W.2.2.2.2.1 f f1).2.1
    have := H.1 _ g1
    rw [← f3]
    exact ⟨g2, by rw [g6]; omega, this.1, this.2⟩
  unfold mt_order
  refine Rn_eq (fun bb => by rw [gd_pos o7, la1, bind_some', gd_pos la4, l_sz la4, bind_some', la5.1]) ?_
  refine Rn_rmA (n := (L 99 m.1).length) (σ1 := nF σ (L 99 m.1).length) rfl (by omega) (Nat.le_refl _) (Nat.le_refl _) (Nat.le_succ _) ?_
  refine Rn_eq (fun bb => by rw [Int.toNat_natCast, nm_eq, gd_pos (by rw [sc_nF_, if_neg (by omega)]; exact o7), nm_eq]) ?_
  obtain ⟨σ2, e2⟩ : ∃ X, X = pR (nF σ (L 99 m.1).length) 103 m.1 (some (sZ σ)) := ⟨_, rfl⟩
  have f1 : ∀ b, sc σ2 b = if b = sZ σ then 103 else sc σ b := fun b => by rw [e2]; rfl
  have f2 : ∀ k b, sR σ2 k b = if k = 103 ∧ b = m.1 then some (sZ σ) else sR σ k b := fun k b => by rw [e2, sR_pR, sR_nF_]
  have f3 : ∀ b, sN σ2 b = if b = sZ σ then (L 99 m.1).length else sN σ b := fun b => by rw [e2]; rfl
  have f4 : ∀ b, sF σ2 b = if b = sZ σ then (fun _ => none) else sF σ b := fun b => by rw [e2]; rfl
  have f5 : sI σ2 = sI σ := by rw [e2]; rfl
  have f6 : sW σ2 = sW σ := by rw [e2]; rfl
  have f7 : sA σ2 = sA σ := by rw [e2]; rfl
  have f8 : ∀ b, b < sZ σ → sE σ2 b = sE σ b ∧ sB σ2 b = sB σ b ∧ sH σ2 b = sH σ b ∧ ∀ k, sJ σ2 k b = sJ σ k b := fun b hb => by
    obtain ⟨-, g⟩ := (FR.nF (fun _ => False) σ (L 99 m.1).length).2 b hb
    obtain ⟨-, -, -, g4, g5, -, g7, -, g9, -⟩ := g (fun e => e)
    rw [e2]
    exact ⟨g5, g4, g7, g9⟩
  have f9 : sZ σ2 = sZ σ + 1 ∧ sS σ2 = sS σ + (L 99 m.1).length ∧ sC σ2 = sC σ + 1 := by rw [e2]; exact ⟨rfl, rfl, rfl⟩
  obtain ⟨σ3, q, w1, w2, w3, w4, w5⟩ := ord_L16 (mo := m.1) (oa := sZ σ) (la := la) (m := (L 99 m.1).length) (w := L 99 m.1) (by omega) rfl (L 99 m.1).length FU 0 [] σ2 (by rw [f1, if_neg (by omega)]; exact o7) (by rw [f2, if_pos ⟨rfl, rfl⟩]) (by rw [f1, if_pos rfl]) (by rw [f3, if_pos rfl]) (by rw [f2, if_neg (fun e => by omega)]; exact la1) (by rw [f1, if_neg (by omega)]; exact la4) (by rw [f7]; exact la5.1) (fun a ha => by
    obtain ⟨a1, a2, a3, a4⟩ := w9 a ha
    exact ⟨by rw [f1, if_neg (by omega)]; exact a1, by rw [f5]; exact a2⟩) (by rw [List.take_zero]) List.Pairwise.nil (fun j hj => by omega) (by omega) (FU_gt (by omega))
  obtain ⟨b1, b2, b3, b4, b5, b6, b7, b8, b9, bA, bB, bC, bD, bE⟩ := w2
  have ql : q.length = (L 99 m.1).length := w3.length_eq
  obtain ⟨σ4, u1, u2, u3, u4⟩ := ord_L104 (mo := m.1) (oa := sZ σ) (q := q) (by omega) (w3.nodup_iff.mpr wnd) q.length FU 0 σ3 (by rw [b1, f1, if_neg (by omega)]; exact o7) (by rw [b3, f2, if_pos ⟨rfl, rfl⟩]) (by rw [b1, f1, if_pos rfl]) (by rw [b6, f3, if_pos rfl, ql]) (fun j hj => w5 j (by omega)) (fun a ha => by
    obtain ⟨a1, a2, a3, a4⟩ := w9 a (w3.mem_iff.mp ha)
    rw [b1, f1, if_neg (by omega)]; exact a1) (by omega) (FU_gt (by omega))
  obtain ⟨c1, c2, c3, c4, c5, c6, c7, c8, c9, cA, cB, cC, cD, cE⟩ := u2
  refine Rn_eq (G := fun _ => some σ4) (fun bb => by
    rw [← e2]
    have x1 : mt_order_L16 bb m.1 FU 0 σ2 = some σ3 := w1 bb
    have x2 : mt_order_L104 bb m.1 FU 0 σ3 = some σ4 := u1 bb
    rw [x1, bind_some', x2]) ?_
  have g1 : ∀ b, b < sZ σ → sc σ4 b = sc σ b := fun b hb => by rw [c1, b1, f1, if_neg (by omega)]
  have g3 : ∀ b, b < sZ σ → sN σ4 b = sN σ b := fun b hb => by rw [c5, b6, f3, if_neg (by omega)]
  have g4 : ∀ b, b < sZ σ → sF σ4 b = sF σ b := fun b hb => by rw [c7, b8 b (by omega), f4, if_neg (by omega)]
  have g5 : ∀ b, b < sZ σ → sE σ4 b = sE σ b := fun b hb => by rw [c6, b7]; exact (f8 b hb).1
  have g6 : ∀ b, b < sZ σ → sB σ4 b = sB σ b := fun b hb => by rw [cB, bC]; exact (f8 b hb).2.1
  have g7 : ∀ b, b < sZ σ → sH σ4 b = sH σ b := fun b hb => by rw [cC, bD]; exact (f8 b hb).2.2.1
  have g8 : ∀ b, b < sZ σ → ∀ k, sJ σ4 k b = sJ σ k b := fun b hb k => by rw [cD, bE]; exact (f8 b hb).2.2.2 k
  have g9 : ∀ k b, k ≠ 134 → sI σ4 k b = sI σ k b := fun k b hk => by rw [cE k b hk, b2, f5]
  have gA : ∀ b, b ∉ L 99 m.1 → sI σ4 134 b = sI σ 134 b := fun b hb => by
    rw [u3 b (fun j _ hj => hb (w3.mem_iff.mp (List.mem_of_getElem? hj))), b2, f5]
  have gB : ∀ k b, ¬ (k = 103 ∧ b = m.1) → sR σ4 k b = sR σ k b := fun k b hk => by rw [c2, b3, f2, if_neg hk]
  have gC : sR σ4 103 m.1 = some (sZ σ) := by rw [c2, b3, f2, if_pos ⟨rfl, rfl⟩]
  have gZ : sZ σ4 = sZ σ + 1 := by rw [c8, b9, f9.1]
  have gS : sS σ4 = sS σ + (L 99 m.1).length := by rw [c9, bA, f9.2.1]
  have gcC : sC σ4 = sC σ + 1 := by rw [cA, bB, f9.2.2]
  have gD : sc σ4 (sZ σ) = 103 := by rw [c1, b1, f1, if_pos rfl]
  refine Rn_some ⟨by show sZ (nF σ _) ≤ sZ σ4; rw [gZ]; exact Nat.le_refl _, by show sC (nF σ _) ≤ sC σ4; rw [gcC]; exact Nat.le_refl _, by show sS (nF σ _) ≤ sS σ4; rw [gS]; exact Nat.le_refl _⟩ ⟨⟨⟨⟨by omega, by omega, by omega⟩, fun x hx => ⟨g1 x hx, fun hy => ?_⟩⟩, fun x hx => ⟨by rw [c3, b4, f6], by rw [c4, b5, f7], g3 x hx, g5 x hx, g4 x hx, fun k hk => g9 k x hk, fun k hk => gB k x (fun e => hk e.1), ?_⟩⟩, ⟨q, w3, ?_, ⟨sZ σ, gC, by omega, by omega, gD, ?_, ?_⟩, fun j x hx => u4 j x (Nat.zero_le _) hx⟩, fun x hx hz => gB 103 x (fun e => hx e.2), fun x hx hn => gA x hn, by omega, by omega⟩
  · refine ⟨by rw [c3, b4, f6], by rw [c4, b5, f7], g3 x hx, g6 x hx, g5 x hx, g4 x hx, g7 x hx, fun k => ?_, g8 x hx, fun k => gB k x (fun e => by omega)⟩
    by_cases e : k = 134
    · rw [e]
      exact gA x (fun hq => hy (w9 x hq).2.2.1)
    · exact g9 k x e
  · by_cases e : x = m.1
    · exact Or.inr ⟨sZ σ, by rw [e]; exact gC, Nat.le_refl _, by omega, gD⟩
    · exact Or.inl (gB 103 x (fun w => e w.2))
  · have e : ∀ x, sI σ4 131 x = sI σ2 131 x := fun x => by rw [g9 131 x (by decide), f5]
    refine List.Pairwise.imp (fun {a b} p => ?_) w4
    rw [e, e]; exact p
  · rw [c5, b6, f3, if_pos rfl, ql]
  · intro j hj
    rw [c7]; exact w5 j (by omega)
theorem ORd.kept {mo : Nat} {w q : List Nat} (h : ORd σ y mo w q) (g : OY y σ σ') (h1 : sR σ' 103 mo = sR σ 103 mo) (h2 : ∀ f, f ∈ w → sI σ' 134 f = sI σ 134 f) (h3 : ∀ f, f ∈ w → f < sZ σ) : ORd σ' y mo w q := by
  obtain ⟨a1, a2, ⟨oa, c1, c2, c3, c4, c5, c6⟩, a4⟩ := h
  have hz := g.1.1.1
  have e : ∀ f, f ∈ q → sI σ' 131 f = sI σ 131 f := fun f hf => (g.2 f (h3 f (a1.mem_iff.mp hf))).2.2.2.2.2.1 131 (by decide)
  obtain ⟨-, -, d3, -, d5, -⟩ := g.2 oa c3
  refine ⟨a1, List.Pairwise.imp_of_mem (fun {a b} ha hb p => ?_) a2, ⟨oa, by rw [h1]; exact c1, c2, by omega, by rw [(g.1.2 oa c3).1]; exact c4, by rw [d3]; exact c5, fun j hj => by rw [d5]; exact c6 j hj⟩, fun j x hx => ?_⟩
  · rw [e a ha, e b hb]; exact p
  · rw [h2 x (a1.mem_iff.mp (List.mem_of_getElem? hx))]; exact a4 j x hx
theorem fault_L159 {u1 u2 u3 : Int} : ∀ (c N1 j : Nat) (σ : ST), SFr y σ I n ob L sd root M E V F O R N a0 → j + c = M.length → c < N1 →
    Rn id σ (fun bb => ck_fault_L159 bb a0 u1 u2 u3 N1 (j : Int) σ) (fun σ' => OY y σ σ' ∧ (∀ (x : Nat) (m : TyM), j ≤ x → M[x]? = some m → ∃ q, ORd σ' y m.1 (L 99 m.1) q) ∧ (∀ (x : Nat) (m : TyM), x < j → M[x]? = some m → sR σ' 103 m.1 = sR σ 103 m.1 ∧ ∀ f, f ∈ L 99 m.1 → sI σ' 134 f = sI σ 134 f) ∧ sS σ' ≤ sS σ + 50 * c ∧ sC σ' ≤ sC σ + c)
  | c, 0, j, σ, _, _, h => by omega
  | 0, N1 + 1, j, σ, h, hj, _ => by
    obtain ⟨H, Q, B, W, C, k1, k2, k3⟩ := id h
    have hl := W.1
    have d2 : sc σ sd = 2 := B.1.2.2.1
    obtain ⟨l, l1, l2, l3, l4, l5, -⟩ := H.get (k := 17) B.1.1 (by decide) d2
    have l4 : sc σ l = 16 := l4
    have l5 := l5 rfl
    have eL : (L 17 sd).length = M.length := by rw [Q.1.1, List.length_map]
    refine Rn_eq (fun bb => by rw [ck_fault_L159, gd_pos k1, k2, bind_some', gd_pos d2, l1, bind_some', gd_pos l4, l_sz l4, bind_some', l5.1, eL, gd_pos (by omega), gd_pos (by omega), if_pos (by omega)]) ?_
    exact Rn_some (Le.refl _) ⟨OY.refl _ _, fun x m h1 h2 => by have := gq_lt h2; omega, fun _ _ _ _ => ⟨rfl, fun _ _ => rfl⟩, Nat.le_refl _, Nat.le_refl _⟩
  | c + 1, N1 + 1, j, σ, h, hj, hN => by
    obtain ⟨H, Q, B, W, C, k1, k2, k3⟩ := id h
    have hl := W.1
    have d2 : sc σ sd = 2 := B.1.2.2.1
    obtain ⟨l, l1, l2, l3, l4, l5, -⟩ := H.get (k := 17) B.1.1 (by decide) d2
    have l4 : sc σ l = 16 := l4
    have l5 := l5 rfl
    have eL : (L 17 sd).length = M.length := by rw [Q.1.1, List.length_map]
    obtain ⟨m, hm, hmem, -⟩ := drop_at (show j < M.length by omega)
    obtain ⟨o1, -, o7, -⟩ := B.2.1 j m hm
    have eg : l_get l (j : Int) σ = some (some m.1) := by
      rw [l_gt l4 (i := j) (by rw [l5.1, eL]; omega) rfl, l5.1, Q.1.1, List.getD_eq_getElem?_getD, List.getElem?_map, hm]; rfl
    refine Rn_eq (fun bb => by rw [ck_fault_L159, gd_pos k1, k2, bind_some', gd_pos d2, l1, bind_some', gd_pos l4, l_sz l4, bind_some', l5.1, eL, gd_pos (by omega), gd_pos (by omega), if_neg (by omega), eg, bind_some', bind_some', gd_pos o7, show (j : Int) + 1 = ((j + 1 : Nat) : Int) by omega]) ?_
    refine Rn_bind (su := id) (order_eq h hm) (fun σ1 _ A => ?_)
    show Rn _ σ1 _ _
    obtain ⟨a1, ⟨q, a2⟩, a3, a4, a5, a6⟩ := A
    refine Rn.mono (fault_L159 c N1 (j + 1) σ1 (h.oy a1) (by omega) (by omega)) (fun σ' _ A' => ?_)
    obtain ⟨b1, b2, b3, b4, b5⟩ := A'
    have b4 : sS σ' ≤ sS σ1 + 50 * c := b4
    have b5 : sC σ' ≤ sC σ1 + c := b5
    have a5 : sS σ1 ≤ sS σ + 50 := a5
    have a6 : sC σ1 ≤ sC σ + 1 := a6
    have hz := a1.1.1.1
    have fz : ∀ (x : Nat) (m : TyM), M[x]? = some m → ∀ f, f ∈ L 99 m.1 → f < sZ σ := fun x m hx f hf => by
      obtain ⟨g, g1, g2, g3⟩ := (h.fl hx).mp hf
      rw [← g3]; exact (H.1 _ (B.2.2.2.1 g g1).1).2
    refine ⟨a1.tr b1, fun x m' h1 h2 => ?_, fun x m' h1 h2 => ?_, by show sS σ' ≤ _; omega, by show sC σ' ≤ _; omega⟩
    · by_cases e : x = j
      · subst e
        have em : m' = m := Option.some.inj (h2.symm.trans hm)
        subst em
        obtain ⟨d1, d2⟩ := b3 x m' (Nat.lt_succ_self _) h2
        exact ⟨q, a2.kept b1 d1 d2 (fun f hf => by have := fz x m' h2 f hf; omega)⟩
      · exact b2 x m' (by omega) h2
    · obtain ⟨d1, d2⟩ := b3 x m' (by omega) h2
      have mz := (H.1 _ (B.2.1 x m' h2).1).2
      refine ⟨d1.trans (a3 _ (fun e => ?_) mz), fun f hf => (d2 f hf).trans (a4 f (fz x m' h2 f hf) (fun hq => ?_))⟩
      · have := h.minj hm h2 e
        omega
      · obtain ⟨g, g1, g2, g3⟩ := (h.fl h2).mp hf
        obtain ⟨g', g1', g2', g3'⟩ := (h.fl hm).mp hq
        have := nd_inj (g := fun f : TyF => f.1) B.2.2.2.2.1 g1 g1' (g3.trans g3'.symm)
        rw [this] at g2
        omega
end Sj
