set_option maxRecDepth 100000
/-! SCHEMAS, READ: what both sides have while they read -/
/-- a row with its bytes -/
def Rt (y : Nat) (σ : ST) (r : Nat) (w : List UInt8) : Prop := y ≤ r ∧ r < sZ σ ∧ sc σ r = 4 ∧ sW σ r = w
/-- the scope of a message, or the outermost -/
def scA (M : List TyM) (root : Nat) : Int → Option Nat
  | Int.ofNat j => (M[j]?).map (fun m => m.2.1)
  | Int.negSucc 0 => some root
  | Int.negSucc (_ + 1) => none
/-- lists of the system's objects -/
def QV (sd root : Nat) (M : List TyM) (E : List TyE) (V : List TyV) (F : List TyF) (O : List TyO) (R : List TyR) (N : List TyN) (L : Nat → Nat → List Nat) : Prop :=
  (L 17 sd = M.map (fun m => m.1) ∧ L 18 sd = E.map (fun e => e.1) ∧ L 19 sd = F.map (fun f => f.1)) ∧
  (∀ p s, scA M root p = some s → L 33 s = (M.filter (fun m => decide (m.2.2.2 = p))).map (fun m => m.1) ∧ L 34 s = (E.filter (fun e => decide (e.2.2 = p))).map (fun e => e.1) ∧ L 35 s = (N.filter (fun w => decide (w.2.2 = p))).map (fun w => w.1)) ∧
  (∀ (j : Nat) (m : TyM), M[j]? = some m → L 99 m.1 = (F.filter (fun f => decide (fMs f = j))).map (fun f => f.1) ∧ L 100 m.1 = (O.filter (fun o => decide (o.2.2 = j))).map (fun o => o.1) ∧ L 101 m.1 = (R.filter (fun r => decide (r.2 = j))).map (fun r => r.1)) ∧
  ∀ (j : Nat) (e : TyE), E[j]? = some e → L 114 e.1 = (V.filter (fun v => decide (v.2.2.2 = j))).map (fun v => v.1) ∧ L 115 e.1 = (V.filter (fun v => decide (v.2.2.2 = j))).map (fun v => v.2.2.1)
/-- a field's object -/
def OBF (y : Nat) (σ : ST) (I : Nat → Nat) (n : Nat) (L : Nat → Nat → List Nat) (M : List TyM) (f : TyF) : Prop :=
  sc σ f.1 = 9 ∧ sR σ 128 f.1 = (M[fMs f]?).map (fun m => m.1) ∧ (∃ r, sR σ 129 f.1 = some r ∧ Rt y σ r (tkX I (tkn I n (fNm f)))) ∧ (∃ r, sR σ 130 f.1 = some r ∧ Rt y σ r (jsn (tkX I (tkn I n (fNm f))))) ∧
  sI σ 131 f.1 = (fNo f : Int) ∧ sI σ 132 f.1 = -1 ∧ sI σ 133 f.1 = fOn f ∧ sI σ 135 f.1 = fRe f ∧ sI σ 136 f.1 = fPr f ∧ sR σ 137 f.1 = none ∧ sR σ 138 f.1 = none ∧
  (L 139 f.1).length = fPa f ∧ ∀ q r : Nat, (L 139 f.1)[q]? = some r → Rt y σ r (tkX I (tkn I n (fTy f + 2 * q)))
def OBM (y : Nat) (σ : ST) (I : Nat → Nat) (n : Nat) (ob : Nat → Prop) (root : Nat) (M : List TyM) (j : Nat) (m : TyM) : Prop :=
  ob m.1 ∧ ob m.2.1 ∧ sc σ m.1 = 7 ∧ sI σ 96 m.1 = (j : Int) ∧ (∃ r, sR σ 97 m.1 = some r ∧ Rt y σ r (tkX I (tkn I n m.2.2.1))) ∧ sR σ 98 m.1 = some m.2.1 ∧ sc σ m.2.1 = 3 ∧ sR σ 32 m.2.1 = scA M root m.2.2.2 ∧ (∃ s, scA M root m.2.2.2 = some s) ∧ ∃ fa, sR σ 103 m.1 = some fa ∧ y ≤ fa ∧ fa < sZ σ ∧ sc σ fa = 103
/-- the system's objects -/
def OBS (y : Nat) (σ : ST) (I : Nat → Nat) (n : Nat) (ob : Nat → Prop) (L : Nat → Nat → List Nat) (sd root : Nat) (M : List TyM) (E : List TyE) (V : List TyV) (F : List TyF) (O : List TyO) (N : List TyN) : Prop :=
  (ob sd ∧ ob root ∧ sc σ sd = 2 ∧ sR σ 16 sd = some root ∧ sc σ root = 3 ∧ sR σ 32 root = none) ∧
  (∀ (j : Nat) (m : TyM), M[j]? = some m → OBM y σ I n ob root M j m) ∧
  (∀ (j : Nat) (e : TyE), E[j]? = some e → ob e.1 ∧ sc σ e.1 = 8 ∧ sI σ 112 e.1 = (j : Int) ∧ ∃ r, sR σ 113 e.1 = some r ∧ Rt y σ r (tkX I (tkn I n e.2.1))) ∧
  (∀ f, f ∈ F → ob f.1 ∧ OBF y σ I n L M f) ∧ (F.map (fun f => f.1)).Nodup ∧
  (∀ v, v ∈ V → Rt y σ v.1 (tkX I (tkn I n v.2.1))) ∧ (∀ o, o ∈ O → Rt y σ o.1 (tkX I (tkn I n o.2.1))) ∧ ∀ w, w ∈ N → Rt y σ w.1 (tkX I (tkn I n w.2.1))
def PSy (y : Nat) (σ : ST) (I : Nat → Nat) (n : Nat) (sd root : Nat) (M : List TyM) (E : List TyE) (V : List TyV) (F : List TyF) (O : List TyO) (R : List TyR) (N : List TyN) : Prop :=
  ∃ ob L, HVw y σ ob L ∧ QV sd root M E V F O R N L ∧ OBS y σ I n ob L sd root M E V F O N
/-- counters -/
def CNT (σ : ST) (sd : Nat) (M : List TyM) (V : List TyV) (O : List TyO) (R : List TyR) : Prop := sI σ 20 sd = (V.length : Int) ∧ sI σ 21 sd = (O.length : Int) ∧ sI σ 22 sd = (R.length : Int) ∧ ∀ (j : Nat) (m : TyM), M[j]? = some m → sI σ 102 m.1 = ((R.filter (fun r => decide (r.2 = j))).length : Int)
/-- the scope that an enum's values lie in -/
def ePa (E : List TyE) (e : Nat) : Int := ((E[e]?).map (fun e => e.2.2)).getD (-1)
/-- what was read is in order -/
def PW (I : Nat → Nat) (n : Nat) (M : List TyM) (E : List TyE) (V : List TyV) (F : List TyF) (O : List TyO) (R : List TyR) (N : List TyN) : Prop :=
  (M.length ≤ 10 ∧ E.length ≤ 6 ∧ V.length ≤ 40 ∧ F.length ≤ 50 ∧ O.length ≤ 12 ∧ R.length ≤ 30) ∧
  (∀ (j : Nat) (m : TyM), M[j]? = some m → -1 ≤ m.2.2.2 ∧ m.2.2.2 < (j : Int) ∧ (tkn I n m.2.2.1).1 = 1 ∧ m.2.2.1 ≤ n) ∧
  (∀ e, e ∈ E → -1 ≤ e.2.2 ∧ e.2.2 < (M.length : Int) ∧ (tkn I n e.2.1).1 = 1 ∧ e.2.1 ≤ n) ∧
  (∀ v, v ∈ V → v.2.2.2 < E.length ∧ v.2.2.1 < 1000000000 ∧ (tkn I n v.2.1).1 = 1 ∧ v.2.1 ≤ n) ∧
  (∀ f, f ∈ F → fMs f < M.length ∧ fNo f < 1000000000 ∧ (tkn I n (fNm f)).1 = 1 ∧ fNm f ≤ n ∧ 1 ≤ fPa f ∧ (∀ q, q < fPa f → (tkn I n (fTy f + 2 * q)).1 = 1 ∧ fTy f + 2 * q ≤ n) ∧ (fRe f = 0 ∨ fRe f = 1) ∧ (fPr f = 0 ∨ fPr f = 1) ∧ (fOn f = -1 ∨ ((∃ o, 0 ≤ fOn f ∧ O[(fOn f).toNat]? = some o ∧ o.2.2 = fMs f) ∧ fRe f = 0))) ∧
  (∀ o, o ∈ O → o.2.2 < M.length ∧ (tkn I n o.2.1).1 = 1 ∧ o.2.1 ≤ n) ∧
  (∀ r, r ∈ R → r.2 < M.length ∧ r.1 < 1000000000) ∧
  List.Perm (N.map (fun w => (w.2.1, w.2.2))) (M.map (fun m => (m.2.2.1, m.2.2.2)) ++ (E.map (fun e => (e.2.1, e.2.2)) ++ V.map (fun v => (v.2.1, ePa E v.2.2.2)))) ∧ V.Pairwise (fun u v => u.2.2.2 ≤ v.2.2.2)
/-- what it cost -/
def Om (I : Nat → Nat) (n i : Nat) (M : List TyM) (E : List TyE) (V : List TyV) (F : List TyF) (O : List TyO) : Nat := 4 * (tkn I n i).2.1 + 16 * i + 260 * M.length + 240 * E.length + 240 * V.length + 360 * F.length + 60 * O.length
def Oc (i : Nat) (M : List TyM) (E : List TyE) (V : List TyV) (F : List TyF) (O : List TyO) : Nat := 9 * i + 20 * M.length + 20 * E.length + 20 * V.length + 20 * F.length + 20 * O.length
/-- the frame of a reading -/
def GR (I : Nat → Nat) (n K a b y : Nat) : Prop := KD I n K ∧ (∀ k, I k < 256) ∧ n ≤ 1000 ∧ y ≤ a ∧ b < y
/-- both sides at token i -/
def PG (I : Nat → Nat) (n K a b y sd root s0 c0 i i2 : Nat) (M : List TyM) (E : List TyE) (V : List TyV) (F : List TyF) (O : List TyO) (R : List TyR) (N : List TyN) (σ : ST) (τ : TT) : Prop :=
  MRd τ I n K i2 ∧ TPS τ M E V F O R ∧ STk σ a b I n (tkn I n i) ∧ sR σ 86 a = some sd ∧ y ≤ sZ σ ∧ PW I n M E V F O R N ∧ PSy y σ I n sd root M E V F O R N ∧ CNT σ sd M V O R ∧ sS σ ≤ s0 + Om I n i M E V F O ∧ sC σ ≤ c0 + Oc i M E V F O
/-- failed -/
def FL (y s0 c0 : Nat) (σ σ' : ST) : Prop := FR (fun x => y ≤ x) σ σ' ∧ sS σ' ≤ s0 + 54000 ∧ sC σ' ≤ c0 + 14000
/-- what is not a reader is as it was, but for counters and lists -/
def Kp (σ σ' : ST) : Prop := sZ σ ≤ sZ σ' ∧ ∀ x, x < sZ σ → sc σ x ≠ 6 → sc σ' x = sc σ x ∧ sW σ' x = sW σ x ∧ (∀ k, k ∉ [20, 21, 22, 102] → sI σ' k x = sI σ k x) ∧ ∀ k, sR σ' k x = sR σ k x
section Kk
variable {y z k l x v n sd root : Nat} {I : Nat → Nat} {σ σ0 σ1 σ' : ST} {ob : Nat → Prop} {L : Nat → Nat → List Nat} {M : List TyM} {E : List TyE} {V : List TyV} {F : List TyF} {O : List TyO} {R : List TyR} {N : List TyN}
theorem FR6.kp (h : FR6 σ σ') : Kp σ σ' := ⟨h.1.1, fun x hx hn => ⟨h.tgE hx, (h.sm hx hn).1, fun k _ => (h.sm hx hn).2.2.2.2.2.2.2.1 k, (h.sm hx hn).2.2.2.2.2.2.2.2.2⟩⟩
theorem LA.kp (h : LA l v σ σ') : Kp σ σ' := by
  obtain ⟨g1, g2, g3, g4, g5, g6, g7, g8, g9, -⟩ := h
  exact ⟨g9.1.1, fun x hx hn => ⟨by rw [g1], by rw [g4], fun k _ => by rw [g2], fun k => by rw [g3]⟩⟩
theorem Kp.tr (h : Kp σ σ1) (g : Kp σ1 σ') : Kp σ σ' := ⟨Nat.le_trans h.1 g.1, fun x hx hn => by
  obtain ⟨a1, a2, a3, a4⟩ := h.2 x hx hn
  obtain ⟨b1, b2, b3, b4⟩ := g.2 x (Nat.lt_of_lt_of_le hx h.1) (by rw [a1]; exact hn)
  exact ⟨b1.trans a1, b2.trans a2, fun k hk => (b3 k hk).trans (a3 k hk), fun k => (b4 k).trans (a4 k)⟩⟩
theorem Kp.setI (σ : ST) {j : Nat} (hj : j ∈ [20, 21, 22, 102]) (b : Nat) (w : Int) : Kp σ (pI σ j b w) := ⟨Nat.le_refl _, fun x hx hn => ⟨rfl, rfl, fun k hk => by
  rw [sI_pI, if_neg (fun e => hk (by rw [e.1]; exact hj))], fun k => rfl⟩⟩
theorem Kp.setE (σ : ST) (b i : Nat) (w : Int) : Kp σ (pE σ b i w) := ⟨Nat.le_refl _, fun x hx hn => ⟨rfl, rfl, fun k hk => rfl, fun k => rfl⟩⟩
theorem Rt.kp {w : List UInt8} (h : Rt y σ x w) (g : Kp σ σ') : Rt y σ' x w := by
  obtain ⟨h1, h2, h3, h4⟩ := h
  obtain ⟨a1, a2, -⟩ := g.2 x h2 (by omega)
  exact ⟨h1, Nat.lt_of_lt_of_le h2 g.1, by rw [a1]; exact h3, by rw [a2]; exact h4⟩
theorem OBF.kp {f : TyF} (h : OBF y σ I n L M f) (hx : f.1 < sZ σ) (g : Kp σ σ') : OBF y σ' I n L M f := by
  obtain ⟨h1, h2, ⟨r3, h3, k3⟩, ⟨r4, h4, k4⟩, h5, h6, h7, h8, h9, hA, hB, hC, hD⟩ := h
  obtain ⟨a1, a2, a3, a4⟩ := g.2 f.1 hx (by omega)
  exact ⟨by rw [a1]; exact h1, by rw [a4]; exact h2, ⟨r3, by rw [a4]; exact h3, k3.kp g⟩, ⟨r4, by rw [a4]; exact h4, k4.kp g⟩, by rw [a3 131 (by decide)]; exact h5, by rw [a3 132 (by decide)]; exact h6, by rw [a3 133 (by decide)]; exact h7, by rw [a3 135 (by decide)]; exact h8, by rw [a3 136 (by decide)]; exact h9, by rw [a4]; exact hA, by rw [a4]; exact hB, hC, fun q r hr => (hD q r hr).kp g⟩
theorem OBM.kp {j : Nat} {m : TyM} (h : OBM y σ I n ob root M j m) (hb : ∀ x, ob x → x < sZ σ) (g : Kp σ σ') : OBM y σ' I n ob root M j m := by
  obtain ⟨h1, h2, h3, h4, ⟨r5, h5, k5⟩, h6, h7, h8, h9, ⟨fa, hA, hB, hC, hD⟩⟩ := h
  obtain ⟨a1, a2, a3, a4⟩ := g.2 m.1 (hb _ h1) (by omega)
  obtain ⟨b1, b2, b3, b4⟩ := g.2 m.2.1 (hb _ h2) (by omega)
  obtain ⟨c1, -⟩ := g.2 fa hC (by omega)
  exact ⟨h1, h2, by rw [a1]; exact h3, by rw [a3 96 (by decide)]; exact h4, ⟨r5, by rw [a4]; exact h5, k5.kp g⟩, by rw [a4]; exact h6, by rw [b1]; exact h7, by rw [b4]; exact h8, h9, fa, by rw [a4]; exact hA, hB, Nat.lt_of_lt_of_le hC g.1, by rw [c1]; exact hD⟩
theorem OBS.kp (h : OBS y σ I n ob L sd root M E V F O N) (hb : ∀ x, ob x → x < sZ σ) (g : Kp σ σ') : OBS y σ' I n ob L sd root M E V F O N := by
  obtain ⟨⟨h1, h2, h3, h4, h5, h6⟩, hM, hE, hF, hN, hV, hO, hW⟩ := h
  obtain ⟨a1, a2, a3, a4⟩ := g.2 sd (hb _ h1) (by omega)
  obtain ⟨b1, b2, b3, b4⟩ := g.2 root (hb _ h2) (by omega)
  refine ⟨⟨h1, h2, by rw [a1]; exact h3, by rw [a4]; exact h4, by rw [b1]; exact h5, by rw [b4]; exact h6⟩, fun j m hm => (hM j m hm).kp hb g, fun j e he => ?_, fun f hf => ⟨(hF f hf).1, (hF f hf).2.kp (hb _ (hF f hf).1) g⟩, hN, fun v hv => (hV v hv).kp g, fun o ho => (hO o ho).kp g, fun w hw => (hW w hw).kp g⟩
  obtain ⟨e1, e2, e3, r, e4, e5⟩ := hE j e he
  obtain ⟨c1, c2, c3, c4⟩ := g.2 e.1 (hb _ e1) (by omega)
  exact ⟨e1, by rw [c1]; exact e2, by rw [c3 112 (by decide)]; exact e3, r, by rw [c4]; exact e4, e5.kp g⟩
theorem PSy.fr (h : PSy y σ I n sd root M E V F O R N) (g : FR6 σ σ') : PSy y σ' I n sd root M E V F O R N := by
  obtain ⟨ob, L, h1, h2, h3⟩ := h
  exact ⟨ob, L, h1.fr g, h2, h3.kp (fun x hx => (h1.1 x hx).2) g.kp⟩
theorem PSy.setI (h : PSy y σ I n sd root M E V F O R N) {j : Nat} (hj : j ∈ [20, 21, 22, 102]) (b : Nat) (w : Int) : PSy y (pI σ j b w) I n sd root M E V F O R N := by
  obtain ⟨ob, L, h1, h2, h3⟩ := h
  exact ⟨ob, L, h1.setI j b w, h2, h3.kp (fun x hx => (h1.1 x hx).2) (Kp.setI σ hj b w)⟩
theorem CNT.si (h : CNT σ sd M V O R) {V' : List TyV} {O' : List TyO} {N' : List TyN} {F' : List TyF} (H : HVw y σ ob L) (B : OBS y σ I n ob L sd root M E V' F' O' N') (g : ∀ x, x < sZ σ → sc σ x ≠ 6 → ∀ k, sI σ' k x = sI σ k x) : CNT σ' sd M V O R := by
  obtain ⟨h1, h2, h3, h4⟩ := h
  have a := g sd (H.1 sd B.1.1).2 (by rw [B.1.2.2.1]; decide)
  refine ⟨by rw [a]; exact h1, by rw [a]; exact h2, by rw [a]; exact h3, fun j m hm => ?_⟩
  have q := B.2.1 j m hm
  have b := g m.1 (H.1 m.1 q.1).2 (by rw [q.2.2.1]; decide)
  rw [b]; exact h4 j m hm
theorem CNT.fr (h : CNT σ sd M V O R) {V' : List TyV} {O' : List TyO} {N' : List TyN} {F' : List TyF} (H : HVw y σ ob L) (B : OBS y σ I n ob L sd root M E V' F' O' N') (g : FR6 σ σ') : CNT σ' sd M V O R := h.si H B (fun _ hx hn k => (g.sm hx hn).2.2.2.2.2.2.2.1 k)
theorem CNT.la (h : CNT σ sd M V O R) (g : LA l v σ σ') : CNT σ' sd M V O R := by
  unfold CNT at h ⊢
  rw [g.2.1]; exact h
end Kk
