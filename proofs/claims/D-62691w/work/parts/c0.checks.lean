set_option maxRecDepth 100000
/-! SCHEMAS, CHECKED: what the later checks need -/
/-- a field's object, but for its kind -/
def OBF0 (y : Nat) (σ : ST) (I : Nat → Nat) (n : Nat) (L : Nat → Nat → List Nat) (M : List TyM) (f : TyF) : Prop :=
  sc σ f.1 = 9 ∧ sR σ 128 f.1 = (M[fMs f]?).map (fun m => m.1) ∧ (∃ r, sR σ 129 f.1 = some r ∧ Rt y σ r (tkX I (tkn I n (fNm f)))) ∧ (∃ r, sR σ 130 f.1 = some r ∧ Rt y σ r (jsn (tkX I (tkn I n (fNm f))))) ∧
  sI σ 131 f.1 = (fNo f : Int) ∧ sI σ 133 f.1 = fOn f ∧ sI σ 135 f.1 = fRe f ∧ sI σ 136 f.1 = fPr f ∧
  (L 139 f.1).length = fPa f ∧ ∀ q r : Nat, (L 139 f.1)[q]? = some r → Rt y σ r (tkX I (tkn I n (fTy f + 2 * q)))
def OBS0 (y : Nat) (σ : ST) (I : Nat → Nat) (n : Nat) (ob : Nat → Prop) (L : Nat → Nat → List Nat) (sd root : Nat) (M : List TyM) (E : List TyE) (V : List TyV) (F : List TyF) (O : List TyO) (N : List TyN) : Prop :=
  (ob sd ∧ ob root ∧ sc σ sd = 2 ∧ sR σ 16 sd = some root ∧ sc σ root = 3 ∧ sR σ 32 root = none) ∧
  (∀ (j : Nat) (m : TyM), M[j]? = some m → OBM y σ I n ob root M j m) ∧
  (∀ (j : Nat) (e : TyE), E[j]? = some e → ob e.1 ∧ sc σ e.1 = 8 ∧ sI σ 112 e.1 = (j : Int) ∧ ∃ r, sR σ 113 e.1 = some r ∧ Rt y σ r (tkX I (tkn I n e.2.1))) ∧
  (∀ f, f ∈ F → ob f.1 ∧ OBF0 y σ I n L M f) ∧ (F.map (fun f => f.1)).Nodup ∧
  (∀ v, v ∈ V → Rt y σ v.1 (tkX I (tkn I n v.2.1))) ∧ (∀ o, o ∈ O → Rt y σ o.1 (tkX I (tkn I n o.2.1))) ∧ ∀ w, w ∈ N → Rt y σ w.1 (tkX I (tkn I n w.2.1))
def SFr (y : Nat) (σ : ST) (I : Nat → Nat) (n : Nat) (ob : Nat → Prop) (L : Nat → Nat → List Nat) (sd root : Nat) (M : List TyM) (E : List TyE) (V : List TyV) (F : List TyF) (O : List TyO) (R : List TyR) (N : List TyN) (a0 : Nat) : Prop :=
  HVw y σ ob L ∧ QV sd root M E V F O R N L ∧ OBS0 y σ I n ob L sd root M E V F O N ∧ PW I n M E V F O R N ∧ CNT σ sd M V O R ∧ (sc σ a0 = 10 ∧ sR σ 144 a0 = some sd ∧ a0 < sZ σ)
/-- only kinds of fields were written -/
def RX (σ0 σ : ST) : Prop := sc σ = sc σ0 ∧ sW σ = sW σ0 ∧ sA σ = sA σ0 ∧ sN σ = sN σ0 ∧ sE σ = sE σ0 ∧ (∀ k x, k ≠ 132 → sI σ k x = sI σ0 k x) ∧ (∀ k x, k ≠ 137 → k ≠ 138 → sR σ k x = sR σ0 k x) ∧ sZ σ = sZ σ0 ∧ sS σ = sS σ0 ∧ sC σ = sC σ0 ∧ sF σ = sF σ0 ∧ sB σ = sB σ0 ∧ sH σ = sH σ0 ∧ sJ σ = sJ σ0
/-- a flag that stays up unless B -/
def Gd (v : Int) (B : Prop) : Prop := (v = 0 ∧ B) ∨ (v = 1 ∧ ¬ B)
section S0
variable {y n sd root a0 : Nat} {I : Nat → Nat} {σ σ0 σ1 σ' : ST} {ob : Nat → Prop} {L : Nat → Nat → List Nat} {M : List TyM} {E : List TyE} {V : List TyV} {F : List TyF} {O : List TyO} {R : List TyR} {N : List TyN}
theorem Gd.cg {v : Int} {P Q : Prop} (h : Gd v P) (e : P ↔ Q) : Gd v Q := by
  rcases h with ⟨h1, h2⟩ | ⟨h1, h2⟩
  · exact Or.inl ⟨h1, e.mp h2⟩
  · exact Or.inr ⟨h1, fun q => h2 (e.mpr q)⟩
theorem Gd.rgv {v : Int} {P : Prop} (h : Gd v P) : rg v ∧ zb v := by
  rcases h with ⟨h1, -⟩ | ⟨h1, -⟩ <;> subst h1
  · exact ⟨by omega, by decide⟩
  · exact ⟨by omega, by decide⟩
theorem RX.refl (σ : ST) : RX σ σ := ⟨rfl, rfl, rfl, rfl, rfl, fun _ _ _ => rfl, fun _ _ _ _ => rfl, rfl, rfl, rfl, rfl, rfl, rfl, rfl⟩
theorem RX.tr (h : RX σ0 σ1) (g : RX σ1 σ) : RX σ0 σ := by
  obtain ⟨a1, a2, a3, a4, a5, a6, a7, a8, a9, a10, a11, a12, a13, a14⟩ := h
  obtain ⟨b1, b2, b3, b4, b5, b6, b7, b8, b9, b10, b11, b12, b13, b14⟩ := g
  exact ⟨b1.trans a1, b2.trans a2, b3.trans a3, b4.trans a4, b5.trans a5, fun k x hk => (b6 k x hk).trans (a6 k x hk), fun k x h1 h2 => (b7 k x h1 h2).trans (a7 k x h1 h2), b8.trans a8, b9.trans a9, b10.trans a10, b11.trans a11, b12.trans a12, b13.trans a13, b14.trans a14⟩
theorem RX.pI (σ : ST) (x : Nat) (v : Int) : RX σ (pI σ 132 x v) := ⟨rfl, rfl, rfl, rfl, rfl, fun k b hk => by rw [sI_pI, if_neg (fun e => hk e.1)], fun _ _ _ _ => rfl, rfl, rfl, rfl, rfl, rfl, rfl, rfl⟩
theorem RX.pR (σ : ST) {k : Nat} (hk : k = 137 ∨ k = 138) (x : Nat) (v : Option Nat) : RX σ (pR σ k x v) := ⟨rfl, rfl, rfl, rfl, rfl, fun _ _ _ => rfl, fun j b h1 h2 => by rw [sR_pR, if_neg (fun e => by omega)], rfl, rfl, rfl, rfl, rfl, rfl, rfl⟩
theorem SFk.toR (h : SFk y σ I n ob L sd root M E V F O R N a0) : SFr y σ I n ob L sd root M E V F O R N a0 := by
  obtain ⟨h1, h2, ⟨b1, b2, b3, b4, b5⟩, h4, h5, h6⟩ := h
  refine ⟨h1, h2, ⟨b1, b2, b3, fun f hf => ⟨(b4 f hf).1, ?_⟩, b5⟩, h4, h5, h6⟩
  obtain ⟨c1, c2, c3, c4, c5, c6, c7, c8, c9, cA, cB, cC, cD⟩ := (b4 f hf).2
  exact ⟨c1, c2, c3, c4, c5, c7, c8, c9, cC, cD⟩
theorem HVw.rx (h : HVw y σ0 ob L) (g : RX σ0 σ) : HVw y σ ob L := by
  obtain ⟨a1, a2, a3, a4, a5, a6, a7, a8, a9, a10⟩ := g
  have kk : ∀ k, k ∈ HK → k ≠ 137 ∧ k ≠ 138 := by decide
  refine ⟨fun x hx => by rw [a8]; exact h.1 x hx, fun x k hx hk hc => ?_, fun x x' k k' hx hx' hk hk' hc hc' e => ?_⟩
  · rw [a1] at hc
    obtain ⟨l, e1, e2, e3, e4, e5, e6⟩ := h.2.1 x k hx hk hc
    exact ⟨l, by rw [a7 k x (kk k hk).1 (kk k hk).2]; exact e1, e2, by rw [a8]; exact e3, by rw [a1]; exact e4, by rw [a3, a4]; exact e5, by rw [a4, a5]; exact e6⟩
  · rw [a1] at hc hc'
    rw [a7 k x (kk k hk).1 (kk k hk).2, a7 k' x' (kk k' hk').1 (kk k' hk').2] at e
    exact h.2.2 x x' k k' hx hx' hk hk' hc hc' e
theorem Rt.rx {r : Nat} {w : List UInt8} (h : Rt y σ0 r w) (g : RX σ0 σ) : Rt y σ r w := by
  obtain ⟨h1, h2, h3, h4⟩ := h
  exact ⟨h1, by rw [g.2.2.2.2.2.2.2.1]; exact h2, by rw [g.1]; exact h3, by rw [g.2.1]; exact h4⟩
theorem SFr.rx (h : SFr y σ0 I n ob L sd root M E V F O R N a0) (g : RX σ0 σ) : SFr y σ I n ob L sd root M E V F O R N a0 := by
  obtain ⟨h1, h2, ⟨⟨p1, p2, p3, p4, p5, p6⟩, b2, b3, b4, b5, b6, b7, b8⟩, h4, ⟨c1, c2, c3, c4⟩, h6, h7, h8⟩ := h
  obtain ⟨a1, a2, a3, a4, a5, a6, a7, a8, a9, a10⟩ := id g
  refine ⟨h1.rx g, h2, ⟨⟨p1, p2, by rw [a1]; exact p3, by rw [a7 _ _ (by decide) (by decide)]; exact p4, by rw [a1]; exact p5, by rw [a7 _ _ (by decide) (by decide)]; exact p6⟩, fun j m hm => ?_, fun j e he => ?_, fun f hf => ⟨(b4 f hf).1, ?_⟩, b5, fun v hv => (b6 v hv).rx g, fun v hv => (b7 v hv).rx g, fun v hv => (b8 v hv).rx g⟩, h4, ⟨by rw [a6 _ _ (by decide)]; exact c1, by rw [a6 _ _ (by decide)]; exact c2, by rw [a6 _ _ (by decide)]; exact c3, fun j m hm => by rw [a6 _ _ (by decide)]; exact c4 j m hm⟩, by rw [a1]; exact h6, by rw [a7 _ _ (by decide) (by decide)]; exact h7, by rw [a8]; exact h8⟩
  · obtain ⟨d1, d2, d3, d4, ⟨r, d5, d6⟩, d7, d8, d9, dA, fa, dB, dC, dD, dE⟩ := b2 j m hm
    exact ⟨d1, d2, by rw [a1]; exact d3, by rw [a6 _ _ (by decide)]; exact d4, ⟨r, by rw [a7 _ _ (by decide) (by decide)]; exact d5, d6.rx g⟩, by rw [a7 _ _ (by decide) (by decide)]; exact d7, by rw [a1]; exact d8, by rw [a7 _ _ (by decide) (by decide)]; exact d9, dA, fa, by rw [a7 _ _ (by decide) (by decide)]; exact dB, dC, by rw [a8]; exact dD, by rw [a1]; exact dE⟩
  · obtain ⟨d1, d2, d3, r, d4, d5⟩ := b3 j e he
    exact ⟨d1, by rw [a1]; exact d2, by rw [a6 _ _ (by decide)]; exact d3, r, by rw [a7 _ _ (by decide) (by decide)]; exact d4, d5.rx g⟩
  · obtain ⟨d1, d2, ⟨r3, d3, d3'⟩, ⟨r4, d4, d4'⟩, d5, d6, d7, d8, d9, dA⟩ := (b4 f hf).2
    exact ⟨by rw [a1]; exact d1, by rw [a7 _ _ (by decide) (by decide)]; exact d2, ⟨r3, by rw [a7 _ _ (by decide) (by decide)]; exact d3, d3'.rx g⟩, ⟨r4, by rw [a7 _ _ (by decide) (by decide)]; exact d4, d4'.rx g⟩, by rw [a6 _ _ (by decide)]; exact d5, by rw [a6 _ _ (by decide)]; exact d6, by rw [a6 _ _ (by decide)]; exact d7, by rw [a6 _ _ (by decide)]; exact d8, d9, fun q r h => (dA q r h).rx g⟩
/-- a field's message -/
theorem SFr.ms (h : SFr y σ I n ob L sd root M E V F O R N a0) {f : TyF} (hf : f ∈ F) : ∃ m, M[fMs f]? = some m ∧ sR σ 128 f.1 = some m.1 ∧ sc σ m.1 = 7 ∧ ob m.1 := by
  obtain ⟨h1, h2, h3, h4, -⟩ := h
  obtain ⟨m, hm, -, -⟩ := drop_at (h4.2.2.2.2.1 f hf).1
  have := (h3.2.2.2.1 f hf).2.2.1
  rw [hm] at this
  obtain ⟨o1, o2, o3, -⟩ := h3.2.1 _ m hm
  exact ⟨m, hm, this, o3, o1⟩
/-! numbers -/
theorem isnum_L44 {fa mo lb : Nat} {no : Int} {w : List Nat} (h1 : sc σ fa = 9) (h2 : sR σ 128 fa = some mo) (h3 : sc σ mo = 7) (h4 : sI σ 102 mo = (w.length : Int)) (h5 : sR σ 101 mo = some lb) (h6 : sc σ lb = 102) (h7 : w.length ≤ sN σ lb) (h8 : ∀ q v : Nat, w[q]? = some v → sE σ lb q = (v : Int)) (h9 : sI σ 131 fa = no) (hno : rg no) (hw : w.length ≤ 1000) (hv : ∀ v, v ∈ w → v < 1000000000) : ∀ (c N k : Nat) (f : Int) (A : Prop), Gd f A → k + c = w.length → c < N → ∃ v, ck_isNumber_L44 (some fa) σ N f (k : Int) = some v ∧ Gd v (A ∨ ∃ x, k ≤ x ∧ x < w.length ∧ ((w.getD x 0 : Nat) : Int) = no)
  | c, 0, k, f, A, _, _, h => by omega
  | 0, N + 1, k, f, A, hf, hk, _ => ⟨f, by rw [ck_isNumber_L44, bind_some', gd_pos h1, h2, bind_some', gd_pos h3, gd_pos (by omega), h4, gd_pos (by omega), if_pos (by omega)], hf.cg (ex_no (by omega)).symm⟩
  | c + 1, N + 1, k, f, A, hf, hk, hN => by
    obtain ⟨v, e1, e2, -⟩ := drop_at (show k < w.length by omega)
    have e3 := h8 k v e1
    have e4 := hv v e2
    have eg : w.getD k 0 = v := by rw [List.getD_eq_getElem?_getD, e1]; rfl
    have ih := fun f' A' hf' => isnum_L44 h1 h2 h3 h4 h5 h6 h7 h8 h9 hno hw hv c N (k + 1) f' A' hf' (by omega) (by omega)
    have st := ex_st (A := A) (H := fun x => ((w.getD x 0 : Nat) : Int) = no) (show k < w.length by omega)
    rw [ck_isNumber_L44, bind_some', gd_pos h1, h2, bind_some', gd_pos h3, gd_pos (by omega), h4, gd_pos (by omega), if_neg (by omega), show (k : Int) + 1 = ((k + 1 : Nat) : Int) by omega]
    rcases hf with ⟨e, hA⟩ | ⟨e, hA⟩
    · subst e
      rw [gd_pos (by omega), gd_pos (by exact fun h => absurd rfl h), gd_pos (by exact fun h => absurd rfl h), gd_pos (by exact fun h => absurd rfl h), gd_pos (by exact fun h => absurd rfl h), gd_pos (by exact fun h => absurd rfl h), if_pos (Or.inl rfl), bind_some']
      obtain ⟨v', v1, v2⟩ := ih 0 (A ∨ ((w.getD k 0 : Nat) : Int) = no) (Or.inl ⟨rfl, Or.inl hA⟩)
      exact ⟨v', v1, v2.cg st⟩
    · subst e
      rw [gd_pos (by omega), h5, gd_pos (by exact fun _ h => by cases h), show ad (some lb) = lb from rfl, gd_pos (by exact fun _ => h6), gd_pos (by exact fun _ => by constructor <;> omega), Int.toNat_natCast, e3, gd_pos (by exact fun _ => by omega), h9, gd_pos (by exact fun _ => hno)]
      by_cases q : ((v : Nat) : Int) = no
      · rw [if_pos (Or.inr q), bind_some']
        obtain ⟨v', v1, v2⟩ := ih 0 (A ∨ ((w.getD k 0 : Nat) : Int) = no) (Or.inl ⟨rfl, Or.inr (by rw [eg]; exact q)⟩)
        exact ⟨v', v1, v2.cg st⟩
      · rw [if_neg (by omega), bind_some']
        obtain ⟨v', v1, v2⟩ := ih 1 (A ∨ ((w.getD k 0 : Nat) : Int) = no) (Or.inr ⟨rfl, fun h => by
          rcases h with h | h
          · exact hA h
          · rw [eg] at h; exact q h⟩)
        exact ⟨v', v1, v2.cg st⟩
theorem isnum_L89 {fa mo la : Nat} {no : Int} {w : List Nat} (h1 : sc σ fa = 9) (h2 : sR σ 128 fa = some mo) (h3 : sc σ mo = 7) (h5 : sR σ 99 mo = some la) (h6 : sc σ la = 16) (h7 : sA σ la = w) (h8 : ∀ q, q ∈ w → sc σ q = 9 ∧ rg (sI σ 131 q)) (h9 : sI σ 131 fa = no) (hno : rg no) (hw : w.length ≤ 1000) : ∀ (c N k : Nat) (f : Int) (A : Prop), Gd f A → k + c = w.length → c < N → ∃ v, ck_isNumber_L89 (some fa) σ N f (k : Int) = some v ∧ Gd v (A ∨ ∃ x, k ≤ x ∧ x < w.length ∧ (w.getD x 0 ≠ fa ∧ sI σ 131 (w.getD x 0) = no))
  | c, 0, k, f, A, _, _, h => by omega
  | 0, N + 1, k, f, A, hf, hk, _ => ⟨f, by rw [ck_isNumber_L89, bind_some', gd_pos h1, h2, bind_some', gd_pos h3, h5, bind_some', gd_pos h6, l_sz h6, bind_some', h7, gd_pos (by omega), gd_pos (by omega), if_pos (by omega), gd_pos hf.rgv.2], hf.cg (ex_no (by omega)).symm⟩
  | c + 1, N + 1, k, f, A, hf, hk, hN => by
    have e2 := h8 _ (mem_gd (show k < w.length by omega))
    have eg := l_gt h6 (i := k) (by rw [h7]; omega) rfl
    rw [h7] at eg
    have ih := fun f' A' hf' => isnum_L89 h1 h2 h3 h5 h6 h7 h8 h9 hno hw c N (k + 1) f' A' hf' (by omega) (by omega)
    have st := ex_st (A := A) (H := fun x => w.getD x 0 ≠ fa ∧ sI σ 131 (w.getD x 0) = no) (show k < w.length by omega)
    rw [ck_isNumber_L89, bind_some', gd_pos h1, h2, bind_some', gd_pos h3, h5, bind_some', gd_pos h6, l_sz h6, bind_some', h7, gd_pos (by omega), gd_pos (by omega), if_neg (by omega), show (k : Int) + 1 = ((k + 1 : Nat) : Int) by omega]
    rcases hf with ⟨e, hA⟩ | ⟨e, hA⟩
    · subst e
      rw [gd_pos (by omega), if_pos rfl, bind_some']
      obtain ⟨v', v1, v2⟩ := ih 0 (A ∨ (w.getD k 0 ≠ fa ∧ sI σ 131 (w.getD k 0) = no)) (Or.inl ⟨rfl, Or.inl hA⟩)
      exact ⟨v', v1, v2.cg st⟩
    · subst e
      rw [gd_pos (by omega), if_neg (by omega), eg, bind_some', gd_pos (by exact fun _ => ok_some _), vo_s, gd_pos (by exact fun _ h => by cases h), show ad (some (w.getD k 0)) = w.getD k 0 from rfl, gd_pos (by exact fun _ => e2.1), gd_pos (by exact fun _ => e2.2), h9, gd_pos (by exact fun _ => hno)]
      by_cases q : w.getD k 0 ≠ fa ∧ sI σ 131 (w.getD k 0) = no
      · rw [if_neg (fun h => by
          rcases h with h | h
          · exact q.1 (Option.some.inj h)
          · exact h q.2), bind_some']
        obtain ⟨v', v1, v2⟩ := ih 0 (A ∨ (w.getD k 0 ≠ fa ∧ sI σ 131 (w.getD k 0) = no)) (Or.inl ⟨rfl, Or.inr q⟩)
        exact ⟨v', v1, v2.cg st⟩
      · have q2 : some (w.getD k 0) = some fa ∨ ¬ sI σ 131 (w.getD k 0) = no := by
          by_cases q3 : w.getD k 0 = fa
          · exact Or.inl (by rw [q3])
          · exact Or.inr (fun h => q ⟨q3, h⟩)
        rw [if_pos q2, bind_some']
        obtain ⟨v', v1, v2⟩ := ih 1 (A ∨ (w.getD k 0 ≠ fa ∧ sI σ 131 (w.getD k 0) = no)) (Or.inr ⟨rfl, fun h => by
          rcases h with h | h
          · exact hA h
          · exact q h⟩)
        exact ⟨v', v1, v2.cg st⟩
end S0
