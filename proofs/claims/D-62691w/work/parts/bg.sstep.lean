set_option maxRecDepth 100000
/-! SCHEMAS, READ: steps of the system -/
section Sg
variable {y z k l x v n a b i K sd root s s0 c0 : Nat} {p : Int} {I : Nat → Nat} {σ σ0 σ1 σ' : ST} {τ τ0 τ1 τ' : TT} {ob : Nat → Prop} {L L' : Nat → Nat → List Nat} {M : List TyM} {E : List TyE} {V : List TyV} {F : List TyF} {O : List TyO} {R : List TyR} {N : List TyN}
theorem FR.f6 (h : FR (fun x => x = a) σ σ') (ha : sc σ a = 6) : FR6 σ σ' := ⟨h.1, fun x hx => ⟨(h.2 x hx).1, fun hn => (h.2 x hx).2 (fun e => hn (by rw [e]; exact ha))⟩⟩
theorem JO.f6 (h : JO a σ σ') (ha : sc σ a = 6) : FR6 σ σ' := FR.f6 h.1 ha
theorem FR6.tr (h : FR6 σ σ1) (g : FR6 σ1 σ') : FR6 σ σ' := FR.tr h g (fun x hx e => by rw [← (h.2 x hx).1]; exact e)
theorem FR.up {W W' : Nat → Prop} (h : FR W σ σ') (hw : ∀ x, x < sZ σ → W x → W' x) : FR W' σ σ' := ⟨h.1, fun x hx => ⟨(h.2 x hx).1, fun hn => (h.2 x hx).2 (fun e => hn (hw x hx e))⟩⟩
/-- y and what lies behind it was written -/
def FY (y : Nat) (σ σ' : ST) : Prop := FR (fun x => y ≤ x) σ σ'
theorem FY.refl (y : Nat) (σ : ST) : FY y σ σ := FR.refl _ _
theorem FY.tr (h : FY y σ σ1) (g : FY y σ1 σ') : FY y σ σ' := FR.tr h g (fun _ _ e => e)
theorem FR.fy (h : FR (fun x => x = a) σ σ') (ha : y ≤ a) : FY y σ σ' := h.up (fun x _ e => by omega)
theorem FL.make (h : FY y σ0 σ) (hS : sS σ + 6 ≤ s0 + 54000) (hC : sC σ + 1 ≤ c0 + 14000) : FL y s0 c0 σ0 (nX σ) := ⟨FY.tr h (FR.nX _ σ), by rw [sS_nX_]; exact hS, by rw [sC_nX_]; exact hC⟩
theorem FL.tr (h : FY y σ0 σ) (g : FL y s0 c0 σ σ') : FL y s0 c0 σ0 σ' := ⟨FY.tr h g.1, g.2⟩
theorem MB.tk {F : Option TT} (f : TF KP τ0 τ) (h : MB τ F) : MB τ0 F := by
  obtain ⟨τ', h1, h2⟩ := h
  exact ⟨τ', h1, BAD.tk f h2⟩
theorem sr_must1 (bb : Nat × Nat) (a : Nat) (σ : ST) : sr_must bb a 1 σ = some (some (), σ) := by
  unfold sr_must; rw [gd_pos (by omega), if_neg (by omega)]
theorem Rn_srm0 {X : Type} {st : X → ST} {K : X → Prop} {thr : ST → X} {G : Nat × Nat → Unit → ST → Option X} (h1 : st (thr (nX σ)) = nX σ) (h2 : K (thr (nX σ))) : Rn st σ (fun bb => Option.bind (sr_must bb a 0 σ) (tB thr (G bb))) K := by
  refine ⟨thr (nX σ), by rw [h1]; exact (FR.nX (fun _ => True) σ).1, h2, fun bb hf => ?_⟩
  rw [h1] at hf
  show Option.bind (sr_must bb a 0 σ) (tB thr (G bb)) = _
  unfold sr_must s_fail
  rw [gd_pos (by omega), if_pos rfl, gd_pos (show rm bb σ 6 from ⟨hf.1, hf.2⟩)]
  rfl
theorem Om_le (hG : GR I n K a b y) (hw : PW I n M E V F O R N) (hi : i ≤ K) : Om I n i M E V F O ≤ 52360 ∧ Oc i M E V F O ≤ 11360 := by
  obtain ⟨⟨hK, -⟩, -, hn, -⟩ := hG
  obtain ⟨⟨h1, h2, h3, h4, h5, h6⟩, -⟩ := hw
  have := tkn_bd I n i
  unfold Om Oc
  omega
theorem PW.len (hw : PW I n M E V F O R N) : N.length = M.length + (E.length + V.length) := by
  have := hw.2.2.2.2.2.2.2.1.length_eq
  simpa using this
theorem nvl_pow (s : Nat) : ∀ j, (∀ q, q < j → I (s + q) ≤ 57) → nvl I s j < 10 ^ j
  | 0, _ => by show 0 < 1; decide
  | j + 1, h => by
    have ih := nvl_pow s j (fun q hq => h q (by omega))
    have hd := h j (by omega)
    rw [nvl, Nat.pow_succ]
    omega
theorem tkN_lt (h : (tkn I n i).1 = 2) : tkN I (tkn I n i) < 1000000000 := by
  unfold tkN
  obtain ⟨s, s1, s2, s3, s4, s5⟩ := num_tk h
  have gl := rnF_le dch I (n := n) (p := s + 1) (by omega)
  have h1 := nvl_pow (I := I) s ((tkn I n i).2.2 - (tkn I n i).2.1) (fun j hj => by
    have hd : dch (lk I n (s + j)) = true := by
      by_cases e : j = 0
      · rw [e]; exact s4
      · exact rnF_all dch I n _ (s + 1) (s + j) (Nat.le_refl _) (by omega) (by omega)
    have hd2 : 48 ≤ lk I n (s + j) ∧ lk I n (s + j) ≤ 57 := of_decide_eq_true hd
    rw [lk_lt (show s + j < n by omega)] at hd2
    omega)
  rw [← s2] at h1
  refine Nat.lt_of_lt_of_le h1 ?_
  exact Nat.pow_le_pow_right (by decide) (show (tkn I n i).2.2 - (tkn I n i).2.1 ≤ 9 by omega)
theorem STk.ne (h : STk σ a b I n (tkn I n i)) {c : Nat} (hc : sc σ l = c) (h1 : c ≠ 6) (h2 : c ≠ 101) : a ≠ l ∧ b ≠ l := ⟨fun e => h1 (by rw [← hc, ← e]; exact h.1.1), fun e => h2 (by rw [← hc, ← e]; exact h.1.2.2.1)⟩
theorem STk.la {t : Nat × Nat × Nat} (h : STk σ a b I n t) (g : LA l v σ σ') (h1 : a ≠ l) (h2 : b ≠ l) : STk σ' a b I n t := h.fr g.2.2.2.2.2.2.2.2.1 h1 h2
theorem l_sz (h : sc σ l = 16) : l_size l σ = some (((sA σ l).length : Nat) : Int) := by unfold l_size; rw [gd_pos h]
theorem kf1 {c d : Nat} (h : K - i ≤ c) (h2 : i + d ≤ K) (hd : 0 < d) : K - (i + d) ≤ c - 1 := by omega
theorem kf2 {c d m : Nat} (h : K - i ≤ c) (h2 : i + d ≤ K) (hd : 0 < d) (h3 : c + 1 < m + 1) : c - 1 + 1 < m := by omega
end Sg
