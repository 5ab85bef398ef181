set_option maxRecDepth 100000
/-! SCHEMAS, READ: names, as the system takes them -/
section Sf
variable {I : Nat → Nat} {n a b i : Nat} {σ σ' : ST} {t : Nat × Nat × Nat}
theorem STk.fr (h : STk σ a b I n t) {W : Nat → Prop} (F : FR W σ σ') (ha : ¬ W a) (hb : ¬ W b) : STk σ' a b I n t := by
  obtain ⟨⟨g1, g2, g3, g4, g5, g6, g7, g8, g9, g10, g11⟩, h2, h3, h4, h5⟩ := h
  have A := F.2 a g10
  have B := F.2 b g11
  have As := A.2 ha
  have Bs := B.2 hb
  have hz := F.1.1
  have sI' : ∀ j, sI σ' j a = sI σ j a := fun j => As.2.2.2.2.2.2.2.1 j
  exact ⟨⟨by rw [A.1]; exact g1, by rw [As.2.2.2.2.2.2.2.2.2]; exact g2, by rw [B.1]; exact g3, by rw [Bs.2.2.1]; exact g4, fun k hk => by rw [Bs.2.2.2.1]; exact g5 k hk, g6, by rw [sI']; exact g7, by rw [sI']; exact g8, g9, by omega, by omega⟩, by rw [sI']; exact h2, by rw [sI']; exact h3, fun q => by rw [sI']; exact h4 q, fun q => by rw [sI']; exact h5 q⟩
/-- the text of a token -/
def tkX (I : Nat → Nat) (t : Nat × Nat × Nat) : List UInt8 := cut I t.2.1 t.2.2
theorem word_len (h : (tkn I n i).1 = 1) : (tkn I n i).2.2 - (tkn I n i).2.1 ≤ 24 := by
  unfold tkn tkT at h ⊢
  by_cases c : n ≤ rnF bch I n (tkP I n i)
  · rw [if_pos c] at h; cases h
  · rw [if_neg c] at h ⊢
    obtain ⟨s, hs⟩ : ∃ s, s = rnF bch I n (tkP I n i) := ⟨_, rfl⟩
    rw [← hs] at h ⊢
    change (tkA I n s).1 = 1 at h
    show (tkA I n s).2 - s ≤ 24
    unfold tkA at h ⊢
    by_cases cl : lch (lk I n s) = true
    · rw [if_pos cl] at h ⊢
      change (if rnF wch I n (s + 1) - s ≤ 24 then 1 else 4) = 1 at h
      show rnF wch I n (s + 1) - s ≤ 24
      by_cases c9 : rnF wch I n (s + 1) - s ≤ 24
      · exact c9
      · rw [if_neg c9] at h; omega
    · rw [if_neg cl] at h
      by_cases cd : dch (lk I n s) = true
      · rw [if_pos cd] at h
        change (if _ then 2 else 4) = 1 at h
        split at h <;> omega
      · rw [if_neg cd] at h
        change (if _ then 3 else 4) = 1 at h
        split at h <;> omega
theorem sl_cut2 {f : Nat → UInt8} (h5 : ∀ k, k < n → (f k).toNat = I k) {q e : Nat} (hq : q ≤ e) (he : e ≤ n) : sl f q (e - q) = cut I q e := by
  unfold sl cut
  refine List.map_congr_left (fun j hj => ?_)
  have hj' := List.mem_range.mp hj
  have hb := h5 (q + j) (by omega)
  rw [← hb]; simp
/-- a name, or thrown -/
def NmO (a b : Nat) (I : Nat → Nat) (n i : Nat) (σ : ST) (r : Option (Option Nat) × ST) : Prop := ((tkn I n i).1 = 1 ∧ r.1 = some (some (sZ σ)) ∧ STk r.2 a b I n (tkn I n (i + 1)) ∧ FR (fun x => x = a) σ r.2 ∧ sZ σ < sZ r.2 ∧ sc r.2 (sZ σ) = 4 ∧ sW r.2 (sZ σ) = tkX I (tkn I n i) ∧ sS r.2 ≤ sS σ + 10 + 4 * ((tkn I n i).2.2 - (tkn I n i).2.1) ∧ sC r.2 ≤ sC σ + 8 ∧ ∀ j, sR r.2 j a = sR σ j a) ∨ ((tkn I n i).1 ≠ 1 ∧ r = (none, nX σ))
theorem sr_name_eq (hI : ∀ k, I k < 256) (h : STk σ a b I n (tkn I n i)) : Rn (fun r : Option (Option Nat) × ST => r.2) σ (fun bb => sr_name bb a σ) (NmO a b I n i σ) := by
  have ht := tkn_bd I n i
  obtain ⟨⟨g1, g2, g3, g4, g5, g6, g7, g8, g9, g10, g11⟩, h2, h3, -⟩ := id h
  unfold sr_name sr_must
  by_cases c : (tkn I n i).1 = 1
  · have hl := word_len c
    refine Rn_eq (fun bb => by rw [gd_pos g1, h2, gd_pos (by omega), if_pos (by omega), bind_some', gd_pos (by omega), if_neg (by omega), bind_some']) ?_
    show Rn (fun r : Option (Option Nat) × ST => r.2) σ (fun bb => gd (rm bb σ 2) (nm (nW σ) fun σ13 => gd (sc σ13 a = 6) (gd (sc σ13 (sZ σ) = 4) (Option.bind (sR σ13 80 a) fun p16 => Option.bind (r_addA bb (sZ σ) p16 (sI σ13 84 a) (sI σ13 82 a) σ13) fun y18 => gd (sc y18 a = 6) (Option.bind (sr_next bb a y18) fun y20 => some ((some (some (sZ σ)), y20))))))) _
    refine Rn_rm (σ1 := nW σ) (Nat.le_refl _) (Nat.le_refl _) (Nat.le_succ _) ?_
    have FW := FR.nW (fun x => x = sZ σ) σ
    have hW : STk (nW σ) a b I n (tkn I n i) := h.fr FW (by omega) (by omega)
    obtain ⟨⟨k1, k2, k3, k4, k5, k6, k7, k8, k9, k10, k11⟩, l2, l3, -⟩ := id hW
    have e4 : sc (nW σ) (sZ σ) = 4 := by rw [sc_nW_, if_pos rfl]
    have hRb : RW (nW σ) (sZ σ) := ⟨e4, by rw [sW_nW_, if_pos rfl]; exact Nat.zero_le _, Or.inl (by rw [sN_nW_, if_pos rfl])⟩
    have ex : sl (sB (nW σ) b) (tkn I n i).2.1 ((tkn I n i).2.2 - (tkn I n i).2.1) = tkX I (tkn I n i) := sl_cut2 k5 ht.2.1 ht.2.2
    have xl : (tkX I (tkn I n i)).length ≤ 24 := by unfold tkX; rw [cut_len]; exact hl
    have hbz : sZ σ ≠ b := by omega
    refine Rn_eq (G := fun bb => Option.bind (r_addL bb (sZ σ) (tkX I (tkn I n i)) (nW σ)) fun y18 => gd (sc y18 a = 6) (Option.bind (sr_next bb a y18) fun y20 => some ((some (some (sZ σ)), y20)))) (fun bb => by
      unfold r_addA
      rw [nm_eq, gd_pos k1, gd_pos e4, k2, bind_some', l3, k8, gd_pos ⟨k3, by omega, by omega, by rw [k4]; omega, by omega, hbz⟩, show (((tkn I n i).2.2 : Int) - ((tkn I n i).2.1 : Int)).toNat = (tkn I n i).2.2 - (tkn I n i).2.1 by omega, Int.toNat_natCast, ex]) ?_
    refine Rn_bind (su := id) (rn_addL _ hRb (by rw [sW_nW_, if_pos rfl]; simp only [List.length_nil]; omega)) (fun Y _ g => ?_)
    have g' : RA (nW σ) (sZ σ) (tkX I (tkn I n i)) Y := g
    obtain ⟨c1, c2, c3, c4, c5⟩ := g'.cost
    have hY : STk Y a b I n (tkn I n i) := hW.fr c5 (by omega) (by omega)
    obtain ⟨Z, q1, q2, q3⟩ := sr_next_k hI hY
    have eqZ : sC Z = sC Y ∧ sS Z = sS Y ∧ sZ Z = sZ Y := ⟨q3.2.1, q3.2.2.1, q3.2.2.2.1⟩
    refine Rn_eq (G := fun bb => some ((some (some (sZ σ)), Z))) (fun bb => by rw [gd_pos hY.1.1, q1 bb, bind_some']) ?_
    refine Rn_some q3.le (Or.inl ⟨c, rfl, q2, ?_, ?_, ?_, ?_, ?_, ?_, ?_⟩)
    · have F1 : FR (fun x => x = a) σ Y := (FR.nW (fun x => x = a) σ).tr c5 (fun x hx e => by omega)
      exact F1.tr q3.1 (fun _ _ e => e)
    · show sZ σ < sZ Z
      omega
    · show sc Z (sZ σ) = 4
      rw [(q3.1.2 (sZ σ) c4).1]; exact g'.rw.1
    · show sW Z (sZ σ) = _
      rw [((q3.1.2 (sZ σ) c4).2 (by omega)).1]; exact c3
    · show sS Z ≤ _
      have xe : (tkX I (tkn I n i)).length = (tkn I n i).2.2 - (tkn I n i).2.1 := by unfold tkX; rw [cut_len]
      omega
    · show sC Z ≤ _
      omega
    · intro j
      show sR Z j a = _
      rw [q3.2.2.2.2 j, ((c5.2 a (by have := h.1.2.2.2.2.2.2.2.2.2.1; rw [sZ_nW_]; omega)).2 (by omega)).2.2.2.2.2.2.2.2.2 j]; rfl
  · refine Rn_eq (fun bb => by rw [gd_pos g1, h2, gd_pos (by omega), if_neg (by omega), bind_some', gd_pos (by omega), if_pos rfl]) ?_
    unfold s_fail
    refine ⟨(none, nX σ), ⟨Nat.le_succ _, Nat.le_succ _, Nat.le_add_right _ _⟩, Or.inr ⟨c, rfl⟩, fun bb hf => ?_⟩
    show Option.bind (Option.bind (gd (rm bb σ 6) (some (none, nX σ))) _) _ = _
    rw [gd_pos (show rm bb σ 6 from ⟨hf.1, hf.2⟩)]
    rfl
end Sf
