set_option maxRecDepth 100000
/-! THE START: the reference's object, the end -/
section Cs
variable {p : Program} {l : Launch} {e : Env} {s : State} {D : va_G} {cA : Nat → ClassId} {K T0 T1 : Nat → Nat} {w : Nat} {σ : ST} {τ : TT} {H H0 : Heap} {fs : List Value}
theorem tln_big {k : Nat} (h : ¬ k < 57) : tln k = 0 := by
  unfold tln
  split <;> first | rfl | omega
theorem tix_in (k : Nat) (hk : tln k ≠ 0) : tAL[tix k]? = some (k, tkd k, tln k) ∧ tix k < 32 := by
  have F : ∀ k, k < 57 → tln k ≠ 0 → tAL[tix k]? = some (k, tkd k, tln k) ∧ tix k < 32 := by decide
  by_cases c : k < 57
  · exact F k c hk
  · exact absurd (tln_big c) hk
theorem tix_inj {k j : Nat} (hk : tln k ≠ 0) (hj : tln j ≠ 0) (h : tix k = tix j) : k = j := by
  have a := (tix_in k hk).1
  have b := (tix_in j hj).1
  rw [h, b] at a
  have := Option.some.inj a
  exact (congrArg (fun q => q.1) this).symm
theorem rep_new (h : Rep (p, l, e, s, D, cA, K, 0, T0) σ τ H0) (hw : w = H0.size) (hT : TI (p, l, e, s, D, cA, K, w, T1) w fs H0 32 H) (hfs : tfs w 32 fs = tfl (p, l, e, s, D, cA, K, w, T1) t0) (hT1 : ∀ k, tln k ≠ 0 → T1 k = w + 1 + tix k) : Rep (p, l, e, s, D, cA, K, w, T1) (gz σ) t0 H := by
  obtain ⟨⟨own, hC, -⟩, hzz, hle, hzs, hlow⟩ := h
  obtain ⟨t1, t2, t3, t4⟩ := hT
  have hC' : ∀ a, sc σ a ≠ 0 → s.heap.size ≤ a ∧ own a = a ∧ cellC (p, l, e, s, D, cA, K, w, T1) own σ a H0 := hC
  have hle' : s.heap.size ≤ w := by rw [hw]; exact hle
  have lt : ∀ a, sc σ a ≠ 0 → a < w := fun a ha => by rw [hw]; exact (hC' a ha).2.2.lt
  have z0 : ∀ q, w ≤ q → sc σ q = 0 := fun q hq => Classical.byContradiction (fun c => by have := lt q c; omega)
  refine ⟨⟨fun q => if w ≤ q then w else own q, fun a ha => ?_, fun _ => ⟨⟨hle', ?_, z0 w (Nat.le_refl _), ?_⟩, fun k hk => ?_, fun k j hk hj e => ?_⟩⟩, ?_, ?_, hzs, fun q hq => ?_⟩
  · have ha : sc σ a ≠ 0 := ha
    obtain ⟨c1, c2, c3⟩ := hC' a ha
    have al := lt a ha
    refine ⟨c1, ?_, c3.tr (σ' := gz σ) (H' := H) ha ⟨rfl, rfl, rfl, rfl, rfl, rfl, rfl, fun _ => rfl, fun _ => rfl, fun _ => rfl⟩ (fun _ _ => rfl) rfl (fun ht q1 q2 q3 => ?_) (t3 a al) (fun ht => t3 _ (by rw [hw]; exact c3.hidlt ht))⟩
    · show (if w ≤ a then w else own a) = a
      rw [if_neg (by omega)]; exact c2
    · have : sH σ a < w := by rw [hw]; exact c3.hidlt ht
      refine ⟨?_, q3⟩
      show (if w ≤ sH σ a then w else own (sH σ a)) = a
      rw [if_neg (by omega)]; exact q2
  · show (if w ≤ w then w else own w) = w
    rw [if_pos (Nat.le_refl _)]
  · show va_at D vCl (w, .inr (4, tfl (p, l, e, s, D, cA, K, w, T1) t0)) H
    rw [← hfs]; exact t2
  · show s.heap.size ≤ T1 k ∧ (if w ≤ T1 k then w else own (T1 k)) = w ∧ T1 k ≠ w ∧ sc σ (T1 k) = 0 ∧ va_at D vCl (T1 k, .inl (cA (tkd k), tln k, .inl (fun j => Int32.ofInt (tA t0 k j)))) H
    rw [hT1 k hk]
    obtain ⟨x1, x2⟩ := tix_in k hk
    exact ⟨by omega, if_pos (by omega), by omega, z0 _ (by omega), t4 (tix k) x2 k (tkd k) (tln k) x1⟩
  · have e : T1 k = T1 j := e
    rw [hT1 k hk, hT1 j hj] at e
    exact tix_inj hk hj (by omega)
  · show H.size = sZ σ + 33
    rw [t1, hw, hzz]
  · show s.heap.size ≤ H.size
    omega
  · have hq : q < s.heap.size := hq
    rw [t3 q (by omega)]; exact hlow q hq
/-- what is asked of the law's end -/
def Qf : VQ := (fun v _ _ => v = some (vi 1), fun _ _ _ => False)
theorem rep_old (h : Rep (p, l, e, s, D, cA, K, w, T1) σ τ H) : Rep (p, l, e, s, D, cA, K, 0, T0) σ τ H := by
  obtain ⟨⟨own, hC, -⟩, hzz, hle, hzs, hlow⟩ := h
  exact ⟨⟨own, hC, fun q => absurd rfl q⟩, hzz, hle, hzs, hlow⟩
theorem sbn_fresh {t : State} {L : List Loc} {k n k' n' : Nat} (h : s.sameButNew t L k n) (hL : ∀ q ∈ L, s.heap.size ≤ q.base) (hk : k ≤ k') (hn : n ≤ n') : s.sameButNew t [] k' n' := by
  obtain ⟨h1, h2, h3, h4, h5, h6⟩ := h
  refine ⟨h1, h2, by omega, h4, by omega, fun a c hc => ?_⟩
  obtain ⟨c', d1, d2, d3, d4⟩ := h6 a c hc
  refine ⟨c', d1, d2, d3, fun i _ => d4 i (fun hm => ?_)⟩
  have q1 : s.heap.size ≤ a := hL _ hm
  have q2 := (Array.getElem?_eq_some_iff.mp hc).1
  omega
end Cs
