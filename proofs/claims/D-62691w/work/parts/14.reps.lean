set_option maxRecDepth 100000
/-! how the picture changes with the heap -/
section RepS
variable {g : GE} {σ σ' : ST} {τ : TT} {H H' : Heap} {own own' : Nat → Nat}
theorem fl_same {b : Nat} (ci : Nat) (h1 : ∀ k, sI σ' k b = sI σ k b) (h2 : ∀ k, sJ σ' k b = sJ σ k b) (h3 : ∀ k, sR σ' k b = sR σ k b) : fl σ' ci b = fl σ ci b := by
  unfold fl
  split <;> simp only [h1, h2, h3]
/-- two states say the same of b -/
def SameB (σ σ' : ST) (b : Nat) : Prop := sW σ' b = sW σ b ∧ sA σ' b = sA σ b ∧ sN σ' b = sN σ b ∧ sB σ' b = sB σ b ∧ sE σ' b = sE σ b ∧ sF σ' b = sF σ b ∧ sH σ' b = sH σ b ∧ (∀ k, sI σ' k b = sI σ k b) ∧ (∀ k, sJ σ' k b = sJ σ k b) ∧ ∀ k, sR σ' k b = sR σ k b
theorem cellC.tr {b : Nat} (h : cellC g own σ b H) (hb : sc σ b ≠ 0) (hS : SameB σ σ' b) (hs : ∀ x, sc σ x ≠ 0 → sc σ' x = sc σ x) (h01 : sH σ' 1 = sH σ 1)
    (hz : sc σ b = 4 ∨ sc σ b = 16 → gB g ≤ sH σ b → own (sH σ b) = b → sc σ (sH σ b) = 0 → own' (sH σ b) = b ∧ sc σ' (sH σ b) = 0) (H1 : H'[b]? = H[b]?) (H2 : sc σ b = 4 ∨ sc σ b = 16 → H'[sH σ b]? = H[sH σ b]?) : cellC g own' σ' b H' := by
  obtain ⟨w1, w2, w3, w4, w5, w6, w7, w8, w9, w10⟩ := hS
  have hfl : ∀ ci, fl σ' ci b = fl σ ci b := fun ci => fl_same ci w8 w9 w10
  unfold cellC at h ⊢
  rw [hs b hb, w1, w2, w3, w4, w5, w6, w7, hfl]
  split
  · rename_i e
    rw [if_pos e] at h
    obtain ⟨q1, q2, q3, ⟨f, q4, q5⟩, q6⟩ := h
    refine ⟨q1.kept H1, q2, q3, ⟨f, q4.kept (H2 (Or.inl e)), q5⟩, ?_⟩
    rcases q6 with q | q
    · exact Or.inl q
    · exact Or.inr ⟨q.1, hz (Or.inl e) q.1 q.2.1 q.2.2⟩
  · rename_i e0
    rw [if_neg e0] at h
    split
    · rename_i e
      rw [if_pos e] at h
      obtain ⟨⟨mc, q1⟩, q2, q3, ⟨f, q4, q5, q7⟩, q6⟩ := h
      refine ⟨⟨mc, q1.kept H1⟩, q2, q3, ⟨f, q4.kept (H2 (Or.inr e)), q5, fun j x hx => by have h := q7 j x hx; rw [hs x (by unfold lt4 at h; omega)]; exact h⟩, ?_⟩
      rcases q6 with q | q
      · exact Or.inl ⟨q.1, q.2.1, by rw [h01]; exact q.2.2⟩
      · exact Or.inr ⟨q.1, (hz (Or.inr e) q.1 q.2.1 q.2.2.1).1, (hz (Or.inr e) q.1 q.2.1 q.2.2.1).2, q.2.2.2⟩
    · rename_i e
      rw [if_neg e] at h
      split
      · rename_i e
        rw [if_pos e] at h
        obtain ⟨fs, q⟩ := h
        exact ⟨fs, q.kept H1⟩
      · rename_i e
        rw [if_neg e] at h
        split
        · rename_i e
          rw [if_pos e] at h
          exact ⟨h.1.kept H1, h.2⟩
        · rename_i e
          rw [if_neg e] at h
          split
          · rename_i e
            rw [if_pos e] at h
            exact ⟨h.1.kept H1, h.2⟩
          · rename_i e
            rw [if_neg e] at h
            split
            · rename_i e
              rw [if_pos e] at h
              exact ⟨h.1.kept H1, h.2.1, fun j x hx => by rw [hs x (by rw [h.2.2 j x hx]; decide)]; exact h.2.2 j x hx⟩
            · rename_i e
              rw [if_neg e] at h
              exact h.kept H1
theorem RepT.tr (h : RepT g own σ τ H) (ho : ∀ q, q < H.size → own q = gw g → own' q = own q) (hs : ∀ q, q < H.size → own q = gw g → sc σ q = 0 → sc σ' q = 0) (hH : ∀ q, q < H.size → own q = gw g → sc σ q = 0 → H'[q]? = H[q]?) : RepT g own' σ' τ H' := by
  intro hw
  obtain ⟨⟨b1, b2, b3, b4⟩, b5, b6⟩ := h hw
  refine ⟨⟨b1, (ho _ b4.lt b2).trans b2, hs _ b4.lt b2 b3, b4.kept (hH _ b4.lt b2 b3)⟩, fun k hk => ?_, b6⟩
  obtain ⟨q1, q2, q3, q4, q5⟩ := b5 k hk
  exact ⟨q1, (ho _ q5.lt q2).trans q2, q3, hs _ q5.lt q2 q4, q5.kept (hH _ q5.lt q2 q4)⟩
theorem cellC.lt {b : Nat} (h : cellC g own σ b H) : b < H.size := by
  unfold cellC at h
  split at h
  · exact h.1.lt
  · split at h
    · obtain ⟨⟨mc, q⟩, -⟩ := h; exact q.lt
    · split at h
      · obtain ⟨fs, q⟩ := h; exact q.lt
      · split at h
        · exact h.1.lt
        · split at h
          · exact h.1.lt
          · split at h
            · exact h.1.lt
            · exact h.lt
theorem cellC.hidlt {b : Nat} (h : cellC g own σ b H) (ht : sc σ b = 4 ∨ sc σ b = 16) : sH σ b < H.size := by
  unfold cellC at h
  rcases ht with e | e
  · rw [if_pos e] at h
    obtain ⟨-, -, -, ⟨f, q, -⟩, -⟩ := h
    exact q.lt
  · rw [if_neg (by rw [e]; decide), if_pos e] at h
    obtain ⟨-, -, -, ⟨f, q, -⟩, -⟩ := h
    exact q.lt
/-- one visible cell changes -/
theorem Rep.loc {a : Nat} (h : Rep g σ τ H) (ha : sc σ a ≠ 0) (hsc : sc σ' = sc σ) (hz : sZ σ' = sZ σ) (h01 : sH σ' = sH σ) (hS : ∀ b, b ≠ a → SameB σ σ' b) (hsz : H'.size = H.size) (ho : ∀ q, q ≠ a → H'[q]? = H[q]?) (hc : ∀ own, cellC g own σ a H → cellC g own σ' a H') : Rep g σ' τ H' := by
  obtain ⟨⟨own, hC, hT⟩, hzz, hle, hzs, hlow⟩ := h
  have hga : gB g ≤ a := (hC a ha).1
  refine ⟨⟨own, fun b hb => ?_, hT.tr (fun _ _ _ => rfl) (fun q _ _ e => by rw [hsc]; exact e) (fun q _ _ e => ho q (fun x => ha (by rw [← x]; exact e)))⟩, by rw [hsz, hz]; exact hzz, by rw [hsz]; exact hle, ?_, fun q hq => by rw [ho q (by omega)]; exact hlow q hq⟩
  · rw [hsc] at hb
    obtain ⟨c1, c2, c3⟩ := hC b hb
    refine ⟨c1, c2, ?_⟩
    by_cases e : b = a
    · subst e; exact hc own c3
    · refine c3.tr hb (hS b e) (fun x _ => by rw [hsc]) (by rw [h01]) (fun _ _ q1 q2 => ⟨q1, by rw [hsc]; exact q2⟩) (ho b e) (fun ht => ?_)
      rcases c3.hid ht with q | q
      · exact ho _ (by omega)
      · exact ho _ (fun x => ha (by rw [← x]; exact q.2.2))
  · unfold Zs at hzs ⊢
    rw [h01]; exact hzs
/-- a new visible cell behind all -/
theorem Rep.grow (h : Rep g σ τ H) {t : Nat} (ht : t ≠ 0) (hsc : sc σ' = up (sc σ) (sZ σ) t) (hz : sZ σ' = sZ σ + 1) (hS : ∀ b, b ≠ sZ σ → SameB σ σ' b) (hsz : H'.size = H.size + 1) (ho : ∀ q, q < H.size → H'[q]? = H[q]?) (hc : ∀ own, own (sZ σ) = sZ σ → cellC g own σ' (sZ σ) H') : Rep g σ' τ H' := by
  obtain ⟨⟨own, hC, hT⟩, hzz, hle, hzs, hlow⟩ := h
  have hne : ∀ q, q < H.size → q ≠ sZ σ := fun q hq e => by omega
  have hscn : ∀ q, q ≠ sZ σ → sc σ' q = sc σ q := fun q hq => by rw [hsc]; exact up_ne _ _ hq
  refine ⟨⟨up own (sZ σ) (sZ σ), fun b hb => ?_, hT.tr (fun q hq _ => up_ne _ _ (hne q hq)) (fun q hq _ e => by rw [hscn q (hne q hq)]; exact e) (fun q hq _ _ => ho q hq)⟩, by rw [hsz, hz, hzz], by omega, ?_, fun q hq => by rw [ho q (by omega)]; exact hlow q hq⟩
  · by_cases e : b = sZ σ
    · subst e
      exact ⟨by omega, up_at _ _ _, hc _ (up_at _ _ _)⟩
    · rw [hscn b e] at hb
      obtain ⟨c1, c2, c3⟩ := hC b hb
      refine ⟨c1, by rw [up_ne _ _ e]; exact c2, c3.tr hb (hS b e) (fun x hx => hscn x (hne x (hC x hx).2.2.lt)) (hS 1 (by have := hzs.1; omega)).2.2.2.2.2.2.1 (fun ht q1 q2 q3 => ?_) (ho b c3.lt) (fun ht => ho _ (c3.hidlt ht))⟩
      have : sH σ b ≠ sZ σ := hne _ (c3.hidlt ht)
      exact ⟨by rw [up_ne _ _ this]; exact q2, by rw [hscn _ this]; exact q3⟩
  · have h0 : (0 : Nat) ≠ sZ σ := by have := hzs.1; omega
    have h1 : (1 : Nat) ≠ sZ σ := by have := hzs.1; omega
    unfold Zs at hzs ⊢
    rw [(hS 0 h0).2.2.2.2.2.2.1, (hS 1 h1).2.2.2.2.2.2.1]; exact hzs
end RepS
