set_option maxRecDepth 100000
/-! WIRE: tags and numbers, both sides -/
def fxF (x : Int64) : Nat → Nat → List UInt8
  | _, 0 => []
  | k, c + 1 => u8 (lI (lShr x (8 * (k : Int)))) :: fxF x (k + 1) c
theorem fxF_len (x : Int64) : ∀ (c k : Nat), (fxF x k c).length = c
  | 0, k => rfl
  | c + 1, k => by rw [fxF, List.length_cons, fxF_len x c]
def zz (k : Nat) (x : Int64) : Int64 := if k = 4 then (((lShl x 1) ^^^ (lShr x 63)) &&& 4294967295) else if k = 5 then ((lShl x 1) ^^^ (lShr x 63)) else x
def numE (S : SC) (f : Nat) (x : Int64) : List UInt8 := if qk S f = 6 then fxF x 0 4 else if qk S f = 7 then fxF x 0 8 else vrE 9 (zz (qk S f) x)
def wrK (S : SC) (f : Nat) : Int := if qk S f = 6 then 5 else if qk S f = 7 then 1 else if qk S f = 9 ∨ qk S f = 10 ∨ isM S f then 2 else 0
abbrev plain (S : SC) (f : Nat) : Prop := qk S f < 9 ∨ 32 ≤ qk S f
def tagE (S : SC) (f : Nat) (k : Int) : List UInt8 := vrE 9 ((8 * (iL (qn S f : Int))) + (iL k))
def lenE (b : List UInt8) : List UInt8 := vrE 9 (iL (b.length : Int))
theorem numE_len (S : SC) (f : Nat) (x : Int64) : (numE S f x).length ≤ 10 := by
  unfold numE
  split
  · rw [fxF_len]; omega
  · split
    · rw [fxF_len]; omega
    · exact vrE_le _
theorem tagE_len (S : SC) (f : Nat) (hf : qn S f ≤ 536870911) {k : Int} (hk : 0 ≤ k ∧ k ≤ 5) : (tagE S f k).length ≤ 5 := by
  unfold tagE
  obtain ⟨j, rfl⟩ : ∃ j : Nat, k = (j : Int) := ⟨k.toNat, by omega⟩
  rw [iL_n (k := qn S f) rfl (by omega), iL_n (k := j) rfl (by omega), show (8 : Int64) = lN 8 from rfl, lN_mul, lN_add]
  exact vrE_len 9 4 _ (by rw [un_lN (by omega)]; omega)
theorem lenE_len {b : List UInt8} (h : b.length < 16384) : (lenE b).length ≤ 2 := by
  unfold lenE
  rw [iL_n rfl (by omega)]
  exact vrE_len 9 1 _ (by rw [un_lN (by omega)]; omega)
section SysN
variable {z : Nat} {σ : ST} {S : SC} {fa ma ea : Nat → Nat} {od : Nat → List Nat} {a f : Nat}
theorem sk_is (hS : SW S) (hf : f < nF_ S) (k : Nat) (hk : k ≤ 10) {x : Int} (hx : x = (k : Int)) : ((sk S f : Nat) : Int) = x ↔ qk S f = k := by
  have := (hS.2.2.2.2.1 f hf).2.2.2.1
  have := hS.2.2.1
  have := hS.2.2.2.1
  unfold sk ks
  split
  · omega
  · split <;> omega
theorem fd_plain_eq (hS : SW S) (hH : HSc z σ S fa ma ea od) (hf : f < nF_ S) : fd_isPlain (fa f) σ = some (if plain S f then 1 else 0) := by
  obtain ⟨b1, b2, b3, b4, b5, b6, b7, -⟩ := hH.2.1 f hf
  have h1 := (hS.2.2.2.2.1 f hf).2.2.2.1
  have := hS.2.2.1
  have := hS.2.2.2.1
  have e : ((((sk S f : Nat) : Int) < 9) ∨ (¬ (((sk S f : Nat) : Int) < 32))) ↔ plain S f := by
    unfold sk ks plain
    split
    · omega
    · split <;> omega
  have hb : sk S f ≤ 32 := by
    unfold sk ks
    split
    · omega
    · split <;> omega
  unfold fd_isPlain
  rw [gd_pos b2, b7, gd_pos (by omega)]
  by_cases c : plain S f
  · rw [if_pos (e.mpr c), if_pos c]
  · rw [if_neg (fun q => c (e.mp q)), if_neg c]
theorem fd_wire_eq (hS : SW S) (hH : HSc z σ S fa ma ea od) (hf : f < nF_ S) : fd_wire (fa f) σ = some (wrK S f) := by
  obtain ⟨b1, b2, b3, b4, b5, b6, b7, -⟩ := hH.2.1 f hf
  have h1 := (hS.2.2.2.2.1 f hf).2.2.2.1
  have := hS.2.2.1
  have := hS.2.2.2.1
  have hb : sk S f ≤ 32 := by
    unfold sk ks
    split
    · omega
    · split <;> omega
  unfold fd_wire
  rw [gd_pos b2, fd_plain_eq hS hH hf, bind_some', gd_pos (by split <;> omega), b7]
  unfold wrK
  by_cases c : plain S f
  · rw [if_pos c, if_neg (by omega), gd_pos (by omega)]
    by_cases c6 : qk S f = 6
    · rw [if_pos ((sk_is hS hf 6 (by omega) (x := 6) rfl).mpr c6), if_pos c6]
    · rw [if_neg (fun q => c6 ((sk_is hS hf 6 (by omega) (x := 6) rfl).mp q)), if_neg c6]
      by_cases c7 : qk S f = 7
      · rw [if_pos ((sk_is hS hf 7 (by omega) (x := 7) rfl).mpr c7), if_pos c7]
      · rw [if_neg (fun q => c7 ((sk_is hS hf 7 (by omega) (x := 7) rfl).mp q)), if_neg c7, if_neg (by omega)]
  · rw [if_neg c, if_pos rfl, if_neg (by omega), if_neg (by omega), if_pos (by omega)]
theorem rn_tag (hS : SW S) (hH : HSc z σ S fa ma ea od) (hf : f < nF_ S) (hR : RW σ a) (hl : (sW σ a).length + 10 ≤ 8000000) (k : Int) : Rn id σ (fun bb => ww_tag bb (some a) (some (fa f)) k σ) (RA σ a (tagE S f k)) := by
  obtain ⟨b1, b2, b3, b4, b5, b6, -⟩ := hH.2.1 f hf
  unfold ww_tag tagE
  refine Rn_eq (fun bb => by rw [bind_some', gd_pos b2, b6]) ?_
  exact Rn_bind (rn_varint _ hR hl) (fun σ1 _ g => Rn_some (Le.refl _) g)
theorem num_L (hf9 : sc σ (fa f) = 9) {w : Nat} (hw : w = 4 ∨ w = 8) (h4 : sI σ 132 (fa f) = 6 ↔ w = 4) (h5 : rg (sI σ 132 (fa f))) (x : Int64) (hfa : fa f ≠ a) : ∀ (c N k : Nat) (σ' : ST) (u : List UInt8), RA σ a u σ' → (sW σ' a).length + c ≤ 8000000 → k + c = w → c < N → (fa f) < sZ σ → Rn id σ' (fun bb => ww_number_L21 bb (some a) (some (fa f)) x N (k : Int) σ') (RA σ' a (fxF x k c))
  | c, 0, k, σ', u, _, _, _, h, _ => by omega
  | 0, N + 1, k, σ', u, hA, hl, hk, hN, hz => by
    have e9 : sc σ' (fa f) = 9 := by rw [(hA.2.1.2 _ hz).1]; exact hf9
    have e132 : sI σ' 132 (fa f) = sI σ 132 (fa f) := ((hA.2.1.2 _ hz).2 hfa).2.2.2.2.2.2.2.1 132
    have ev : (if sI σ 132 (fa f) = 6 then (some 4) else (some 8) : Option Int) = some (w : Int) := by
      rcases hw with e | e
      · rw [if_pos (h4.mpr e), e]; rfl
      · rw [if_neg (fun q => by have := h4.mp q; omega), e]; rfl
    refine Rn_eq (fun bb => by rw [ww_number_L21, bind_some', gd_pos e9, e132, gd_pos h5, ev, bind_some', gd_pos (by omega), gd_pos (by omega), if_pos (by omega)]) ?_
    exact Rn_some (Le.refl _) (RA.nil hA.rw)
  | c + 1, N + 1, k, σ', u, hA, hl, hk, hN, hz => by
    have e9 : sc σ' (fa f) = 9 := by rw [(hA.2.1.2 _ hz).1]; exact hf9
    have e132 : sI σ' 132 (fa f) = sI σ 132 (fa f) := ((hA.2.1.2 _ hz).2 hfa).2.2.2.2.2.2.2.1 132
    have ev : (if sI σ 132 (fa f) = 6 then (some 4) else (some 8) : Option Int) = some (w : Int) := by
      rcases hw with e | e
      · rw [if_pos (h4.mpr e), e]; rfl
      · rw [if_neg (fun q => by have := h4.mp q; omega), e]; rfl
    refine Rn_eq (fun bb => by rw [ww_number_L21, bind_some', gd_pos e9, e132, gd_pos h5, ev, bind_some', gd_pos (by omega), gd_pos (by omega), if_neg (by omega), bind_some', gd_pos hA.rw.1]) ?_
    refine Rn_bind (rn_add hA.rw (by omega) _) (fun σ1 _ g => ?_)
    have hl1 := g.len
    simp only [List.length_cons, List.length_nil] at hl1
    rw [show (k : Int) + 1 = ((k + 1 : Nat) : Int) by omega]
    refine (num_L hf9 hw h4 h5 x hfa c N (k + 1) σ1 _ (hA.tr g) (by omega) (by omega) (by omega) hz).mono (fun σ2 _ g2 => ?_)
    exact g.tr g2
theorem rn_number (hS : SW S) (hH : HSc z σ S fa ma ea od) (hf : f < nF_ S) (hR : RW σ a) (hza : z ≤ a) (hl : (sW σ a).length + 10 ≤ 8000000) (x : Int64) : Rn id σ (fun bb => ww_number bb (some a) (some (fa f)) x σ) (RA σ a (numE S f x)) := by
  obtain ⟨b1, b2, b3, b4, b5, b6, b7, -⟩ := hH.2.1 f hf
  have hz := hH.1
  have hb : sk S f ≤ 32 := by
    unfold sk ks
    split
    · omega
    · split <;> omega
  have e4 := sk_is hS hf 4 (by omega) (x := 4) rfl
  have e5 := sk_is hS hf 5 (by omega) (x := 5) rfl
  have e6 := sk_is hS hf 6 (by omega) (x := 6) rfl
  have e7 := sk_is hS hf 7 (by omega) (x := 7) rfl
  unfold ww_number numE
  refine Rn_eq (fun bb => by rw [bind_some', gd_pos b2, b7, gd_pos (by omega)]) ?_
  by_cases c6 : qk S f = 6
  · rw [if_pos c6]
    refine Rn_pos (Or.inl (e6.mpr c6)) ?_
    exact num_L b2 (w := 4) (Or.inl rfl) (by rw [b7]; exact ⟨fun _ => rfl, fun _ => e6.mpr c6⟩) (by rw [b7]; omega) x (by omega) 4 FU 0 σ [] (RA.nil hR) (by omega) rfl (FU_gt (by omega)) (by omega)
  · rw [if_neg c6]
    by_cases c7 : qk S f = 7
    · rw [if_pos c7]
      refine Rn_pos (Or.inr (e7.mpr c7)) ?_
      exact num_L b2 (w := 8) (Or.inr rfl) (by rw [b7]; exact ⟨fun q => absurd (e6.mp q) c6, fun q => by omega⟩) (by rw [b7]; omega) x (by omega) 8 FU 0 σ [] (RA.nil hR) (by omega) rfl (FU_gt (by omega)) (by omega)
    · rw [if_neg c7]
      refine Rn_neg (fun q => q.elim (fun u => c6 (e6.mp u)) (fun u => c7 (e7.mp u))) ?_
      have ez : (if (((sk S f : Nat) : Int) = 4) ∨ (((sk S f : Nat) : Int) = 5) then (if ((sk S f : Nat) : Int) = 4 then (some ((((lShl x 1) ^^^ (lShr x 63)) &&& 4294967295))) else (some (((lShl x 1) ^^^ (lShr x 63))))) else (some x) : Option Int64) = some (zz (qk S f) x) := by
        unfold zz
        by_cases c4 : qk S f = 4
        · rw [if_pos (Or.inl (e4.mpr c4)), if_pos (e4.mpr c4), if_pos c4]
        · by_cases c5 : qk S f = 5
          · rw [if_pos (Or.inr (e5.mpr c5)), if_neg (fun u => c4 (e4.mp u)), if_neg c4, if_pos c5]
          · rw [if_neg (fun q => q.elim (fun u => c4 (e4.mp u)) (fun u => c5 (e5.mp u))), if_neg c4, if_neg c5]
      refine Rn_pure ez ?_
      exact Rn_bind (rn_varint _ hR hl) (fun σ1 _ g => Rn_some (Le.refl _) g)
theorem rn_part {b : Nat} {w : List UInt8} (hR : RW σ a) (hb : sc σ b = 4) (hw : sW σ b = w) (hab : b ≠ a) (hbz : b < sZ σ) (hl : (sW σ a).length + w.length + 10 ≤ 8000000) (hl2 : w.length < 2147483648) : Rn id σ (fun bb => ww_part bb (some a) (some b) σ) (RA σ a (lenE w ++ w)) := by
  unfold ww_part
  refine Rn_eq (fun bb => by rw [bind_some', gd_pos hb, hw]) ?_
  refine Rn_bind (rn_varint _ hR (by omega)) (fun σ1 _ g => ?_)
  have hl1 : (sW σ1 a).length = (sW σ a).length + (vrE 9 (iL (w.length : Int))).length := g.len
  have hle := vrE_le (iL (w.length : Int))
  have e4 : sc σ1 b = 4 := by rw [g.2.2.1]; exact hb
  have ew : sW σ1 b = w := by rw [((g.2.1.2 b hbz).2 hab).1]; exact hw
  refine Rn_eq (fun bb => by rw [gd_pos e4, bind_some', gd_pos g.rw.1]) ?_
  refine Rn_bind (J := RA σ1 a w) ?_ (fun σ2 _ g2 => Rn_some (Le.refl _) (g.tr g2))
  unfold r_addP
  refine Rn_eq (fun bb => by rw [gd_pos ⟨e4, fun q => hab q.symm⟩, ew]) ?_
  exact rn_addL (a := a) w (σ := σ1) g.rw (by rw [hl1]; omega)
end SysN
