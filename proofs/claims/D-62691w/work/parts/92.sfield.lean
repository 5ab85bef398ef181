set_option maxRecDepth 100000
/-! JSON: a member of an object, as the system reads it -/
/-- one member: its field, the place behind it, the message's value with it -/
def mem1 {d : Nat} (S : SC) (I : Nat → Nat) (n : Nat) (sp : Nat → Nat → Option (Nat × TV d)) (m p : Nat) (seen : List Nat) (T : TV (d + 1)) : Option (Nat × Nat × TV (d + 1)) := (strX I n (bl I n p)).bind fun r => (byN S m r.2).bind fun f =>
      if f ∈ seen ∨ lk I n (bl I n r.1) ≠ 58 then none else
      (if lit I n (bl I n (bl I n r.1 + 1)) 5 then some (bl I n (bl I n r.1 + 1) + slen 5, T) else if hasO S T f = true then none else (itmS S I n sp f (bl I n (bl I n r.1 + 1))).map fun q => (q.1, q.2.foldl (put S) T)).bind fun e => some (f, e.1, e.2)
theorem memL_1 {d : Nat} {S : SC} {I : Nat → Nat} {n : Nat} {sp : Nat → Nat → Option (Nat × TV d)} {m c p : Nat} {seen : List Nat} {T : TV (d + 1)} : memL S I n sp m (c + 1) p seen T = (mem1 S I n sp m p seen T).bind fun x => if lk I n (bl I n x.2.1) = 44 then memL S I n sp m c (bl I n x.2.1 + 1) (x.1 :: seen) x.2.2 else if lk I n (bl I n x.2.1) = 125 then some (bl I n x.2.1 + 1, x.2.2) else none := by
  rw [memL]
  unfold mem1
  cases strX I n (bl I n p) with
  | none => rfl
  | some r =>
    show ((byN S m r.2).bind _) = Option.bind ((byN S m r.2).bind _) _
    cases byN S m r.2 with
    | none => rfl
    | some f =>
      show (if f ∈ seen ∨ lk I n (bl I n r.1) ≠ 58 then none else _) = Option.bind (if f ∈ seen ∨ lk I n (bl I n r.1) ≠ 58 then none else _) _
      by_cases q : f ∈ seen ∨ lk I n (bl I n r.1) ≠ 58
      · rw [if_pos q, if_pos q]; rfl
      · rw [if_neg q, if_neg q, Option.bind_assoc]; rfl
/-- bits of the fields of a message that were there, by their places -/
def SP (od : List Nat) (b : Nat) (seen : List Nat) : Prop := b < 2 ^ 50 ∧ ∀ j, j < od.length → (b.testBit j = true ↔ od.getD j 0 ∈ seen)
theorem SP.add {od : List Nat} {b j : Nat} {seen : List Nat} {S : SC} (h : SP od b seen) (hj : j < od.length) (hl : od.length ≤ 50) (hp : od.Pairwise (fun f g => qn S f < qn S g)) : SP od (b ||| 2 ^ j) (od.getD j 0 :: seen) := by
  have inj : ∀ i, i < od.length → od.getD i 0 = od.getD j 0 → i = j := fun i hi e => by
    have q := List.pairwise_iff_getElem.mp hp
    rw [List.getD_eq_getElem?_getD, List.getD_eq_getElem?_getD, List.getElem?_eq_getElem hi, List.getElem?_eq_getElem hj] at e
    simp only [Option.getD_some] at e
    rcases Nat.lt_trichotomy i j with w | w | w
    · have := q i j hi hj w; rw [e] at this; omega
    · exact w
    · have := q j i hj hi w; rw [e] at this; omega
  refine ⟨Nat.or_lt_two_pow h.1 (Nat.pow_lt_pow_right (by decide) (by omega)), fun i hi => ?_⟩
  rw [Nat.testBit_or, Nat.testBit_two_pow, Bool.or_eq_true, h.2 i hi, decide_eq_true_iff, List.mem_cons]
  constructor
  · rintro (q | q)
    · exact Or.inr q
    · left; rw [q]
  · rintro (q | q)
    · exact Or.inr (inj i hi q).symm
    · exact Or.inl q
theorem bit64z {b k : Nat} {x : Int} (hb : b < 9223372036854775808) (hk : k < 50) (hx : x = (k : Int)) : ((lShr (lN b) x) &&& 1) = 0 ↔ ¬ b.testBit k = true := by
  rw [lShr_n hb (by omega) hx, lN_and1, show (0 : Int64) = lN 0 from rfl, lN_inj (by have := Nat.mod_lt (b / 2 ^ k) (show 0 < 2 by decide); show _ < 18446744073709551616; omega) (by decide), Nat.testBit_eq_decide_div_mod_eq]
  simp only [decide_eq_true_eq]
  omega
def FLO {d : Nat} (z z1 : Nat) (S : SC) (fa ma ea : Nat → Nat) (od : Nat → List Nat) (a b ra wa : Nat) (I : Nat → Nat) (n v m : Nat) (σ : ST) (p : Nat) (T : TV (d + 1)) (seen : List Nat) (o : Option (Nat × Nat × TV (d + 1))) (r : Option Int64 × ST) : Prop := match o with
  | some x => ∃ σ' b' c, r = (some (lN b'), σ') ∧ SP (od m) b' (x.1 :: seen) ∧ WV z z1 S fa ma ea od a b ra wa I n v m d σ' x.2.1 x.2.2 ∧ JK σ σ' z1 a ra wa c (5 * (x.2.1 - p)) ∧ (c + dM S (d + 1) x.2.2 ≤ 8 * (x.2.1 - p) + 8 + dM S (d + 1) T ∧ c ≤ 8 * (x.2.1 - p)) ∧ p ≤ x.2.1 ∧ x.2.1 ≤ n
  | none => ∃ σ', r = (none, σ') ∧ JK σ σ' z1 a ra wa (8 * (n + 1 - p) + 10000) (5 * (n + 1 - p) + 400)
section Fi
variable {z z1 : Nat} {S : SC} {fa ma ea : Nat → Nat} {od : Nat → List Nat} {a b ra wa v m : Nat} {I : Nat → Nat} {n d : Nat} {rec : Nat × Nat → Option Nat → Option Nat → Int → ST → Option (Option (Option Nat) × ST)} {dp : Int} {sp : Nat → Nat → Option (Nat × TV d)} {c k c' k' p : Nat} {σ σ1 σ2 : ST} {T : TV (d + 1)}
theorem WV.jg (hW : WV z z1 S fa ma ea od a b ra wa I n v m d σ p T) (hS : SW S) (hza : z ≤ a ∧ z ≤ ra ∧ z ≤ wa) (hz1 : z ≤ z1 ∧ a < z1 ∧ ra < z1 ∧ wa < z1 ∧ b < z1) (g : JG σ σ1 a ra wa c k) {q : Nat} (hJ : JRd σ1 a b ra wa I n q) : WV z z1 S fa ma ea od a b ra wa I n v m d σ1 q T := by
  obtain ⟨h1, h2, F, h3, h4⟩ := hW
  refine ⟨h1.gr hS hza g, hJ, F, HV_kept _ v m T F h3 (fun x w l => ⟨(g.1.2 x l).2 (by have := (h4 x w).1; omega), (g.1.2 x l).1⟩) g.1.1.1, fun x w => ?_⟩
  have := h4 x w
  have := g.1.1.1
  omega
/-- a member's value, or values -/
theorem itm_eq (h : HY z z1 S fa ma ea od a b ra wa I n d rec dp sp) (hW : WV z z1 S fa ma ea od a b ra wa I n v m d σ p T) (hp : p ≤ n) (hbp : bl I n p = p) (hlen : (t1 T).length < 1000) {f : Nat} (hf : f < nF_ S) (x28 : Int64) : Rn (·.2) σ (fun bb => if sI σ 135 (fa f) = 0 then (Option.bind (if (sR σ 137 (fa f)) = none then (gd (sc σ a = 14) (Option.bind (jr_slot bb a (some (fa f)) σ) (tB (fun z => Sum.inl ((none, z))) fun y67 σ68 => some (Sum.inr ((y67, σ68)))))) else (Option.bind (jr_inner bb (rec bb) (some a) (some (fa f)) dp σ) (tB (fun z => Sum.inl ((none, z))) fun y70 σ71 => some (Sum.inr ((y70, σ71)))))) (Sum.elim some fun (v59 : Option Nat × ST) => gd (sc v59.2 v = 11) (Option.bind (vlu_put bb v v59.1 v59.2) fun y64 => some ((some x28, y64))))) else (gd (sc σ a = 14) (Option.bind (jr_row bb (rec bb) a (some (fa f)) (some v) dp σ) (tB (fun z => (none, z)) fun y78 σ79 => some ((some x28, σ79)))))) (fun r : Option Int64 × ST => match itmS S I n sp f p with | some e => ∃ σ' c, r = (some x28, σ') ∧ WV z z1 S fa ma ea od a b ra wa I n v m d σ' e.1 (e.2.foldl (put S) T) ∧ JK σ σ' z1 a ra wa c (5 * (e.1 - p)) ∧ (c + dM S (d + 1) (e.2.foldl (put S) T) ≤ 8 * (e.1 - p) + 40 + dM S (d + 1) T ∧ c ≤ 8 * (e.1 - p)) ∧ p ≤ e.1 ∧ e.1 ≤ n | none => ∃ σ', r = (none, σ') ∧ JK σ σ' z1 a ra wa (8 * (n + 1 - p) + 10005) (5 * (n + 1 - p) + 405)) := by
  have e135 : sI σ 135 (fa f) = qr S f := (hW.1.2.1 f hf).2.2.2.2.2.2.2.2.1
  have r01 := (h.1.2.2.2.2.1 f hf).2.2.2.2.2.2.1
  unfold itmS
  by_cases cr : qr S f = 1
  · refine Rn_neg (by rw [e135]; omega) ?_
    rw [if_pos cr]
    refine Rn_gd hW.2.1.1 ?_
    have q := jr_row_eq h hW hp hlen hf cr
    rw [hbp] at q
    refine Rn_tB q (fun σ' _ hr => ⟨rfl, ?_⟩) (fun y σ' _ hr => ?_)
    · cases e : arrS S I n sp f p with
      | none => rw [e] at hr; obtain ⟨σ1, e1, K⟩ := hr; cases e1; exact ⟨σ', rfl, K⟩
      | some x => rw [e] at hr; obtain ⟨σ1, cc, e1, -⟩ := hr; cases e1
    · cases e : arrS S I n sp f p with
      | none => rw [e] at hr; obtain ⟨σ1, e1, K⟩ := hr; cases e1
      | some x =>
        rw [e] at hr
        obtain ⟨σ1, cc, e1, r1, r2, r3, r4⟩ := hr
        cases e1
        have hff := itmS_f (S := S) (I := I) (n := n) (sp := sp) (f := f) (p := p) (e := x) (by unfold itmS; rw [if_pos cr]; exact e)
        have := dM_fold (T := T) cr hff.1
        exact Rn_some (Le.refl _) ⟨σ', cc, rfl, r1, r2, ⟨by show cc + dM S (d + 1) (x.2.foldl (put S) T) ≤ _; omega, by omega⟩, r4⟩
  · refine Rn_pos (by rw [e135]; omega) ?_
    rw [if_neg cr]
    obtain ⟨v1, v2⟩ := any_val h hW hp hf
    rw [hbp] at v1 v2
    refine Rn_bind (su := Sum.elim (·.2) (·.2)) (J := fun y => (∃ x σ1, y = Sum.inr (x, σ1) ∧ VLO σ a b ra wa I n p S fa ma (valS S I n sp f p) (some x, σ1)) ∨ (∃ σ1, y = Sum.inl (none, σ1) ∧ VLO σ a b ra wa I n p S fa ma (valS S I n sp f p) (none, σ1))) ?_ (fun y _ hy => ?_)
    · refine Rn_if (fun q => ?_) (fun q => ?_)
      · exact Rn_gd hW.2.1.1 (Rn_tB (v1 q) (fun σ' _ hr => ⟨rfl, Or.inr ⟨σ', rfl, hr⟩⟩) (fun x σ' _ hr => Rn_some (Le.refl _) (Or.inl ⟨x, σ', rfl, hr⟩)))
      · exact Rn_tB (v2 q) (fun σ' _ hr => ⟨rfl, Or.inr ⟨σ', rfl, hr⟩⟩) (fun x σ' _ hr => Rn_some (Le.refl _) (Or.inl ⟨x, σ', rfl, hr⟩))
    · rcases hy with ⟨x, σ1, e1, hv⟩ | ⟨σ1, e1, hv⟩
      · subst e1
        obtain ⟨e, Fn, cv, eo, ex, hJ, hz, hs, h196, hFn, g, gc⟩ := hv.suc
        subst ex
        obtain ⟨bd1, bd2, bd3⟩ := valS_bd h.2.1 h.2.2.2.2.2.2.2.1 hp eo
        obtain ⟨σ2, q1, q2, q3, q4, hle⟩ := hW.puts h.1 h.2.2.1 h.2.2.2.1 hlen hJ hz hs h196 hFn g
        rw [eo]
        refine Rn_eq (fun bb => by rw [elim_r, gd_pos (show sc σ1 v = 11 from q4), q1 bb, bind_some']) ?_
        have hdp := dM_put (T := T) (s := e.2) (by rw [bd3]; exact cr)
        exact Rn_some hle ⟨σ2, cv, rfl, q2, q3, ⟨by show cv + dM S (d + 1) (put S T e.2) ≤ 8 * (e.1 - p) + 40 + dM S (d + 1) T; omega, by show cv ≤ 8 * (e.1 - p); omega⟩, bd1, bd2⟩
      · subst e1
        obtain ⟨eo, g⟩ := hv.thr
        rw [eo]
        exact Rn_eq (fun bb => by rw [elim_l]) (Rn_some (Le.refl _) ⟨σ1, rfl, JG.toK g⟩)
end Fi
