set_option maxRecDepth 100000
/-! JSON: objects, as the system reads them -/
def memQ {d : Nat} (S : SC) (I : Nat → Nat) (n : Nat) (sp : Nat → Nat → Option (Nat × TV d)) (m : Nat) : Nat → Nat → List Nat → TV (d + 1) → Option (Nat × TV (d + 1))
  | 0, _, _, _ => none
  | c + 1, p, seen, T => (mem1 S I n sp m p seen T).bind fun x => if lk I n (bl I n x.2.1) = 44 then memQ S I n sp m c (bl I n x.2.1 + 1) (x.1 :: seen) x.2.2 else some (bl I n x.2.1, x.2.2)
section Mq0
variable {d : Nat} {S : SC} {I : Nat → Nat} {n : Nat} {sp : Nat → Nat → Option (Nat × TV d)} {m : Nat}
theorem memL_Q : ∀ (c p : Nat) (seen : List Nat) (T : TV (d + 1)), memL S I n sp m c p seen T = (memQ S I n sp m c p seen T).bind fun q => if lk I n q.1 = 125 then some (q.1 + 1, q.2) else none
  | 0, p, seen, T => rfl
  | c + 1, p, seen, T => by
    rw [memL_1, memQ]
    cases mem1 S I n sp m p seen T with
    | none => rfl
    | some r =>
      show (if lk I n (bl I n r.2.1) = 44 then _ else _) = Option.bind (if lk I n (bl I n r.2.1) = 44 then _ else _) _
      by_cases q : lk I n (bl I n r.2.1) = 44
      · rw [if_pos q, if_pos q]; exact memL_Q c _ _ _
      · rw [if_neg q, if_neg q]; rfl
theorem memQ_bl : ∀ (c p : Nat) (seen : List Nat) (T : TV (d + 1)) (x : Nat × TV (d + 1)), memQ S I n sp m c p seen T = some x → bl I n x.1 = x.1
  | 0, p, seen, T, x, h => by cases h
  | c + 1, p, seen, T, x, h => by
    rw [memQ] at h
    cases e : mem1 S I n sp m p seen T with
    | none => rw [e] at h; cases h
    | some r =>
      rw [e] at h
      change (if lk I n (bl I n r.2.1) = 44 then memQ S I n sp m c (bl I n r.2.1 + 1) (r.1 :: seen) r.2.2 else some (bl I n r.2.1, r.2.2)) = some x at h
      split at h
      · exact memQ_bl c _ _ _ _ h
      · cases h; exact bl_bl I n r.2.1
theorem put_len {T : TV (d + 1)} {s : SV d} : (t1 (put S T s)).length ≤ (t1 T).length + 1 := by
  rw [t1_put]
  split
  · omega
  · split
    · have := List.length_filter_le (fun t : SV d => !decide (goes S s.1 t.1)) (t1 T); omega
    · have := List.length_filter_le (fun t : SV d => !decide (goes S s.1 t.1)) (t1 T); simp only [List.length_cons]; omega
theorem mem1_len {p : Nat} {seen : List Nat} {T : TV (d + 1)} {x : Nat × Nat × TV (d + 1)} (h : mem1 S I n sp m p seen T = some x) : (t1 x.2.2).length ≤ (t1 T).length + 1 := by
  unfold mem1 at h
  cases es : strX I n (bl I n p) with
  | none => rw [es] at h; cases h
  | some r =>
    rw [es] at h
    change ((byN S m r.2).bind fun f => _) = _ at h
    cases eb : byN S m r.2 with
    | none => rw [eb] at h; cases h
    | some f =>
      rw [eb] at h
      change (if f ∈ seen ∨ lk I n (bl I n r.1) ≠ 58 then none else _) = _ at h
      split at h
      · cases h
      · cases ei : (if lit I n (bl I n (bl I n r.1 + 1)) 5 then some (bl I n (bl I n r.1 + 1) + slen 5, T) else if hasO S T f = true then none else (itmS S I n sp f (bl I n (bl I n r.1 + 1))).map fun q => (q.1, q.2.foldl (put S) T) : Option (Nat × TV (d + 1))) with
        | none => rw [ei] at h; cases h
        | some y =>
          rw [ei] at h
          cases h
          show (t1 y.2).length ≤ _
          split at ei
          · cases ei; exact Nat.le_succ _
          · split at ei
            · cases ei
            · cases et : itmS S I n sp f (bl I n (bl I n r.1 + 1)) with
              | none => rw [et] at ei; cases ei
              | some w =>
                rw [et] at ei
                cases ei
                have hf := itmS_f et
                by_cases cr : qr S f = 1
                · show (t1 (w.2.foldl (put S) T)).length ≤ _
                  rw [fold_rep cr w.2 T hf.1]; exact Nat.le_succ _
                · obtain ⟨s0, es0⟩ := hf.2 cr
                  show (t1 (w.2.foldl (put S) T)).length ≤ _
                  rw [es0]
                  exact put_len
end Mq0
section Oj
variable {z z1 : Nat} {S : SC} {fa ma ea : Nat → Nat} {od : Nat → List Nat} {a b ra wa v m : Nat} {I : Nat → Nat} {n d : Nat} {rec : Nat × Nat → Option Nat → Option Nat → Int → ST → Option (Option (Option Nat) × ST)} {dp : Int} {sp : Nat → Nat → Option (Nat × TV d)}
def MQo (z z1 : Nat) (S : SC) (fa ma ea : Nat → Nat) (od : Nat → List Nat) (a b ra wa : Nat) (I : Nat → Nat) (n v m d : Nat) (σ : ST) (p : Nat) (T : TV (d + 1)) (o : Option (Nat × TV (d + 1))) (y : (Option (Option Nat) × ST) ⊕ ST) : Prop := match o with
  | some e => ∃ σ' c, y = Sum.inr σ' ∧ WV z z1 S fa ma ea od a b ra wa I n v m d σ' e.1 e.2 ∧ JK σ σ' z1 a ra wa c (5 * (e.1 - p)) ∧ (c + dM S (d + 1) e.2 ≤ 8 * (e.1 - p) + 8 + dM S (d + 1) T ∧ c ≤ 8 * (e.1 - p)) ∧ p ≤ e.1 ∧ e.1 ≤ n
  | none => ∃ σ', y = Sum.inl (none, σ') ∧ JK σ σ' z1 a ra wa (8 * (n + 1 - p) + 10000) (5 * (n + 1 - p) + 400)
theorem obj_L (h : HY z z1 S fa ma ea od a b ra wa I n d rec dp sp) (hm : m < S.1) : ∀ (c N p bt : Nat) (seen : List Nat) (T : TV (d + 1)) (σ : ST), WV z z1 S fa ma ea od a b ra wa I n v m d σ p T → p ≤ n → n + 1 ≤ c + p → c < N → (t1 T).length < p → SP (od m) bt seen → Rn stR σ (fun bb => jr_object_L29 bb (rec bb) (some a) dp v N (lN bt) σ) (MQo z z1 S fa ma ea od a b ra wa I n v m d σ p T (memQ S I n sp m c p seen T))
  | 0, N, p, bt, seen, T, σ, hW, hp, h1, h2, hlen, hSP => by omega
  | c + 1, N, p, bt, seen, T, σ, hW, hp, h1, h2, hlen, hSP => by
    obtain ⟨N, rfl⟩ : ∃ m, N = m + 1 := ⟨N - 1, by omega⟩
    have hn := hW.2.1.2.2.2.2.2.1
    refine Rn_eq (fun bb => by rw [jr_object_L29, bind_some', gd_pos hW.2.1.1]) ?_
    rw [memQ]
    refine Rn_tB (jr_field_eq h hW hp hm (by omega) hSP) (fun σ' _ hr => ⟨rfl, ?_⟩) (fun y Y _ hr => ?_)
    · cases e : mem1 S I n sp m p seen T with
      | none => rw [e] at hr; obtain ⟨σ1, e1, K⟩ := hr; cases e1; exact ⟨σ', rfl, K⟩
      | some x => rw [e] at hr; obtain ⟨σ1, b', cc, e1, -⟩ := hr; cases e1
    · cases e : mem1 S I n sp m p seen T with
      | none => rw [e] at hr; obtain ⟨σ1, e1, K⟩ := hr; cases e1
      | some x =>
        rw [e] at hr
        obtain ⟨σ1, bt', cf, e1, hSP', hWY, K, ⟨gc1, gc2⟩, hb1, hb2⟩ := hr
        cases e1
        have hl1 := mem1_len e
        have b3 := bl_ge' I n x.2.1
        have b4 := bl_le' I n x.2.1
        show Rn _ _ _ (MQo z z1 S fa ma ea od a b ra wa I n v m d σ p T (if lk I n (bl I n x.2.1) = 44 then memQ S I n sp m c (bl I n x.2.1 + 1) (x.1 :: seen) x.2.2 else some (bl I n x.2.1, x.2.2)))
        refine Rn_eq (fun bb => by rw [gd_pos hWY.2.1.1, hWY.2.1.passes bb (c := 44) (by omega), bind_some']) ?_
        refine Rn_le (σ1 := Y) (Le.refl _) ?_
        by_cases c44 : lk I n (bl I n x.2.1) = 44
        · have l44 := lk_ne c44 (by decide)
          rw [if_pos c44, if_pos c44]
          refine Rn_eq (fun bb => by rw [gd_pos (show rg ((1 : Int), pI Y 210 a ((bl I n x.2.1 + 1 : Nat) : Int)).1 by show rg 1; omega), if_neg (show ¬ ((1 : Int), pI Y 210 a ((bl I n x.2.1 + 1 : Nat) : Int)).1 = 0 by show ¬ (1 : Int) = 0; omega)]) ?_
          have hW3 := hWY.at h.1 h.2.2.1 h.2.2.2.1 (q := bl I n x.2.1 + 1) (by omega)
          refine Rn_le (σ1 := pI Y 210 a ((bl I n x.2.1 + 1 : Nat) : Int)) ⟨Nat.le_refl _, Nat.le_refl _, Nat.le_refl _⟩ ?_
          have K1 : JK σ (pI Y 210 a ((bl I n x.2.1 + 1 : Nat) : Int)) z1 a ra wa cf (5 * (x.2.1 - p)) := K.tr (JK.at Y _)
          refine (obj_L h hm c N (bl I n x.2.1 + 1) bt' (x.1 :: seen) x.2.2 _ hW3 (by omega) (by omega) (by omega) (by omega) hSP').mono (fun y _ hy => ?_)
          cases eq1 : memQ S I n sp m c (bl I n x.2.1 + 1) (x.1 :: seen) x.2.2 with
          | none =>
            rw [eq1] at hy
            obtain ⟨σ', e2, K2⟩ := hy
            exact ⟨σ', e2, (K1.tr K2).mono (by omega) (by omega)⟩
          | some w =>
            rw [eq1] at hy
            obtain ⟨σ', c2, e2, hW', K2, ⟨hd1, hd2⟩, hc1, hc2⟩ := hy
            exact ⟨σ', cf + c2, e2, hW', (K1.tr K2).mono (Nat.le_refl _) (by omega), ⟨by omega, by omega⟩, by omega, hc2⟩
        · rw [if_neg c44, if_neg c44]
          refine Rn_eq (fun bb => by rw [gd_pos (show rg ((0 : Int), pI Y 210 a ((bl I n x.2.1 : Nat) : Int)).1 by show rg 0; omega), if_pos (show ((0 : Int), pI Y 210 a ((bl I n x.2.1 : Nat) : Int)).1 = 0 from rfl)]) ?_
          exact Rn_some ⟨Nat.le_refl _, Nat.le_refl _, Nat.le_refl _⟩ ⟨_, cf, rfl, hWY.at h.1 h.2.2.1 h.2.2.2.1 (by omega), (K.tr (JK.at (z1 := z1) Y _)).mono (by omega) (by show 5 * (x.2.1 - p) + 0 ≤ 5 * (bl I n x.2.1 - p); omega), ⟨by show cf + dM S (d + 1) x.2.2 ≤ 8 * (bl I n x.2.1 - p) + 8 + dM S (d + 1) T; omega, by show cf ≤ 8 * (bl I n x.2.1 - p); omega⟩, by show p ≤ bl I n x.2.1; omega, by show bl I n x.2.1 ≤ n; omega⟩
theorem JK.toG {σ σ' : ST} {c k : Nat} (h : JK σ σ' (sZ σ) a ra wa c k) : JG σ σ' a ra wa c k := by
  obtain ⟨a1, a2, a3, a4, a5⟩ := h
  exact ⟨⟨a1.1, fun x hx => ⟨(a1.2 x hx).1, fun q => (a1.2 x hx).2 (fun w => w.elim q (fun u => by omega))⟩⟩, a2, a3, a4, a5⟩
end Oj
