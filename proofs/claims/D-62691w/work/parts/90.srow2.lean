set_option maxRecDepth 100000
/-! JSON: rows, as the system reads them -/
def stR {Y : Type} (y : (Option Y × ST) ⊕ ST) : ST := Sum.elim (·.2) id y
section Rp
variable {z z1 : Nat} {S : SC} {fa ma ea : Nat → Nat} {od : Nat → List Nat} {a b ra wa v m : Nat} {I : Nat → Nat} {n d : Nat} {rec : Nat × Nat → Option Nat → Option Nat → Int → ST → Option (Option (Option Nat) × ST)} {dp : Int} {sp : Nat → Nat → Option (Nat × TV d)} {c k c' k' p : Nat} {σ σ1 σ2 : ST} {T : TV (d + 1)}
/-- all that a step of the reader of objects rests on -/
def HY (z z1 : Nat) (S : SC) (fa ma ea : Nat → Nat) (od : Nat → List Nat) (a b ra wa : Nat) (I : Nat → Nat) (n d : Nat) (rec : Nat × Nat → Option Nat → Option Nat → Int → ST → Option (Option (Option Nat) × ST)) (dp : Int) (sp : Nat → Nat → Option (Nat × TV d)) : Prop := SW S ∧ (∀ k, I k < 256) ∧ (z ≤ a ∧ z ≤ ra ∧ z ≤ wa) ∧ (z ≤ z1 ∧ a < z1 ∧ ra < z1 ∧ wa < z1 ∧ b < z1) ∧ (¬ 8 ≤ dp → RS z S fa ma ea od a b ra wa I n d rec (dp + 1) sp) ∧ (8 ≤ dp → ∀ m p, sp m p = none) ∧ (1 ≤ dp ∧ dp ≤ 8) ∧ RB n sp ∧ NE S
theorem any_val (h : HY z z1 S fa ma ea od a b ra wa I n d rec dp sp) (hW : WV z z1 S fa ma ea od a b ra wa I n v m d σ p T) (hp : p ≤ n) {f : Nat} (hf : f < nF_ S) : (sR σ 137 (fa f) = none → Rn (·.2) σ (fun bb => jr_slot bb a (some (fa f)) σ) (VLO σ a b ra wa I n p S fa ma (valS S I n sp f (bl I n p)))) ∧ (¬ sR σ 137 (fa f) = none → Rn (·.2) σ (fun bb => jr_inner bb (rec bb) (some a) (some (fa f)) dp σ) (VLO σ a b ra wa I n p S fa ma (valS S I n sp f (bl I n p)))) := by
  obtain ⟨h1, h2, h3, h4, h5, h6, h7, h8, -⟩ := h
  obtain ⟨w1, w2, F, w3, w4⟩ := hW
  have e137 := (w1.2.1 f hf).2.2.2.2.2.2.2.2.2.2.1
  constructor
  · intro q
    have hnm : ¬ isM S f := fun u => by rw [if_pos u] at e137; rw [q] at e137; cases e137
    exact w2.scl h1 h2 w1 hp h3 hf hnm
  · intro q
    have hm : isM S f := by
      by_cases u : isM S f
      · exact u
      · rw [if_neg u] at e137; exact absurd e137 q
    exact w2.inn h1 w1 hp h3 h5 h6 h7 hf hm
theorem VLO.thr {o : Option (Nat × SV d)} {σ' : ST} (h : VLO σ a b ra wa I n p S fa ma o (none, σ')) : o = none ∧ JG σ σ' a ra wa (8 * (n + 1 - p) + 10005) (5 * (n + 1 - p) + 405) := by
  cases o with
  | none => obtain ⟨σ1, e, g⟩ := h; cases e; exact ⟨rfl, g⟩
  | some e => obtain ⟨σ1, Fn, c, q, -⟩ := h; cases q
theorem VLO.suc {o : Option (Nat × SV d)} {y : Option Nat} {σ' : ST} (h : VLO σ a b ra wa I n p S fa ma o (some y, σ')) : ∃ e Fn c, o = some e ∧ y = some (sZ σ) ∧ JRd σ' a b ra wa I n e.1 ∧ sZ σ < sZ σ' ∧ HSl S fa (HV S fa ma d σ') σ' (sZ σ) e.2 Fn ∧ sR σ' 196 (sZ σ) = none ∧ (∀ x, Fn x → sZ σ < x ∧ x < sZ σ') ∧ JG σ σ' a ra wa c (5 * (e.1 - p)) ∧ c + dV S (dM S d) e.2 ≤ 8 * (e.1 - p) := by
  cases o with
  | none => obtain ⟨σ1, e, g⟩ := h; cases e
  | some e => obtain ⟨σ1, Fn, c, q, r⟩ := h; cases q; exact ⟨e, Fn, c, rfl, rfl, r⟩
def RQ (z z1 : Nat) (S : SC) (fa ma ea : Nat → Nat) (od : Nat → List Nat) (a b ra wa : Nat) (I : Nat → Nat) (n v m d : Nat) (σ : ST) (p : Nat) (T : TV (d + 1)) (acc : List (SV d)) (o : Option (Nat × List (SV d))) (y : (Option Unit × ST) ⊕ ST) : Prop := match o with
  | some e => ∃ σ' ss c, y = Sum.inr σ' ∧ e.2 = acc ++ ss ∧ WV z z1 S fa ma ea od a b ra wa I n v m d σ' e.1 (ss.foldl (put S) T) ∧ JK σ σ' z1 a ra wa c (5 * (e.1 - p)) ∧ c + dL S ss ≤ 8 * (e.1 - p) + 8 ∧ p ≤ e.1 ∧ e.1 ≤ n
  | none => ∃ σ', y = Sum.inl (none, σ') ∧ JK σ σ' z1 a ra wa (8 * (n + 1 - p) + 10005) (5 * (n + 1 - p) + 405)
theorem row_L (h : HY z z1 S fa ma ea od a b ra wa I n d rec dp sp) {f : Nat} (hf : f < nF_ S) (hr : qr S f = 1) : ∀ (c N p : Nat) (acc : List (SV d)) (T : TV (d + 1)) (σ : ST), WV z z1 S fa ma ea od a b ra wa I n v m d σ p T → p ≤ n → n + 1 ≤ c + p → c < N → (t1 T).length < 1000 → Rn stR σ (fun bb => jr_row_L16 bb (rec bb) a (some (fa f)) (some v) dp N σ) (RQ z z1 S fa ma ea od a b ra wa I n v m d σ p T acc (arrQ S I n sp f c p acc))
  | 0, N, p, acc, T, σ, hW, hp, h1, h2, hlen => by omega
  | c + 1, N, p, acc, T, σ, hW, hp, h1, h2, hlen => by
    obtain ⟨N, rfl⟩ : ∃ m, N = m + 1 := ⟨N - 1, by omega⟩
    have hn := hW.2.1.2.2.2.2.2.1
    have b1 := bl_ge' I n p
    have b2 := bl_le' I n p
    obtain ⟨v1, v2⟩ := any_val h hW hp hf
    have f9 := (hW.1.2.1 f hf).2.1
    refine Rn_eq (fun bb => by rw [jr_row_L16, bind_some', gd_pos f9]) ?_
    rw [arrQ]
    refine Rn_bind (su := Sum.elim stR (·.2)) (J := fun y => (∃ x σ1, y = Sum.inr (x, σ1) ∧ VLO σ a b ra wa I n p S fa ma (valS S I n sp f (bl I n p)) (some x, σ1)) ∨ (∃ σ1, y = Sum.inl (Sum.inl (none, σ1)) ∧ VLO σ a b ra wa I n p S fa ma (valS S I n sp f (bl I n p)) (none, σ1))) ?_ (fun y _ hy => ?_)
    · refine Rn_if (fun q => ?_) (fun q => ?_)
      · exact Rn_gd hW.2.1.1 (Rn_tB (v1 q) (fun σ' _ hr => ⟨rfl, Or.inr ⟨σ', rfl, hr⟩⟩) (fun x σ' _ hr => Rn_some (Le.refl _) (Or.inl ⟨x, σ', rfl, hr⟩)))
      · exact Rn_tB (v2 q) (fun σ' _ hr => ⟨rfl, Or.inr ⟨σ', rfl, hr⟩⟩) (fun x σ' _ hr => Rn_some (Le.refl _) (Or.inl ⟨x, σ', rfl, hr⟩))
    · rcases hy with ⟨x, σ1, e1, hv⟩ | ⟨σ1, e1, hv⟩
      · subst e1
        obtain ⟨e, Fn, cv, eo, ex, hJ, hz, hs, h196, hFn, g, gc⟩ := hv.suc
        subst ex
        obtain ⟨bd1, bd2, bd3⟩ := valS_bd h.2.1 h.2.2.2.2.2.2.2.1 (by omega) eo
        obtain ⟨σ2, q1, q2, q3, q4, hle⟩ := hW.puts h.1 h.2.2.1 h.2.2.2.1 hlen hJ hz hs h196 hFn g
        have b3 := bl_ge' I n e.1
        have b4 := bl_le' I n e.1
        rw [eo]
        show Rn _ _ _ (RQ z z1 S fa ma ea od a b ra wa I n v m d σ p T acc (if lk I n (bl I n e.1) = 44 then arrQ S I n sp f c (bl I n e.1 + 1) (acc ++ [e.2]) else some (bl I n e.1, acc ++ [e.2])))
        refine Rn_eq (fun bb => by rw [elim_r, bind_some', gd_pos q4, q1 bb, bind_some', gd_pos q2.2.1.1, q2.2.1.passes bb (c := 44) (by omega), bind_some']) ?_
        refine Rn_le (σ1 := σ2) hle ?_
        have hlen2 : (t1 (put S T e.2)).length < 1000 := by rw [t1_put, if_pos (by rw [bd3]; exact hr)]; exact hlen
        by_cases c44 : lk I n (bl I n e.1) = 44
        · have l44 := lk_ne c44 (by decide)
          rw [if_pos c44, if_pos c44]
          refine Rn_eq (fun bb => by rw [gd_pos (show rg ((1 : Int), pI σ2 210 a ((bl I n e.1 + 1 : Nat) : Int)).1 by show rg 1; omega), if_neg (show ¬ ((1 : Int), pI σ2 210 a ((bl I n e.1 + 1 : Nat) : Int)).1 = 0 by show ¬ (1 : Int) = 0; omega)]) ?_
          have hW3 := q2.at h.1 h.2.2.1 h.2.2.2.1 (q := bl I n e.1 + 1) (by omega)
          refine Rn_le (σ1 := pI σ2 210 a ((bl I n e.1 + 1 : Nat) : Int)) ⟨Nat.le_refl _, Nat.le_refl _, Nat.le_refl _⟩ ?_
          refine (row_L h hf hr c N (bl I n e.1 + 1) (acc ++ [e.2]) (put S T e.2) _ hW3 (by omega) (by omega) (by omega) hlen2).mono (fun y _ hy => ?_)
          have K1 : JK σ (pI σ2 210 a ((bl I n e.1 + 1 : Nat) : Int)) z1 a ra wa cv (5 * (e.1 - p)) := q3.tr (JK.at σ2 _)
          cases ea : arrQ S I n sp f c (bl I n e.1 + 1) (acc ++ [e.2]) with
          | none =>
            rw [ea] at hy
            obtain ⟨σ', e2, K2⟩ := hy
            exact ⟨σ', e2, (K1.tr K2).mono (by omega) (by omega)⟩
          | some x =>
            rw [ea] at hy
            obtain ⟨σ', ss, c2, e2, e3, hW', K2, gc2, hb1, hb2⟩ := hy
            refine ⟨σ', e.2 :: ss, cv + c2, e2, by rw [e3, List.append_assoc]; rfl, hW', (K1.tr K2).mono (Nat.le_refl _) (by omega), ?_, by omega, hb2⟩
            have eL : dL S (e.2 :: ss) = (8 + dV S (dM S d) e.2) + dL S ss := rfl
            rw [eL]
            omega
        · rw [if_neg c44, if_neg c44]
          refine Rn_eq (fun bb => by rw [gd_pos (show rg ((0 : Int), pI σ2 210 a ((bl I n e.1 : Nat) : Int)).1 by show rg 0; omega), if_pos (show ((0 : Int), pI σ2 210 a ((bl I n e.1 : Nat) : Int)).1 = 0 from rfl)]) ?_
          refine Rn_some ⟨Nat.le_refl _, Nat.le_refl _, Nat.le_refl _⟩ ⟨pI σ2 210 a ((bl I n e.1 : Nat) : Int), [e.2], cv, rfl, rfl, q2.at h.1 h.2.2.1 h.2.2.2.1 (by omega), (q3.tr (JK.at σ2 _)).mono (by omega) (by show 5 * (e.1 - p) + 0 ≤ 5 * (bl I n e.1 - p); omega), by
            have eL : dL S [e.2] = (8 + dV S (dM S d) e.2) + 0 := rfl
            show cv + dL S [e.2] ≤ 8 * (bl I n e.1 - p) + 8
            rw [eL]
            omega, by show p ≤ bl I n e.1; omega, by show bl I n e.1 ≤ n; omega⟩
      · subst e1
        obtain ⟨eo, g⟩ := hv.thr
        rw [eo]
        exact Rn_eq (fun bb => by rw [elim_l]) (Rn_some (Le.refl _) ⟨σ1, rfl, JG.toK g⟩)
end Rp
