set_option maxRecDepth 100000
/-! JSON: rows, as the system reads them -/
/-- from one state of a reader to another, while a value is made that lies behind z1 -/
def JK (σ σ' : ST) (z1 a ra wa c k : Nat) : Prop := FR (fun b => (b = a ∨ b = ra ∨ b = wa) ∨ z1 ≤ b) σ σ' ∧ sS σ' + pzz (sN σ ra) ≤ sS σ + pzz (sN σ' ra) + c ∧ sC σ' + sN σ ra / 8 ≤ sC σ + sN σ' ra / 8 + k ∧ sN σ ra ≤ sN σ' ra ∧ sN σ' ra ≤ max (sN σ ra) 2000
/-- the loop of a row, up to what comes behind its last value -/
def arrQ {d : Nat} (S : SC) (I : Nat → Nat) (n : Nat) (sp : Nat → Nat → Option (Nat × TV d)) (f : Nat) : Nat → Nat → List (SV d) → Option (Nat × List (SV d))
  | 0, _, _ => none
  | c + 1, p, acc => (valS S I n sp f (bl I n p)).bind fun r => if lk I n (bl I n r.1) = 44 then arrQ S I n sp f c (bl I n r.1 + 1) (acc ++ [r.2]) else some (bl I n r.1, acc ++ [r.2])
theorem arrL_Q {d : Nat} {S : SC} {I : Nat → Nat} {n : Nat} {sp : Nat → Nat → Option (Nat × TV d)} {f : Nat} : ∀ (c p : Nat) (acc : List (SV d)), arrL S I n sp f c p acc = (arrQ S I n sp f c p acc).bind fun q => if lk I n q.1 = 93 then some (q.1 + 1, q.2) else none
  | 0, p, acc => rfl
  | c + 1, p, acc => by
    rw [arrL, arrQ]
    cases valS S I n sp f (bl I n p) with
    | none => rfl
    | some r =>
      show (if lk I n (bl I n r.1) = 44 then _ else _) = Option.bind (if lk I n (bl I n r.1) = 44 then _ else _) _
      by_cases q : lk I n (bl I n r.1) = 44
      · rw [if_pos q, if_pos q]; exact arrL_Q c _ _
      · rw [if_neg q, if_neg q]; rfl
section Ro
variable {z z1 : Nat} {S : SC} {fa ma ea : Nat → Nat} {od : Nat → List Nat} {a b ra wa v m : Nat} {I : Nat → Nat} {n d : Nat} {rec : Nat × Nat → Option Nat → Option Nat → Int → ST → Option (Option (Option Nat) × ST)} {dp : Int} {sp : Nat → Nat → Option (Nat × TV d)} {c k c' k' p : Nat} {σ σ1 σ2 : ST} {T : TV (d + 1)}
theorem JK.tr (h : JK σ σ1 z1 a ra wa c k) (g : JK σ1 σ2 z1 a ra wa c' k') : JK σ σ2 z1 a ra wa (c + c') (k + k') := by
  obtain ⟨a1, a2, a3, a4, a5⟩ := h
  obtain ⟨b1, b2, b3, b4, b5⟩ := g
  exact ⟨a1.tr b1 (fun _ _ q => q), by omega, by omega, by omega, by omega⟩
theorem JK.mono (h : JK σ σ1 z1 a ra wa c k) (hc : c ≤ c') (hk : k ≤ k') : JK σ σ1 z1 a ra wa c' k' := by
  obtain ⟨a1, a2, a3, a4, a5⟩ := h
  exact ⟨a1, by omega, by omega, a4, a5⟩
theorem JG.toK (h : JG σ σ1 a ra wa c k) : JK σ σ1 z1 a ra wa c k := by
  obtain ⟨a1, a2, a3, a4, a5⟩ := h
  exact ⟨⟨a1.1, fun b hb => ⟨(a1.2 b hb).1, fun q => (a1.2 b hb).2 (fun w => q (Or.inl w))⟩⟩, a2, a3, a4, a5⟩
theorem JK.at (σ : ST) (w : Int) : JK σ (pI σ 210 a w) z1 a ra wa 0 0 := JG.toK ((JF.at σ a ra w).toG (wa := wa) (Nat.le_max_left _ _))
theorem HSc.kk (hH : HSc z σ S fa ma ea od) (hS : SW S) (hza : z ≤ a ∧ z ≤ ra ∧ z ≤ wa) (hz1 : z ≤ z1) (g : JK σ σ1 z1 a ra wa c k) : HSc z σ1 S fa ma ea od := hH.kept hS ⟨g.1.1, fun x hx => ⟨(g.1.2 x hx).1, fun w => (g.1.2 x hx).2 (fun u => w (by
  rcases u with (u | u | u) | u
  · rw [u]; exact hza.1
  · rw [u]; exact hza.2.1
  · rw [u]; exact hza.2.2
  · exact Nat.le_trans hz1 u))⟩⟩
/-- a value under way -/
def WV (z z1 : Nat) (S : SC) (fa ma ea : Nat → Nat) (od : Nat → List Nat) (a b ra wa : Nat) (I : Nat → Nat) (n v m d : Nat) (σ : ST) (p : Nat) (T : TV (d + 1)) : Prop := HSc z σ S fa ma ea od ∧ JRd σ a b ra wa I n p ∧ ∃ F, HV S fa ma (d + 1) σ v m T F ∧ ∀ x, F x → z1 ≤ x ∧ x < sZ σ
/-- the same at another place of the text -/
theorem WV.at (hW : WV z z1 S fa ma ea od a b ra wa I n v m d σ p T) (hS : SW S) (hza : z ≤ a ∧ z ≤ ra ∧ z ≤ wa) (hz1 : z ≤ z1 ∧ a < z1 ∧ ra < z1 ∧ wa < z1 ∧ b < z1) {q : Nat} (hq : q ≤ 1001) : WV z z1 S fa ma ea od a b ra wa I n v m d (pI σ 210 a (q : Int)) q T := by
  obtain ⟨h1, h2, F, h3, h4⟩ := hW
  refine ⟨h1.kk hS hza hz1.1 (JK.at (z1 := z1) σ _), h2.to hq rfl, F, HV_kept _ v m T F h3 (fun x w _ => ?_) (Nat.le_refl _), h4⟩
  have hxa : x ≠ a := by have := (h4 x w).1; omega
  exact ⟨⟨rfl, rfl, rfl, rfl, rfl, rfl, rfl, fun k => by rw [sI_pI, if_neg (fun q => hxa q.2)], fun k => rfl, fun k => rfl⟩, rfl⟩
theorem WV.puts (hW : WV z z1 S fa ma ea od a b ra wa I n v m d σ p T) (hS : SW S) (hza : z ≤ a ∧ z ≤ ra ∧ z ≤ wa) (hz1 : z ≤ z1 ∧ a < z1 ∧ ra < z1 ∧ wa < z1 ∧ b < z1) (hlen : (t1 T).length < 1000) {e : Nat × SV d} {Fn : Nat → Prop} (hJ : JRd σ1 a b ra wa I n e.1) (hz : sZ σ < sZ σ1) (hs : HSl S fa (HV S fa ma d σ1) σ1 (sZ σ) e.2 Fn) (h196 : sR σ1 196 (sZ σ) = none) (hFn : ∀ x, Fn x → sZ σ < x ∧ x < sZ σ1) (g : JG σ σ1 a ra wa c k) : ∃ σ2, (∀ bb, vlu_put bb v (some (sZ σ)) σ1 = some σ2) ∧ WV z z1 S fa ma ea od a b ra wa I n v m d σ2 e.1 (put S T e.2) ∧ JK σ σ2 z1 a ra wa c k ∧ sc σ1 v = 11 ∧ Le σ1 σ2 := by
  obtain ⟨h1, h2, F, h3, h4⟩ := hW
  obtain ⟨l1, l2, l3, l4⟩ := h2.lt
  have hH1 := h1.gr hS hza g
  have hV1 : HV S fa ma (d + 1) σ1 v m T F := HV_kept _ v m T F h3 (fun x w l => ⟨(g.1.2 x l).2 (by have := (h4 x w).1; omega), (g.1.2 x l).1⟩) (by omega)
  obtain ⟨σ2, q1, q2, q3, q4, q5, q6⟩ := vlu_put_eq hS hH1 (fun x w => Nat.le_trans hz1.1 (h4 x w).1) hV1 hz hs h196 (fun w => by have := (h4 _ w).2; omega) (fun x w u => by have := (h4 x w).2; have := (hFn x u).1; omega) (fun w => by have := (hFn _ w).1; omega) hlen
  have hzs : z1 ≤ sZ σ := by
    have hv := h3.2.2.1
    have := h4 v hv
    omega
  have hN : sN σ2 ra = sN σ1 ra := ((q3.2 ra (by omega)).2 (by
    rintro (w | w)
    · have := (h4 ra w).1; omega
    · omega)).2.2.1
  have K2 : JK σ1 σ2 z1 a ra wa 0 0 := ⟨⟨q3.1, fun x hx => ⟨(q3.2 x hx).1, fun w => (q3.2 x hx).2 (by
    rintro (u | u)
    · exact w (Or.inr (h4 x u).1)
    · exact w (Or.inr (by omega)))⟩⟩, by rw [hN, q4]; omega, by rw [hN, q5]; omega, by rw [hN]; exact Nat.le_refl _, by rw [hN]; exact Nat.le_max_left _ _⟩
  refine ⟨σ2, q1, ⟨hH1.kk hS hza hz1.1 K2, hJ.fr q3 ?_ ?_ ?_, _, q2, ?_⟩, ?_, hV1.1, q3.1⟩
  · rintro (w | w)
    · have := (h4 a w).1; omega
    · omega
  · rintro (w | w)
    · have := (h4 b w).1; omega
    · omega
  · rintro (w | w)
    · have := (h4 ra w).1; omega
    · omega
  · rintro x (w | w | w)
    · have := h4 x w; rw [q6]; omega
    · rw [w, q6]; omega
    · have := hFn x w; rw [q6]; omega
  · have := (JG.toK (z1 := z1) g).tr K2
    exact this
end Ro
