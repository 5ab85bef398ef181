set_option maxRecDepth 100000
/-! VALUES: those of a field, or of all of its oneof, go -/
/-- only references changed: of v its first single value, of slots in L the next one -/
def DX (L : List Nat) (v : Nat) (σ σ' : ST) : Prop := (sc σ' = sc σ ∧ sI σ' = sI σ ∧ sJ σ' = sJ σ ∧ sW σ' = sW σ ∧ sA σ' = sA σ ∧ sN σ' = sN σ ∧ sB σ' = sB σ ∧ sE σ' = sE σ ∧ sF σ' = sF σ ∧ sH σ' = sH σ ∧ sZ σ' = sZ σ ∧ sC σ' = sC σ ∧ sS σ' = sS σ) ∧ ∀ k x, ¬ (k = 161 ∧ x = v) → ¬ (k = 196 ∧ x ∈ L) → sR σ' k x = sR σ k x
theorem DX.refl (L : List Nat) (v : Nat) (σ : ST) : DX L v σ σ := ⟨⟨rfl, rfl, rfl, rfl, rfl, rfl, rfl, rfl, rfl, rfl, rfl, rfl, rfl⟩, fun _ _ _ _ => rfl⟩
theorem DX.next {L : List Nat} {v : Nat} {σ σ' : ST} (h : DX L v σ σ') {x : Nat} (hx : x ∈ L) (o : Option Nat) : DX L v σ (pR σ' 196 x o) := ⟨h.1, fun k y h1 h2 => by
  rw [sR_pR, if_neg (fun w => h2 ⟨w.1, by rw [w.2]; exact hx⟩)]; exact h.2 k y h1 h2⟩
theorem DX.first {L : List Nat} {v : Nat} {σ σ' : ST} (h : DX L v σ σ') (o : Option Nat) : DX L v σ (pR σ' 161 v o) := ⟨h.1, fun k y h1 h2 => by
  rw [sR_pR, if_neg (fun w => h1 w)]; exact h.2 k y h1 h2⟩
theorem DX.sx {L : List Nat} {v : Nat} {σ σ' : ST} (h : DX L v σ σ') (x : Nat) : Sx σ σ' x := ⟨by rw [h.1.1], by rw [h.1.2.2.1], h.2 192 x (fun w => absurd w.1 (by decide)) (fun w => absurd w.1 (by decide)), h.2 194 x (fun w => absurd w.1 (by decide)) (fun w => absurd w.1 (by decide)), h.2 195 x (fun w => absurd w.1 (by decide)) (fun w => absurd w.1 (by decide))⟩
theorem DX.sm {L : List Nat} {v : Nat} {σ σ' : ST} (h : DX L v σ σ') {x : Nat} (h1 : x ≠ v) (h2 : x ∉ L) : Sm1 σ σ' x := by
  obtain ⟨⟨a1, a2, a3, a4, a5, a6, a7, a8, a9, a10, a11, a12, a13⟩, hr⟩ := h
  exact ⟨⟨by rw [a4], by rw [a5], by rw [a6], by rw [a7], by rw [a8], by rw [a9], by rw [a10], fun k => by rw [a2], fun k => by rw [a3], fun k => hr k x (fun w => h1 w.2) (fun w => h2 w.2)⟩, by rw [a1]⟩
theorem DX.fr {L : List Nat} {v : Nat} {σ σ' : ST} (h : DX L v σ σ') {W : Nat → Prop} (hv : W v) (hL : ∀ x ∈ L, W x) : FR W σ σ' := ⟨⟨by rw [h.1.2.2.2.2.2.2.2.2.2.2.1]; exact Nat.le_refl _, by rw [h.1.2.2.2.2.2.2.2.2.2.2.2.1]; exact Nat.le_refl _, by rw [h.1.2.2.2.2.2.2.2.2.2.2.2.2]; exact Nat.le_refl _⟩, fun x _ => ⟨by rw [h.1.1], fun w => (h.sm (fun e => w (by rw [e]; exact hv)) (fun e => w (hL x e))).1⟩⟩
theorem chain_snoc {σ σ' : ST} {p : Nat} (hp : sR σ' 196 p = none) : ∀ (K : List Nat) (o o' : Option Nat), chain σ o K → K.Nodup → (∀ x ∈ K, some x ≠ K.getLast? → sR σ' 196 x = sR σ 196 x) → (∀ l, K.getLast? = some l → sR σ' 196 l = some p) → (K = [] → o' = some p) → (K ≠ [] → o' = o) → chain σ' o' (K ++ [p])
  | [], o, o', h, _, _, _, h1, _ => ⟨h1 rfl, hp⟩
  | [s], o, o', h, _, _, hl, _, h2 => ⟨by rw [h2 (by simp)]; exact h.1, hl s rfl, hp⟩
  | s :: t :: r, o, o', h, hn, hk, hl, _, h2 => by
    have hn' := List.nodup_cons.mp hn
    have el : (s :: t :: r).getLast? = (t :: r).getLast? := by simp [List.getLast?_cons]
    have ne : some s ≠ (s :: t :: r).getLast? := fun e => by
      rw [el] at e
      exact hn'.1 (List.mem_of_getLast? e.symm)
    refine ⟨by rw [h2 (by simp)]; exact h.1, ?_⟩
    have e1 := hk s List.mem_cons_self ne
    exact chain_snoc hp (t :: r) (sR σ 196 s) (sR σ' 196 s) h.2 hn'.2 (fun x hx w => hk x (List.mem_cons_of_mem _ hx) (by rw [el]; exact w)) (fun l w => hl l (by rw [el]; exact w)) (fun w => by cases w) (fun _ => e1)
section Dr
variable {z : Nat} {S : SC} {fa ma ea : Nat → Nat} {od : Nat → List Nat} {σ0 : ST} {v f : Nat}
def kpt (S : SC) (f : Nat) (qs : List (Nat × Nat)) : List Nat := (qs.filter (fun q => !decide (goes S f q.2))).map (·.1)
theorem drop_L (hS : SW S) (hH : HSc z σ0 S fa ma ea od) (hf : f < nF_ S) (hv : sc σ0 v = 11) (bb : Nat × Nat) (L : List Nat) : ∀ (qs : List (Nat × Nat)) (n : Nat) (K : List Nat) (o : Option Nat) (σ : ST), DX L v σ0 σ → qs.length < n → (∀ q ∈ qs, q.1 ∈ L ∧ q.2 < nF_ S ∧ sc σ0 q.1 = 13 ∧ sR σ0 192 q.1 = some (fa q.2)) → (∀ x ∈ K, x ∈ L ∧ sc σ0 x = 13) → (K ++ qs.map (·.1)).Nodup → v ∉ L → chain σ o (qs.map (·.1)) → chain σ (sR σ 161 v) K → ∃ σ', vlu_drop_L12 bb v (some (fa f)) n K.getLast? o σ = some σ' ∧ DX L v σ0 σ' ∧ chain σ' (sR σ' 161 v) (K ++ kpt S f qs)
  | [], n, K, o, σ, hD, hn, hq, hK, hnd, hvL, hc, hcK => by
    obtain ⟨n, rfl⟩ : ∃ m, n = m + 1 := ⟨n - 1, by omega⟩
    have e : o = none := hc
    subst e
    refine ⟨σ, ?_, hD, ?_⟩
    · rw [vlu_drop_L12, if_pos rfl]
    · show chain σ (sR σ 161 v) (K ++ [])
      rw [List.append_nil]; exact hcK
  | (p, g) :: qs, n, K, o, σ, hD, hn, hq, hK, hnd, hvL, hc, hcK => by
    obtain ⟨n, rfl⟩ : ∃ m, n = m + 1 := ⟨n - 1, by omega⟩
    obtain ⟨e, hc2⟩ : o = some p ∧ chain σ (sR σ 196 p) (qs.map (fun q : Nat × Nat => q.1)) := hc
    subst e
    obtain ⟨hpL, hg, hp13, hp192⟩ := hq (p, g) List.mem_cons_self
    have s13 : sc σ p = 13 := by rw [hD.1.1]; exact hp13
    have s192 : sR σ 192 p = some (fa g) := by rw [(hD.sx p).2.2.1]; exact hp192
    have sf : sc σ (fa f) = 9 := by rw [hD.1.1]; exact (hH.2.1 f hf).2.1
    have sg : sc σ (fa g) = 9 := by rw [hD.1.1]; exact (hH.2.1 g hg).2.1
    have of' : sI σ 133 (fa f) = qo S f := by rw [hD.1.2.1]; exact (hH.2.1 f hf).2.2.2.2.2.2.2.1
    have og : sI σ 133 (fa g) = qo S g := by rw [hD.1.2.1]; exact (hH.2.1 g hg).2.2.2.2.2.2.2.1
    have bf := (hS.2.2.2.2.1 f hf).2.2.2.2
    have bg := (hS.2.2.2.2.1 g hg).2.2.2.2
    have hvp : v ≠ p := fun w => hvL (by rw [w]; exact hpL)
    have hsv : sc σ v = 11 := by rw [hD.1.1]; exact hv
    have e18 : (if (sR σ 192 p) = some (fa f) then (some 1) else (Option.bind (some (fa f)) fun p49 => gd (sc σ p49 = 9) (gd (rg (sI σ 133 p49)) (gd (¬ ((sI σ 133 p49) < 0) → ¬ (sR σ 192 p) = none) (gd (¬ ((sI σ 133 p49) < 0) → sc σ (ad (sR σ 192 p)) = 9) (gd (¬ ((sI σ 133 p49) < 0) → rg (sI σ 133 (ad (sR σ 192 p)))) (if ((sI σ 133 p49) < 0) ∨ (¬ ((sI σ 133 (ad (sR σ 192 p))) = (sI σ 133 p49))) then (some 0) else (some 1))))))) : Option Int) = some (if goes S f g then 1 else 0) := by
      rw [s192]
      by_cases c : g = f
      · rw [if_pos (by rw [c]), if_pos (Or.inl c)]
      · rw [if_neg (fun w => c (hH.2.2.1 g f hg hf (Option.some.inj w))), bind_some', gd_pos sf, of', gd_pos (by omega), gd_pos (by exact fun _ => by simp), show ad (some (fa g)) = fa g from rfl, gd_pos (by exact fun _ => sg), og, gd_pos (by omega)]
        by_cases d : 0 ≤ qo S f ∧ qo S g = qo S f
        · rw [if_neg (by omega), if_pos (Or.inr d)]
        · rw [if_pos (by omega), if_neg (by
            rintro (w | w)
            · exact c w
            · exact d w)]
    have eI : vlu_drop_L12 bb v (some (fa f)) (n + 1) K.getLast? (some p) σ = Option.bind (if (if goes S f g then (1 : Int) else 0) = 0 then (nm (pR σ 196 p none) fun σ28 => Option.bind (if K.getLast? = none then (gd (sc σ28 v = 11) (nm (pR σ28 161 v (some p)) fun σ36 => some σ36)) else (Option.bind K.getLast? fun p37 => gd (sc σ28 p37 = 13) (nm (pR σ28 196 p37 (some p)) fun σ40 => some σ40))) fun (v31 : ST) => some (((some p : Option Nat), v31))) else (some ((K.getLast?, σ)))) fun (v24 : Option Nat × ST) => vlu_drop_L12 bb v (some (fa f)) n v24.1 (sR σ 196 p) v24.2 := by
      rw [vlu_drop_L12, if_neg (by simp), bind_some', gd_pos s13, nm_eq, e18, bind_some', gd_pos (by split <;> omega)]
    rw [eI]
    have hnd2 : (K ++ qs.map (·.1)).Nodup ∧ p ∉ K ∧ p ∉ qs.map (·.1) ∧ K.Nodup := by
      have h1 := List.nodup_append.mp hnd
      have h2 := List.nodup_cons.mp (show (p :: qs.map (·.1)).Nodup from h1.2.1)
      refine ⟨List.nodup_append.mpr ⟨h1.1, h2.2, fun a ha b hb => h1.2.2 a ha b (List.mem_cons_of_mem _ hb)⟩, fun w => h1.2.2 p w p List.mem_cons_self rfl, h2.1, h1.1⟩
    by_cases c : goes S f g
    · rw [if_pos c, if_neg (by decide), bind_some']
      have ek : kpt S f ((p, g) :: qs) = kpt S f qs := by
        unfold kpt
        rw [List.filter_cons_of_neg (by simp only [decide_eq_true c]; decide)]
      rw [ek]
      exact drop_L hS hH hf hv bb L qs n K (sR σ 196 p) σ hD (by simp only [List.length_cons] at hn; omega) (fun q w => hq q (List.mem_cons_of_mem _ w)) hK hnd2.1 hvL hc2 hcK
    · have ek : kpt S f ((p, g) :: qs) = p :: kpt S f qs := by
        unfold kpt
        rw [List.filter_cons_of_pos (by simp only [decide_eq_false c]; decide), List.map_cons]
      rw [if_neg c, if_pos rfl, nm_eq, ek]
      have fin : ∀ σ2 : ST, DX L v σ0 σ2 → sR σ2 196 p = none → (∀ x ∈ qs.map (·.1), sR σ2 196 x = sR σ 196 x) → chain σ2 (sR σ2 161 v) (K ++ [p]) → ∃ σ', vlu_drop_L12 bb v (some (fa f)) n (some p) (sR σ 196 p) σ2 = some σ' ∧ DX L v σ0 σ' ∧ chain σ' (sR σ' 161 v) (K ++ p :: kpt S f qs) := fun σ2 hD2 _ hk2 hc3 => by
        have q := drop_L hS hH hf hv bb L qs n (K ++ [p]) (sR σ 196 p) σ2 hD2 (by simp only [List.length_cons] at hn; omega) (fun q w => hq q (List.mem_cons_of_mem _ w)) (fun x w => by
          rcases List.mem_append.mp w with r | r
          · exact hK x r
          · rw [List.mem_singleton.mp r]; exact ⟨hpL, hp13⟩) (by rw [List.append_assoc]; exact hnd) hvL (chain_kept _ _ _ rfl hk2 hc2) hc3
        rw [List.getLast?_append, show ([p] : List Nat).getLast? = some p from rfl, List.append_assoc] at q
        exact q
      have hqp : ∀ x ∈ qs.map (·.1), x ≠ p := fun x w e => hnd2.2.2.1 (by rw [← e]; exact w)
      cases hl : K.getLast? with
      | none =>
        have hK0 : K = [] := List.getLast?_eq_none_iff.mp hl
        rw [if_pos rfl, gd_pos (show sc (pR σ 196 p none) v = 11 from hsv), nm_eq, bind_some', bind_some']
        refine fin (pR (pR σ 196 p none) 161 v (some p)) ((hD.next hpL none).first _) ?_ (fun x w => ?_) ?_
        · rw [sR_pR, if_neg (fun w => absurd w.1 (by decide)), sR_pR, if_pos ⟨rfl, rfl⟩]
        · rw [sR_pR, if_neg (fun w => absurd w.1 (by decide)), sR_pR, if_neg (fun u => hqp x w u.2)]
        · rw [hK0]
          exact ⟨by rw [sR_pR, if_pos ⟨rfl, rfl⟩], by rw [sR_pR, if_neg (fun w => absurd w.1 (by decide)), sR_pR, if_pos ⟨rfl, rfl⟩]; rfl⟩
      | some l =>
        have hlK : l ∈ K := List.mem_of_getLast? hl
        have hlp : l ≠ p := fun e => hnd2.2.1 (by rw [← e]; exact hlK)
        have hl13 : sc σ l = 13 := by rw [hD.1.1]; exact (hK l hlK).2
        rw [if_neg (by simp), bind_some', gd_pos (show sc (pR σ 196 p none) l = 13 from hl13), nm_eq, bind_some', bind_some']
        refine fin (pR (pR σ 196 p none) 196 l (some p)) ((hD.next hpL none).next (hK l hlK).1 _) ?_ (fun x w => ?_) ?_
        · rw [sR_pR, if_neg (fun w => hlp w.2.symm), sR_pR, if_pos ⟨rfl, rfl⟩]
        · have hxl : x ≠ l := fun e => (List.nodup_append.mp hnd2.1).2.2 l hlK x w e.symm
          rw [sR_pR, if_neg (fun u => hxl u.2), sR_pR, if_neg (fun u => hqp x w u.2)]
        · refine chain_snoc (σ := σ) (by rw [sR_pR, if_neg (fun w => hlp w.2.symm), sR_pR, if_pos ⟨rfl, rfl⟩]) K (sR σ 161 v) _ hcK hnd2.2.2.2 (fun x hx w => ?_) (fun l' w => ?_) (fun w => by rw [w] at hlK; cases hlK) (fun _ => ?_)
          · have hxl : x ≠ l := fun e => w (by rw [hl, e])
            have hxp : x ≠ p := fun e => hnd2.2.1 (by rw [← e]; exact hx)
            rw [sR_pR, if_neg (fun u => hxl u.2), sR_pR, if_neg (fun u => hxp u.2)]
          · rw [hl] at w
            cases w
            rw [sR_pR, if_pos ⟨rfl, rfl⟩]
          · rw [sR_pR, if_neg (fun w => absurd w.1 (by decide)), sR_pR, if_neg (fun w => absurd w.1 (by decide))]
theorem bb_drop_L (bb : Nat × Nat) (u0 : Nat) (u1 : Option Nat) : ∀ (n : Nat) (w2 w3 : Option Nat) (σ : ST), vlu_drop_L12 bb u0 u1 n w2 w3 σ = vlu_drop_L12 (0, 0) u0 u1 n w2 w3 σ := by
  intro n
  induction n with
  | zero => intros; rfl
  | succ n ih => intro w2 w3 σ; rw [vlu_drop_L12, vlu_drop_L12]; simp only [ih]
theorem zip_fst {α β : Type} : ∀ (l : List α) (m : List β), l.length = m.length → (l.zip m).map (·.1) = l
  | [], [], _ => rfl
  | a :: l, b :: m, h => by rw [List.zip_cons_cons, List.map_cons, zip_fst l m (by simpa using h)]
  | [], b :: m, h => by simp at h
  | a :: l, [], h => by simp at h
theorem HL_at {d : Nat} {hv : Nat → Nat → TV d → (Nat → Prop) → Prop} {σ : ST} : ∀ (la : List Nat) (T : List (SV d)) (F : Nat → Prop), HL S fa hv σ la T F → ∀ q ∈ la.zip T, q.2.1 < nF_ S ∧ sc σ q.1 = 13 ∧ sR σ 192 q.1 = some (fa q.2.1)
  | [], [], F, _, q, hq => by cases hq
  | [], _ :: _, F, h, _, _ => h.elim
  | _ :: _, [], F, h, _, _ => h.elim
  | s :: la, t :: T, F, h, q, hq => by
    obtain ⟨h1, h2, Fn, F2, h3, h4, h5, h6, h7, h8, h9⟩ := h
    rw [List.zip_cons_cons] at hq
    rcases List.mem_cons.mp hq with e | e
    · rw [e]; exact ⟨h3.2.1, h3.1, h3.2.2.1⟩
    · exact HL_at la T F2 h4 q e
/-- values of a field, or of its oneof, go -/
theorem vlu_drop_eq {d m : Nat} {T : TV (d + 1)} {F : Nat → Prop} (hS : SW S) (hH : HSc z σ0 S fa ma ea od) (hf : f < nF_ S) (hV : HV S fa ma (d + 1) σ0 v m T F) (hlen : (t1 T).length < 1000) : ∃ σ', (∀ bb, vlu_drop bb v (some (fa f)) σ0 = some σ') ∧ HV S fa ma (d + 1) σ' v m (mk ((t1 T).filter (fun t => !decide (goes S f t.1))) (t2 T)) F ∧ FR F σ0 σ' ∧ sS σ' = sS σ0 ∧ sC σ' = sC σ0 ∧ sZ σ' = sZ σ0 ∧ sc σ' = sc σ0 := by
  obtain ⟨h1, h2, h3, h4, la, lb, F1, F2, c1, c2, c3, c4, c5, c6, c7, c8, c9, c10⟩ := hV
  obtain ⟨m1, n1, e1⟩ := HL_mem la _ F1 c4
  obtain ⟨m2, n2, e2⟩ := HL_mem lb _ F2 c5
  have hvL : v ∉ la := fun w => c8 (m1 v w).1
  have hD0 : DX la v σ0 (pR σ0 161 v none) := (DX.refl la v σ0).first none
  have ezip : ((la.zip (t1 T)).map (fun q : Nat × SV d => (q.1, q.2.1))).map (·.1) = la := by rw [List.map_map]; exact zip_fst la _ e1
  have q := drop_L (v := v) hS hH hf h1 (0, 0) la ((la.zip (t1 T)).map (fun q : Nat × SV d => (q.1, q.2.1))) FU [] (sR σ0 161 v) (pR σ0 161 v none) hD0 (by rw [List.length_map, List.length_zip, e1, Nat.min_self]; exact FU_gt (by omega)) (fun q w => by
    obtain ⟨x, hx, ex⟩ := List.mem_map.mp w
    subst ex
    exact ⟨(List.of_mem_zip hx).1, HL_at la _ F1 c4 x hx⟩) (fun x w => by cases w) (by rw [List.nil_append, ezip]; exact n1) hvL (by rw [ezip]; exact chain_kept la _ _ rfl (fun x hx => by rw [sR_pR, if_neg (fun w => absurd w.1 (by decide))]) c1) (by rw [sR_pR, if_pos ⟨rfl, rfl⟩]; rfl)
  obtain ⟨σ', g1, g2, g3⟩ := q
  refine ⟨σ', fun bb => ?_, ?_, g2.fr h3 (fun x w => c6 x (m1 x w).1), g2.1.2.2.2.2.2.2.2.2.2.2.2.2, g2.1.2.2.2.2.2.2.2.2.2.2.2.1, g2.1.2.2.2.2.2.2.2.2.2.2.1, g2.1.1⟩
  · unfold vlu_drop
    rw [gd_pos h1, nm_eq, nm_eq, bb_drop_L]
    exact g1
  · have hz : sZ σ0 ≤ sZ σ' := by rw [g2.1.2.2.2.2.2.2.2.2.2.2.1]; exact Nat.le_refl _
    have hsm : ∀ x, F1 x → x ∉ la → x < sZ σ0 → Sm1 σ0 σ' x := fun x w u _ => g2.sm (fun e => c8 (by rw [← e]; exact w)) u
    have hsm2 : ∀ x, F2 x → Sm1 σ0 σ' x := fun x w => g2.sm (fun e => c9 (by rw [← e]; exact w)) (fun u => c10 x (m1 x u).1 w)
    have hla : HL S fa (HV S fa ma d σ') σ' la (t1 T) F1 := HL_kept la _ F1 c4 (fun x _ => g2.sx x) hsm hz (fun Fn va m T w u => HV_kept d va m T Fn u (fun x r l => hsm x (w x r).1 (w x r).2 l) hz)
    have hlb : HL S fa (HV S fa ma d σ') σ' lb (t2 T) F2 := HL_kept lb _ F2 c5 (fun x _ => g2.sx x) (fun x w _ _ => hsm2 x w) hz (fun Fn va m T w u => HV_kept d va m T Fn u (fun x r l => hsm2 x (w x r).1) hz)
    have r160 : sR σ' 160 v = sR σ0 160 v := g2.2 160 v (fun w => absurd w.1 (by decide)) (fun w => absurd w.1 (by decide))
    have r162 : sR σ' 162 v = sR σ0 162 v := g2.2 162 v (fun w => absurd w.1 (by decide)) (fun w => absurd w.1 (by decide))
    have r163 : sR σ' 163 v = sR σ0 163 v := g2.2 163 v (fun w => absurd w.1 (by decide)) (fun w => absurd w.1 (by decide))
    refine ⟨by rw [g2.1.1]; exact h1, by omega, h3, by rw [r160]; exact h4, kpt S f ((la.zip (t1 T)).map (fun q : Nat × SV d => (q.1, q.2.1))), lb, F1, F2, g3, chain_kept lb _ _ r162 (fun x hx => (hsm2 x (m2 x hx).1).1.2.2.2.2.2.2.2.2.2 196) c2, fun w => by rw [r163]; exact c3 w, ?_, hlb, c6, c7, c8, c9, c10⟩
    have q := HL_filter (fun g => !decide (goes S f g)) la _ F1 hla
    have ek : kpt S f ((la.zip (t1 T)).map (fun q : Nat × SV d => (q.1, q.2.1))) = ((la.zip (t1 T)).filter (fun q => !decide (goes S f q.2.1))).map (·.1) := by
      unfold kpt
      rw [List.filter_map, List.map_map]
      rfl
    rw [ek]
    exact q
end Dr
