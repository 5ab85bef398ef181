set_option maxRecDepth 100000
/-! WIRE: the bytes of a message; the system's search for slots -/
/-- from the first value of a field on -/
def drp {d : Nat} (f : Nat) (l : List (SV d)) : List (SV d) := l.dropWhile (fun t => !decide (t.1 = f))
/-- the values of a field -/
def rws {d : Nat} (f : Nat) (l : List (SV d)) : List (SV d) := l.filter (fun t => decide (t.1 = f))
def bdE {d : Nat} (S : SC) (en : Nat → TV d → List UInt8) (s : SV d) : List UInt8 := if isM S s.1 then en (qk S s.1 - 16) s.2.2.2 else s.2.2.1
def slE {d : Nat} (S : SC) (en : Nat → TV d → List UInt8) (s : SV d) : List UInt8 := tagE S s.1 (wrK S s.1) ++ (if plain S s.1 then numE S s.1 s.2.1 else lenE (bdE S en s) ++ bdE S en s)
def pkE {d : Nat} (S : SC) (f : Nat) (l : List (SV d)) : List UInt8 := l.flatMap (fun s => numE S f s.2.1)
def encF {d : Nat} (S : SC) (en : Nat → TV d → List UInt8) (T : TV (d + 1)) (f : Nat) : List UInt8 := if qr S f = 1 then (if rws f (t2 T) = [] then [] else if plain S f then tagE S f 2 ++ (lenE (pkE S f (rws f (t2 T))) ++ pkE S f (rws f (t2 T))) else (rws f (t2 T)).flatMap (slE S en)) else match drp f (t1 T) with | [] => [] | s :: _ => slE S en s
def enc (S : SC) (od : Nat → List Nat) : (d : Nat) → Nat → TV d → List UInt8
  | 0, _, _ => []
  | d + 1, m, T => (od m).flatMap (encF S (enc S od d) T)
/-- what writing costs; r: what a row costs -/
def slC {d : Nat} (S : SC) (cn : Nat → TV d → Nat) (s : SV d) : Nat := if isM S s.1 then cn (qk S s.1 - 16) s.2.2.2 else 0
def fC {d : Nat} (r : Nat → Nat) (S : SC) (cn : Nat → TV d → Nat) (T : TV (d + 1)) (f : Nat) : Nat := if qr S f = 1 then (if rws f (t2 T) = [] then 0 else if plain S f then r (pkE S f (rws f (t2 T))).length else ((rws f (t2 T)).map (slC S cn)).sum) else match drp f (t1 T) with | [] => 0 | s :: _ => slC S cn s
def wc (r : Nat → Nat) (S : SC) (od : Nat → List Nat) : (d : Nat) → Nat → TV d → Nat
  | 0, _, _ => 0
  | d + 1, m, T => r (enc S od (d + 1) m T).length + ((od m).map (fC r S (wc r S od d) T)).sum
def rwS (l : Nat) : Nat := 2 + rp (cpF l)
def rwC (l : Nat) : Nat := 1 + cpF l / 8
section Dr
variable {d f : Nat}
theorem drp_cons (t : SV d) (l : List (SV d)) : drp f (t :: l) = if t.1 = f then t :: l else drp f l := by
  unfold drp
  rw [List.dropWhile_cons]
  by_cases c : t.1 = f
  · rw [if_neg (by simp [c]), if_pos c]
  · rw [if_pos (by simp [c]), if_neg c]
theorem rws_drp : ∀ l : List (SV d), rws f (drp f l) = rws f l
  | [] => rfl
  | t :: l => by
    rw [drp_cons]
    by_cases c : t.1 = f
    · rw [if_pos c]
    · rw [if_neg c, rws_drp l]
      unfold rws
      rw [List.filter_cons, if_neg (by simp [c])]
theorem drp_head : ∀ (l : List (SV d)) (t : SV d) (l' : List (SV d)), drp f l = t :: l' → t.1 = f ∧ rws f l = t :: rws f l' ∧ l'.length < l.length
  | [], t, l', h => by cases h
  | s :: l, t, l', h => by
    rw [drp_cons] at h
    by_cases c : s.1 = f
    · rw [if_pos c] at h
      cases h
      refine ⟨c, ?_, Nat.lt_succ_self _⟩
      unfold rws
      rw [List.filter_cons, if_pos (by simp [c])]
    · rw [if_neg c] at h
      obtain ⟨q1, q2, q3⟩ := drp_head l t l' h
      refine ⟨q1, ?_, by simp only [List.length_cons]; omega⟩
      rw [← q2]
      unfold rws
      rw [List.filter_cons, if_neg (by simp [c])]
theorem drp_nil : ∀ (l : List (SV d)), drp f l = [] → rws f l = []
  | [], _ => rfl
  | s :: l, h => by
    rw [drp_cons] at h
    by_cases c : s.1 = f
    · rw [if_pos c] at h; cases h
    · rw [if_neg c] at h
      have := drp_nil l h
      unfold rws at this ⊢
      rw [List.filter_cons, if_neg (by simp [c]), this]
end Dr
section Fnd
variable {z : Nat} {σ : ST} {S : SC} {fa ma ea : Nat → Nat} {od : Nat → List Nat} {f d : Nat} {hv : Nat → Nat → TV d → (Nat → Prop) → Prop}
theorem get_of (u : Option Nat) (σ : ST) : ∀ (N : Nat) (o : Option Nat), vlu_get_L5 u σ N o = vlu_of_L2 u σ N o
  | 0, o => rfl
  | N + 1, o => by
    rw [vlu_get_L5, vlu_of_L2]
    simp only [get_of u σ N]
/-- a field's first slot, and those behind it -/
theorem of_L (hH : HSc z σ S fa ma ea od) (hf : f < nF_ S) : ∀ (la : List Nat) (T : List (SV d)) (F : Nat → Prop) (N : Nat) (o : Option Nat), HL S fa hv σ la T F → chain σ o la → la.length < N → ∃ la' F', vlu_of_L2 (some (fa f)) σ N o = some la'.head? ∧ HL S fa hv σ la' (drp f T) F' ∧ chain σ la'.head? la' ∧ ∀ x, F' x → F x
  | [], [], F, N, o, h, hc, hN => by
    obtain ⟨N, rfl⟩ : ∃ m, N = m + 1 := ⟨N - 1, by simp at hN; omega⟩
    have e : o = none := hc
    subst e
    exact ⟨[], F, by rw [vlu_of_L2, gd_pos (by exact fun w => w), gd_pos (by exact fun w => absurd rfl w), if_pos (Or.inl rfl)]; rfl, True.intro, rfl, fun _ w => w⟩
  | [], _ :: _, F, N, o, h, _, _ => h.elim
  | _ :: _, [], F, N, o, h, _, _ => h.elim
  | s :: la, t :: T, F, N, o, h, hc, hN => by
    obtain ⟨N, rfl⟩ : ∃ m, N = m + 1 := ⟨N - 1, by simp at hN; omega⟩
    have h' := h
    obtain ⟨h1, h2, Fn, F2, h3, h4, h5, h6, h7, h8, h9⟩ := h
    obtain ⟨e, hc2⟩ : o = some s ∧ chain σ (sR σ 196 s) la := hc
    subst e
    have s192 : sR σ 192 s = some (fa t.1) := h3.2.2.1
    have inj : (some (fa t.1) = some (fa f)) ↔ t.1 = f := ⟨fun q => hH.2.2.1 _ _ h3.2.1 hf (Option.some.inj q), fun q => by rw [q]⟩
    rw [drp_cons]
    by_cases c : t.1 = f
    · rw [if_pos c]
      exact ⟨s :: la, F, by rw [vlu_of_L2, gd_pos (by exact fun w => w), gd_pos (by exact fun _ => h3.1), if_pos (Or.inr (by rw [show ad (some s) = s from rfl, s192]; exact inj.mpr c))]; rfl, h', ⟨rfl, hc2⟩, fun _ w => w⟩
    · rw [if_neg c]
      obtain ⟨la', F', q1, q2, q3, q4⟩ := of_L hH hf la T F2 N (sR σ 196 s) h4 hc2 (by simp only [List.length_cons] at hN; omega)
      refine ⟨la', F', ?_, q2, q3, fun x w => h6 x (q4 x w)⟩
      rw [vlu_of_L2, gd_pos (by exact fun w => w), gd_pos (by exact fun _ => h3.1), if_neg (by
        rintro (w | w)
        · cases w
        · rw [show ad (some s) = s from rfl, s192] at w; exact c (inj.mp w)), bind_some', gd_pos h3.1, nm_eq, q1]
theorem HL_len : ∀ (la : List Nat) (T : List (SV d)) (F : Nat → Prop), HL S fa hv σ la T F → la.length = T.length := fun la T F h => (HL_mem la T F h).2.2
end Fnd
/-- a row got bytes behind; what all of it cost beyond that row -/
def WA (σ : ST) (a : Nat) (v : List UInt8) (c k : Nat) (σ' : ST) : Prop := sW σ' a = sW σ a ++ v ∧ FR (fun b => b = a) σ σ' ∧ RW σ' a ∧ sS σ' + rp (sN σ a) ≤ sS σ + rp (sN σ' a) + c ∧ sC σ' + sN σ a / 8 ≤ sC σ + sN σ' a / 8 + k ∧ sN σ a ≤ sN σ' a ∧ (sN σ a = cpF (sW σ a).length → sN σ' a = cpF (sW σ' a).length)
section WA0
variable {σ σ1 σ2 : ST} {a c k c' k' : Nat} {v u : List UInt8}
theorem RA.toW (h : RA σ a v σ1) : WA σ a v 0 0 σ1 := by
  obtain ⟨h1, h2, h3, h4, r1, r2, r3, r4, r5, r6⟩ := h
  exact ⟨h1, h2, h4, by omega, by omega, r3, fun q => RC.cp ⟨r1, r2, r3, r4, r5, r6⟩ q⟩
theorem WA.tr (h : WA σ a v c k σ1) (g : WA σ1 a u c' k' σ2) : WA σ a (v ++ u) (c + c') (k + k') σ2 := by
  obtain ⟨a1, a2, a3, a4, a5, a6, a7⟩ := h
  obtain ⟨b1, b2, b3, b4, b5, b6, b7⟩ := g
  exact ⟨by rw [b1, a1, List.append_assoc], a2.tr b2 (fun _ _ q => q), b3, by omega, by omega, by omega, fun q => b7 (a7 q)⟩
theorem WA.nil (h : RW σ a) : WA σ a [] 0 0 σ := (RA.nil h).toW
theorem WA.len (h : WA σ a v c k σ1) : (sW σ1 a).length = (sW σ a).length + v.length := by rw [h.1, List.length_append]
/-- other things were made -/
theorem WA.more (h : WA σ a v c k σ1) (ha : a < sZ σ) (g : FR (fun _ => False) σ1 σ2) (hc : sS σ2 ≤ sS σ1 + c') (hk : sC σ2 ≤ sC σ1 + k') : WA σ a v (c + c') (k + k') σ2 := by
  obtain ⟨a1, a2, a3, a4, a5, a6, a7⟩ := h
  have ha1 : a < sZ σ1 := Nat.lt_of_lt_of_le ha a2.1.1
  have e := (g.2 a ha1).2 (fun q => q)
  have eW : sW σ2 a = sW σ1 a := e.1
  have eN : sN σ2 a = sN σ1 a := e.2.2.1
  refine ⟨by rw [eW]; exact a1, a2.tr g (fun _ _ q => q.elim), ⟨by rw [(g.2 a ha1).1]; exact a3.1, by rw [eW, eN]; exact a3.2.1, by rw [eN]; exact a3.2.2⟩, by rw [eN]; omega, by rw [eN]; omega, by rw [eN]; exact a6, fun q => by rw [eW, eN]; exact a7 q⟩
end WA0
