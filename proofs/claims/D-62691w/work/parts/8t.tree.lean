set_option maxRecDepth 100000
/-! TREES of values in the system's heap -/
/-- slots one behind the other -/
def chain (σ : ST) : Option Nat → List Nat → Prop
  | o, [] => o = none
  | o, s :: la => o = some s ∧ chain σ (sR σ 196 s) la
/-- what a slot says -/
def HSl {d : Nat} (S : SC) (fa : Nat → Nat) (hv : Nat → Nat → TV d → (Nat → Prop) → Prop) (σ : ST) (sl : Nat) (t : SV d) (Fn : Nat → Prop) : Prop :=
  sc σ sl = 13 ∧ t.1 < nF_ S ∧ sR σ 192 sl = some (fa t.1) ∧
  (if isM S t.1 then sJ σ 193 sl = 0 ∧ sR σ 194 sl = none ∧ t.2.1 = 0 ∧ t.2.2.1 = [] ∧ ∃ va, sR σ 195 sl = some va ∧ hv va (qk S t.1 - 16) t.2.2.2 Fn
   else sR σ 195 sl = none ∧ sJ σ 193 sl = t.2.1 ∧ (if qk S t.1 = 9 ∨ qk S t.1 = 10 then t.2.1 = 0 ∧ ∃ rw, sR σ 194 sl = some rw ∧ Fn rw ∧ rw < sZ σ ∧ sc σ rw = 4 ∧ sW σ rw = t.2.2.1 else sR σ 194 sl = none ∧ t.2.2.1 = []))
def HL {d : Nat} (S : SC) (fa : Nat → Nat) (hv : Nat → Nat → TV d → (Nat → Prop) → Prop) (σ : ST) : List Nat → List (SV d) → (Nat → Prop) → Prop
  | [], [], _ => True
  | s :: la, t :: T, F => F s ∧ s < sZ σ ∧ ∃ Fn F2 : Nat → Prop, HSl S fa hv σ s t Fn ∧ HL S fa hv σ la T F2 ∧ (∀ x, Fn x → F x) ∧ (∀ x, F2 x → F x) ∧ ¬ Fn s ∧ ¬ F2 s ∧ ∀ x, Fn x → ¬ F2 x
  | _, _, _ => False
/-- a message's value: F holds all objects of it -/
def HV (S : SC) (fa ma : Nat → Nat) : (d : Nat) → ST → Nat → Nat → TV d → (Nat → Prop) → Prop
  | 0, _, _, _, _, _ => False
  | d + 1, σ, v, m, T, F => sc σ v = 11 ∧ v < sZ σ ∧ F v ∧ sR σ 160 v = some (ma m) ∧ ∃ (la lb : List Nat) (F1 F2 : Nat → Prop), chain σ (sR σ 161 v) la ∧ chain σ (sR σ 162 v) lb ∧ (lb ≠ [] → sR σ 163 v = lb.getLast?) ∧ HL S fa (HV S fa ma d σ) σ la (t1 T) F1 ∧ HL S fa (HV S fa ma d σ) σ lb (t2 T) F2 ∧ (∀ x, F1 x → F x) ∧ (∀ x, F2 x → F x) ∧ ¬ F1 v ∧ ¬ F2 v ∧ ∀ x, F1 x → ¬ F2 x
/-- an object is as it was -/
def Sm1 (σ σ' : ST) (x : Nat) : Prop := SameB σ σ' x ∧ sc σ' x = sc σ x
/-- a slot is as it was, but for the next one -/
def Sx (σ σ' : ST) (x : Nat) : Prop := sc σ' x = sc σ x ∧ sJ σ' 193 x = sJ σ 193 x ∧ sR σ' 192 x = sR σ 192 x ∧ sR σ' 194 x = sR σ 194 x ∧ sR σ' 195 x = sR σ 195 x
theorem Sm1.x {σ σ' : ST} {x : Nat} (h : Sm1 σ σ' x) : Sx σ σ' x := ⟨h.2, h.1.2.2.2.2.2.2.2.2.1 193, h.1.2.2.2.2.2.2.2.2.2 192, h.1.2.2.2.2.2.2.2.2.2 194, h.1.2.2.2.2.2.2.2.2.2 195⟩
section Tr
variable {S : SC} {fa ma : Nat → Nat} {σ σ' : ST}
theorem chain_kept : ∀ (la : List Nat) (o o' : Option Nat), o' = o → (∀ x ∈ la, sR σ' 196 x = sR σ 196 x) → chain σ o la → chain σ' o' la
  | [], o, o', e, _, h => by rw [e]; exact h
  | s :: la, o, o', e, hk, h => by
    refine ⟨by rw [e]; exact h.1, chain_kept la _ _ (hk s List.mem_cons_self) (fun x hx => hk x (List.mem_cons_of_mem _ hx)) h.2⟩
theorem HSl_kept {d : Nat} {hv hv' : Nat → Nat → TV d → (Nat → Prop) → Prop} {sl : Nat} {t : SV d} {Fn : Nat → Prop} (h : HSl S fa hv σ sl t Fn) (hs : Sx σ σ' sl) (hn : ∀ x, Fn x → x < sZ σ → Sm1 σ σ' x) (hz : sZ σ ≤ sZ σ') (hhv : ∀ va m T, hv va m T Fn → hv' va m T Fn) : HSl S fa hv' σ' sl t Fn := by
  obtain ⟨a1, a2, a3, a4⟩ := h
  obtain ⟨b1, b2, b3, b4, b5⟩ := hs
  refine ⟨by rw [b1]; exact a1, a2, by rw [b3]; exact a3, ?_⟩
  split at a4
  · rename_i c
    rw [if_pos c]
    obtain ⟨c1, c2, c3, c4, va, c5, c6⟩ := a4
    exact ⟨by rw [b2]; exact c1, by rw [b4]; exact c2, c3, c4, va, by rw [b5]; exact c5, hhv _ _ _ c6⟩
  · rename_i c
    rw [if_neg c]
    obtain ⟨c1, c2, c3⟩ := a4
    refine ⟨by rw [b5]; exact c1, by rw [b2]; exact c2, ?_⟩
    split at c3
    · rename_i e
      rw [if_pos e]
      obtain ⟨e1, rw', e2, e3, e4, e5, e6⟩ := c3
      have q := hn rw' e3 e4
      exact ⟨e1, rw', by rw [b4]; exact e2, e3, by omega, by rw [q.2]; exact e5, by rw [q.1.1]; exact e6⟩
    · rename_i e
      rw [if_neg e]
      exact ⟨by rw [b4]; exact c3.1, c3.2⟩
theorem HL_mem {d : Nat} {hv : Nat → Nat → TV d → (Nat → Prop) → Prop} : ∀ (la : List Nat) (T : List (SV d)) (F : Nat → Prop), HL S fa hv σ la T F → (∀ x ∈ la, F x ∧ x < sZ σ) ∧ la.Nodup ∧ la.length = T.length
  | [], [], F, _ => ⟨fun x hx => absurd hx (by simp), List.nodup_nil, rfl⟩
  | [], _ :: _, F, h => h.elim
  | _ :: _, [], F, h => h.elim
  | s :: la, t :: T, F, h => by
    obtain ⟨h1, h2, Fn, F2, h3, h4, h5, h6, h7, h8, h9⟩ := h
    obtain ⟨q1, q2, q3⟩ := HL_mem la T F2 h4
    refine ⟨fun x hx => ?_, List.nodup_cons.mpr ⟨fun w => h8 (q1 s w).1, q2⟩, by simp [q3]⟩
    rcases List.mem_cons.mp hx with e | e
    · rw [e]; exact ⟨h1, h2⟩
    · exact ⟨h6 x (q1 x e).1, (q1 x e).2⟩
/-- slots whose next ones may have changed; all else of them is as it was -/
theorem HL_kept {d : Nat} {hv hv' : Nat → Nat → TV d → (Nat → Prop) → Prop} : ∀ (la : List Nat) (T : List (SV d)) (F : Nat → Prop), HL S fa hv σ la T F → (∀ x ∈ la, Sx σ σ' x) → (∀ x, F x → x ∉ la → x < sZ σ → Sm1 σ σ' x) → sZ σ ≤ sZ σ' → (∀ (Fn : Nat → Prop) va m T, (∀ x, Fn x → F x ∧ x ∉ la) → hv va m T Fn → hv' va m T Fn) → HL S fa hv' σ' la T F
  | [], [], F, _, _, _, _, _ => True.intro
  | [], _ :: _, F, h, _, _, _, _ => h.elim
  | _ :: _, [], F, h, _, _, _, _ => h.elim
  | s :: la, t :: T, F, h, hx, hF, hz, hhv => by
    obtain ⟨h1, h2, Fn, F2, h3, h4, h5, h6, h7, h8, h9⟩ := h
    obtain ⟨q1, q2, q3⟩ := HL_mem la T F2 h4
    have nla : ∀ x, Fn x → x ∉ s :: la := fun x w e => by
      rcases List.mem_cons.mp e with r | r
      · rw [r] at w; exact h7 w
      · exact h9 x w (q1 x r).1
    refine ⟨h1, by omega, Fn, F2, ?_, ?_, h5, h6, h7, h8, h9⟩
    · exact HSl_kept h3 (hx s List.mem_cons_self) (fun x w l => hF x (h5 x w) (nla x w) l) hz (fun va m T w => hhv Fn va m T (fun x u => ⟨h5 x u, nla x u⟩) w)
    · have ns : ∀ x, F2 x → x ∉ la → x ∉ s :: la := fun x w e r => by
        rcases List.mem_cons.mp r with r | r
        · rw [r] at w; exact h8 w
        · exact e r
      refine HL_kept la T F2 h4 (fun x w => hx x (List.mem_cons_of_mem _ w)) (fun x w e l => hF x (h6 x w) (ns x w e) l) hz (fun Fn' va m T w u => hhv Fn' va m T (fun x r => ⟨h6 x (w x r).1, ns x (w x r).1 (w x r).2⟩) u)
theorem HV_kept : ∀ (d : Nat) (v m : Nat) (T : TV d) (F : Nat → Prop), HV S fa ma d σ v m T F → (∀ x, F x → x < sZ σ → Sm1 σ σ' x) → sZ σ ≤ sZ σ' → HV S fa ma d σ' v m T F
  | 0, v, m, T, F, h, _, _ => h.elim
  | d + 1, v, m, T, F, h, hF, hz => by
    obtain ⟨h1, h2, h3, h4, la, lb, F1, F2, c1, c2, c3, c4, c5, c6, c7, c8, c9, c10⟩ := h
    have kv := hF v h3 h2
    obtain ⟨m1, -, -⟩ := HL_mem la _ F1 c4
    obtain ⟨m2, -, -⟩ := HL_mem lb _ F2 c5
    have sR' : ∀ k, sR σ' k v = sR σ k v := kv.1.2.2.2.2.2.2.2.2.2
    refine ⟨by rw [kv.2]; exact h1, by omega, h3, by rw [sR']; exact h4, la, lb, F1, F2, ?_, ?_, fun w => by rw [sR']; exact c3 w, ?_, ?_, c6, c7, c8, c9, c10⟩
    · exact chain_kept la _ _ (sR' 161) (fun x hx => (hF x (c6 x (m1 x hx).1) (m1 x hx).2).1.2.2.2.2.2.2.2.2.2 196) c1
    · exact chain_kept lb _ _ (sR' 162) (fun x hx => (hF x (c7 x (m2 x hx).1) (m2 x hx).2).1.2.2.2.2.2.2.2.2.2 196) c2
    · exact HL_kept la _ F1 c4 (fun x hx => (hF x (c6 x (m1 x hx).1) (m1 x hx).2).x) (fun x w _ l => hF x (c6 x w) l) hz (fun Fn va m T w u => HV_kept d va m T Fn u (fun x r l => hF x (c6 x (w x r).1) l) hz)
    · exact HL_kept lb _ F2 c5 (fun x hx => (hF x (c7 x (m2 x hx).1) (m2 x hx).2).x) (fun x w _ l => hF x (c7 x w) l) hz (fun Fn va m T w u => HV_kept d va m T Fn u (fun x r l => hF x (c7 x (w x r).1) l) hz)
/-- a new value -/
theorem HV_new {d v m : Nat} {F : Nat → Prop} (h1 : sc σ v = 11) (h2 : v < sZ σ) (h3 : F v) (h4 : sR σ 160 v = some (ma m)) (h5 : sR σ 161 v = none) (h6 : sR σ 162 v = none) : HV S fa ma (d + 1) σ v m (emp (d + 1)) F := ⟨h1, h2, h3, h4, [], [], fun _ => False, fun _ => False, h5, h6, fun w => absurd rfl w, True.intro, True.intro, fun _ w => w.elim, fun _ w => w.elim, fun w => w, fun w => w, fun _ w => w.elim⟩
theorem HL_mono {d : Nat} {hv : Nat → Nat → TV d → (Nat → Prop) → Prop} {F F' : Nat → Prop} (hF : ∀ x, F x → F' x) : ∀ (la : List Nat) (T : List (SV d)), HL S fa hv σ la T F → HL S fa hv σ la T F'
  | [], [], _ => True.intro
  | [], _ :: _, h => h.elim
  | _ :: _, [], h => h.elim
  | s :: la, t :: T, h => by
    obtain ⟨h1, h2, Fn, F2, h3, h4, h5, h6, h7, h8, h9⟩ := h
    exact ⟨hF s h1, h2, Fn, F2, h3, h4, fun x w => hF x (h5 x w), fun x w => hF x (h6 x w), h7, h8, h9⟩
/-- some slots go -/
theorem HL_filter {d : Nat} {hv : Nat → Nat → TV d → (Nat → Prop) → Prop} (P : Nat → Bool) : ∀ (la : List Nat) (T : List (SV d)) (F : Nat → Prop), HL S fa hv σ la T F → HL S fa hv σ ((la.zip T).filter (fun q => P q.2.1) |>.map (·.1)) (T.filter (fun t => P t.1)) F
  | [], [], F, _ => True.intro
  | [], _ :: _, F, h => h.elim
  | _ :: _, [], F, h => h.elim
  | s :: la, t :: T, F, h => by
    obtain ⟨h1, h2, Fn, F2, h3, h4, h5, h6, h7, h8, h9⟩ := h
    have ih := HL_filter P la T F2 h4
    by_cases c : P t.1 = true
    · rw [List.zip_cons_cons, List.filter_cons_of_pos (by exact c), List.filter_cons_of_pos (by exact c), List.map_cons]
      exact ⟨h1, h2, Fn, F2, h3, ih, h5, h6, h7, h8, h9⟩
    · rw [List.zip_cons_cons, List.filter_cons_of_neg (by exact c), List.filter_cons_of_neg (by exact c)]
      exact HL_mono h6 _ _ ih
end Tr
