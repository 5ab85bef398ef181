set_option maxRecDepth 100000
/-! rules for joins and cases -/
section Ctl
variable {g : GE} {M N : Mt} {d d' pc pc' tgt : Nat} {l l' : List (Nat × LV)} {st st' : List LV} {σ : ST} {τ : TT} {Q : VQ} {X Y : Type} {F A B : Option X} {K : X → Prop} {P : Prop}
theorem sm_top {K0 : X → Prop} (h : ∀ K : X → Prop, (∀ r, K r → K0 r) → Sm P F K) : Sm P F K0 := h K0 (fun _ q => q)
theorem sm_bind1 {F : Option Y} {G : Y → Option X} (J : Y → Prop) (h2 : ∀ y, Sm (J y) (G y) K) (h1 : ∀ K' : Y → Prop, (∀ y, K' y → J y) → Sm P F K') : Sm P (F.bind G) K :=
  fun h => h1 (fun y => Ex (G y) K) (fun y q => h2 y q) (Ex_bind.mp h)
theorem sm_bindS {A B : Type} {F : Option (A ⊕ B)} {G : B → Option A} {K : A → Prop} (J : B → Prop) (h2 : ∀ y, Sm (J y) (G y) K) (h1 : ∀ K' : A ⊕ B → Prop, (∀ a, K' (Sum.inl a) → K a) → (∀ y, K' (Sum.inr y) → J y) → Sm P F K') : Sm P (F.bind (Sum.elim some G)) K :=
  fun h => h1 (fun y => Ex (Sum.elim some G y) K) (fun a q => Ex_some.mp q) (fun y q => h2 y q) (Ex_bind.mp h)
theorem sm_case {C : Prop} [Decidable C] (PA PB : Prop) (hA : Sm PA A K) (hB : Sm PB B K) (h : ∀ F : Option X, (C → Sm PA F K) → (¬ C → Sm PB F K) → Sm P F K) : Sm P (if C then A else B) K :=
  h _ (fun c => by rw [if_pos c]; exact hA) (fun c => by rw [if_neg c]; exact hB)
theorem sm_dflt (PA : Prop) (hA : Sm PA F K) (h : Sm PA F K → Sm P F K) : Sm P F K := h hA
theorem tln_le (k : Nat) : tln k ≤ 9000 := by
  unfold tln
  split <;> decide
theorem ibt {i : Int} {k : Nat} (h : ib i (tln k)) : rg i := by
  have := tln_le k
  have h1 := h.1
  have h2 := h.2
  constructor <;> omega
end Ctl
/-! a field of the reference is written -/
theorem tp_0 (g : GE) (τ : TT) (v : Int) : tfl g (uI τ 0 v) = (tfl g τ).set 0 (.int (Int32.ofInt v)) := rfl
theorem tp_4 (g : GE) (τ : TT) (v : Int) : tfl g (uI τ 4 v) = (tfl g τ).set 4 (.int (Int32.ofInt v)) := rfl
theorem tp_5 (g : GE) (τ : TT) (v : Int) : tfl g (uI τ 5 v) = (tfl g τ).set 5 (.int (Int32.ofInt v)) := rfl
theorem tp_6 (g : GE) (τ : TT) (v : Int) : tfl g (uI τ 6 v) = (tfl g τ).set 6 (.int (Int32.ofInt v)) := rfl
theorem tp_7 (g : GE) (τ : TT) (v : Int) : tfl g (uI τ 7 v) = (tfl g τ).set 7 (.int (Int32.ofInt v)) := rfl
theorem tp_12 (g : GE) (τ : TT) (v : Int) : tfl g (uI τ 12 v) = (tfl g τ).set 12 (.int (Int32.ofInt v)) := rfl
theorem tp_13 (g : GE) (τ : TT) (v : Int) : tfl g (uI τ 13 v) = (tfl g τ).set 13 (.int (Int32.ofInt v)) := rfl
theorem tp_14 (g : GE) (τ : TT) (v : Int) : tfl g (uI τ 14 v) = (tfl g τ).set 14 (.int (Int32.ofInt v)) := rfl
theorem tp_35 (g : GE) (τ : TT) (v : Int) : tfl g (uI τ 35 v) = (tfl g τ).set 35 (.int (Int32.ofInt v)) := rfl
theorem tp_36 (g : GE) (τ : TT) (v : Int) : tfl g (uI τ 36 v) = (tfl g τ).set 36 (.int (Int32.ofInt v)) := rfl
theorem tp_37 (g : GE) (τ : TT) (v : Int) : tfl g (uI τ 37 v) = (tfl g τ).set 37 (.int (Int32.ofInt v)) := rfl
theorem tp_38 (g : GE) (τ : TT) (v : Int) : tfl g (uI τ 38 v) = (tfl g τ).set 38 (.int (Int32.ofInt v)) := rfl
theorem tp_39 (g : GE) (τ : TT) (v : Int) : tfl g (uI τ 39 v) = (tfl g τ).set 39 (.int (Int32.ofInt v)) := rfl
theorem tp_40 (g : GE) (τ : TT) (v : Int) : tfl g (uI τ 40 v) = (tfl g τ).set 40 (.int (Int32.ofInt v)) := rfl
theorem tp_45 (g : GE) (τ : TT) (v : Int) : tfl g (uI τ 45 v) = (tfl g τ).set 45 (.int (Int32.ofInt v)) := rfl
theorem tp_46 (g : GE) (τ : TT) (v : Int) : tfl g (uI τ 46 v) = (tfl g τ).set 46 (.int (Int32.ofInt v)) := rfl
theorem tp_47 (g : GE) (τ : TT) (v : Int64) : tfl g (uJ τ 47 v) = (tfl g τ).set 47 (.long v) := rfl
theorem tp_48 (g : GE) (τ : TT) (v : Int) : tfl g (uI τ 48 v) = (tfl g τ).set 48 (.int (Int32.ofInt v)) := rfl
theorem tp_49 (g : GE) (τ : TT) (v : Int) : tfl g (uI τ 49 v) = (tfl g τ).set 49 (.int (Int32.ofInt v)) := rfl
theorem tp_50 (g : GE) (τ : TT) (v : Int) : tfl g (uI τ 50 v) = (tfl g τ).set 50 (.int (Int32.ofInt v)) := rfl
theorem tp_51 (g : GE) (τ : TT) (v : Int) : tfl g (uI τ 51 v) = (tfl g τ).set 51 (.int (Int32.ofInt v)) := rfl
theorem tp_52 (g : GE) (τ : TT) (v : Int) : tfl g (uI τ 52 v) = (tfl g τ).set 52 (.int (Int32.ofInt v)) := rfl
theorem tp_53 (g : GE) (τ : TT) (v : Int) : tfl g (uI τ 53 v) = (tfl g τ).set 53 (.int (Int32.ofInt v)) := rfl
theorem tp_54 (g : GE) (τ : TT) (v : Int) : tfl g (uI τ 54 v) = (tfl g τ).set 54 (.int (Int32.ofInt v)) := rfl
theorem tp_55 (g : GE) (τ : TT) (v : Int64) : tfl g (uJ τ 55 v) = (tfl g τ).set 55 (.long v) := rfl
theorem tp_57 (g : GE) (τ : TT) (v : Int) : tfl g (uI τ 57 v) = (tfl g τ).set 57 (.int (Int32.ofInt v)) := rfl
theorem tp_58 (g : GE) (τ : TT) (v : Int) : tfl g (uI τ 58 v) = (tfl g τ).set 58 (.int (Int32.ofInt v)) := rfl
theorem tp_59 (g : GE) (τ : TT) (v : Int64) : tfl g (uJ τ 59 v) = (tfl g τ).set 59 (.long v) := rfl
theorem tp_60 (g : GE) (τ : TT) (v : Int) : tfl g (uI τ 60 v) = (tfl g τ).set 60 (.int (Int32.ofInt v)) := rfl
theorem sx_mem (k : Nat) : sx k ∈ STRS := by
  unfold sx
  rw [List.getD_eq_getElem?_getD]
  cases h : STRS[k]? with
  | none => decide
  | some x => exact List.mem_of_getElem? h
theorem slen_le (k : Nat) : slen k ≤ 100 := by
  have h : ∀ x ∈ STRS, x.length ≤ 100 := by decide +kernel
  exact h _ (sx_mem k)
theorem sch_lt (k i : Nat) : sch k i < 128 := by
  have h : ∀ x ∈ STRS, ∀ y ∈ x, y < 128 := by decide +kernel
  unfold sch
  rw [List.getD_eq_getElem?_getD]
  cases hi : (sx k)[i]? with
  | none => decide
  | some y => exact h _ (sx_mem k) y (List.mem_of_getElem? hi)
theorem slen_rg (k : Nat) : rg ((slen k : Nat) : Int) := by
  have := slen_le k
  constructor <;> omega
theorem sch_rg (k i : Nat) : rg ((sch k i : Nat) : Int) := by
  have := sch_lt k i
  constructor <;> omega
