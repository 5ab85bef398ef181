set_option maxRecDepth 100000
section RowS
variable {g : GE} {M N : Mt} {d d' pc pc' tgt : Nat} {l l' : List (Nat × LV)} {st st' : List LV} {σ σ' : ST} {τ : TT} {Q : VQ} {X Y : Type} {F A B : Option X} {K : X → Prop} {P : Prop} {H H' : Heap}
theorem sbI_inj {a b : UInt8} (h : sbI a = sbI b) : a = b := by
  have h1 : a.toInt8 = b.toInt8 := Int8.toInt_inj.mp h
  have h2 := congrArg Int8.toUInt8 h1
  simpa using h2
theorem sbI_rg (b : UInt8) : rg (sbI b) := by
  have h1 := Int8.le_toInt b.toInt8
  have h2 := Int8.toInt_lt b.toInt8
  unfold sbI
  constructor <;> omega
theorem rB_at {a : Nat} {k : Nat} (h : k < (sW σ a).length) : (sW σ a)[k]? = some (rB σ a (k : Int)) := by
  unfold rB
  rw [List.getD_eq_getElem?_getD, show ((k : Nat) : Int).toNat = k from by omega, List.getElem?_eq_getElem h]
  rfl
theorem same_L {a p : Nat} (ha : sc σ a = 4) (hp : sc σ p = 4) (hla : (sW σ a).length < 2 ^ 24) (hlp : (sW σ p).length < 2 ^ 24) : ∀ (m k : Nat) (s : Int), m + k = (sW σ p).length → (s = 0 ∧ sW σ a ≠ sW σ p) ∨ (s = 1 ∧ (sW σ a).length = (sW σ p).length ∧ ∀ j, j < k → (sW σ a)[j]? = (sW σ p)[j]?) →
    Sm (V g mX3_same_2 d 18 [(0, vr (some a)), (1, vr (some (sH σ p))), (2, vi 0), (3, vi ((sW σ p).length : Nat)), (4, vi s), (5, vi (k : Nat))] [] σ τ Q) (some (if sW σ a = sW σ p then (1 : Int) else 0)) (fun r => Q.1 (some (vi r)) σ τ) := by
  intro m
  induction m with
  | zero =>
    intro k s hk hs
    refine sm_b (l' := [(0, vr (some a)), (1, vr (some (sH σ p))), (2, vi 0), (3, vi ((sW σ p).length : Nat)), (4, vi s), (5, vi (k : Nat))]) (st' := [vi ((sW σ p).length : Nat), vi (k : Nat)]) (pc' := 21) [(.iload 5, vi 0, 20), (.iload_n 3, vi 0, 21)] (by decide +kernel) rfl rfl ?_
    refine sm_icmp_ge (off := 37) (tgt := 58) ⟨by omega, by omega⟩ ⟨by omega, by omega⟩ (by decide +kernel) (fun _ => ?_) (fun c => by omega)
    refine sm_b (l' := [(0, vr (some a)), (1, vr (some (sH σ p))), (2, vi 0), (3, vi ((sW σ p).length : Nat)), (4, vi s), (5, vi (k : Nat))]) (st' := [vi s]) (pc' := 60) [(.iload 4, vi 0, 60)] (by decide +kernel) rfl rfl ?_
    have he : s = if sW σ a = sW σ p then (1 : Int) else 0 := by
      rcases hs with ⟨h1, h2⟩ | ⟨h1, h2, h3⟩
      · rw [if_neg h2]; exact h1
      · rw [if_pos (List.ext_getElem? fun j => ?_)]; exact h1
        by_cases hj : j < k
        · exact h3 j hj
        · rw [List.getElem?_eq_none (by omega), List.getElem?_eq_none (by omega)]
    have hz : zb s := by rcases hs with ⟨h1, -⟩ | ⟨h1, -⟩ <;> rw [h1] <;> decide
    exact sm_zret rfl (by decide +kernel) hz (fun h => by rw [← he] at h; exact h)
  | succ m ih =>
    intro k s hk hs
    refine sm_b (l' := [(0, vr (some a)), (1, vr (some (sH σ p))), (2, vi 0), (3, vi ((sW σ p).length : Nat)), (4, vi s), (5, vi (k : Nat))]) (st' := [vi ((sW σ p).length : Nat), vi (k : Nat)]) (pc' := 21) [(.iload 5, vi 0, 20), (.iload_n 3, vi 0, 21)] (by decide +kernel) rfl rfl ?_
    refine sm_icmp_ge (off := 37) (tgt := 58) ⟨by omega, by omega⟩ ⟨by omega, by omega⟩ (by decide +kernel) (fun c => by omega) (fun _ => ?_)
    refine sm_b (l' := [(0, vr (some a)), (1, vr (some (sH σ p))), (2, vi 0), (3, vi ((sW σ p).length : Nat)), (4, vi s), (5, vi (k : Nat))]) (st' := [vi s]) (pc' := 26) [(.iload 4, vi 0, 26)] (by decide +kernel) rfl rfl ?_
    have hz : zb s := by rcases hs with ⟨h1, -⟩ | ⟨h1, -⟩ <;> rw [h1] <;> decide
    refine sm_if_eq (off := 32) (tgt := 58) (by rcases hz with h | h <;> rw [h] <;> decide) (by decide +kernel) (fun c => ?_) (fun c => ?_)
    · refine sm_b (l' := [(0, vr (some a)), (1, vr (some (sH σ p))), (2, vi 0), (3, vi ((sW σ p).length : Nat)), (4, vi s), (5, vi (k : Nat))]) (st' := [vi s]) (pc' := 60) [(.iload 4, vi 0, 60)] (by decide +kernel) rfl rfl ?_
      have hne : sW σ a ≠ sW σ p := by
        rcases hs with ⟨h1, h2⟩ | ⟨h1, h2⟩
        · exact h2
        · omega
      exact sm_zret rfl (by decide +kernel) hz (fun h => by rw [if_neg hne] at h; rw [c]; exact h)
    · obtain ⟨h1, h2, h3⟩ : s = 1 ∧ (sW σ a).length = (sW σ p).length ∧ ∀ j, j < k → (sW σ a)[j]? = (sW σ p)[j]? := by
        rcases hs with ⟨h1, h2⟩ | h
        · exact absurd h1 c
        · exact h
      refine sm_b (l' := [(0, vr (some a)), (1, vr (some (sH σ p))), (2, vi 0), (3, vi ((sW σ p).length : Nat)), (4, vi s), (5, vi (k : Nat))]) (st' := [vr (some a)]) (pc' := 30) [(.aload_n 0, vi 0, 30)] (by decide +kernel) rfl rfl ?_
      refine sm_rcl ha q274 (by decide +kernel) ?_
      refine sm_b (l' := [(0, vr (some a)), (1, vr (some (sH σ p))), (2, vi 0), (3, vi ((sW σ p).length : Nat)), (4, vi s), (5, vi (k : Nat))]) (st' := [vi (k : Nat), vr (some (sH σ a))]) (pc' := 35) [(.iload 5, vi 0, 35)] (by decide +kernel) rfl rfl ?_
      refine sm_rbl ha ⟨by omega, by omega⟩ (by decide +kernel) ?_
      refine sm_b (l' := [(0, vr (some a)), (1, vr (some (sH σ p))), (2, vi 0), (3, vi ((sW σ p).length : Nat)), (4, vi s), (5, vi (k : Nat))]) (st' := [vi (0 + (k : Nat)), vr (some (sH σ p)), vi (sbI (rB σ a (k : Nat)))]) (pc' := 41) [(.aload_n 1, vi 0, 37), (.iload_n 2, vi 0, 38), (.iload 5, vi 0, 40), (.iadd, vi 0, 41)] (by decide +kernel) rfl rfl ?_
      rw [Int.zero_add]
      refine sm_rbl hp ⟨by omega, by omega⟩ (by decide +kernel) ?_
      have ea := rB_at (σ := σ) (a := a) (k := k) (by omega)
      have ep := rB_at (σ := σ) (a := p) (k := k) (by omega)
      refine sm_icmp_ne (off := 7) (tgt := 49) (sbI_rg _) (sbI_rg _) (by decide +kernel) (fun c2 => ?_) (fun c2 => ?_)
      · refine sm_b (l' := [(0, vr (some a)), (1, vr (some (sH σ p))), (2, vi 0), (3, vi ((sW σ p).length : Nat)), (4, vi 0), (5, vi ((k : Nat) + 1))]) (st' := []) (pc' := 18) [(.iconst 0, vi 0, 50), (.istore 4, vi 0, 52), (.iinc 5 1, vi 1, 55), (.goto (-37), vi 0, 18)] (by decide +kernel) rfl rfl ?_
        exact ih (k + 1) 0 (by omega) (Or.inl ⟨rfl, fun e => c2 (by rw [e] at ea; rw [ea] at ep; rw [Option.some.inj ep])⟩)
      · refine sm_b (l' := [(0, vr (some a)), (1, vr (some (sH σ p))), (2, vi 0), (3, vi ((sW σ p).length : Nat)), (4, vi 1), (5, vi ((k : Nat) + 1))]) (st' := []) (pc' := 18) [(.iconst 1, vi 1, 46), (.goto 4, vi 0, 50), (.istore 4, vi 0, 52), (.iinc 5 1, vi 1, 55), (.goto (-37), vi 0, 18)] (by decide +kernel) rfl rfl ?_
        refine ih (k + 1) 1 (by omega) (Or.inr ⟨rfl, h2, fun j hj => ?_⟩)
        by_cases e : j = k
        · subst e; rw [ea, ep, sbI_inj c2]
        · exact h3 j (by omega)
def r_same (a : Nat) (p : Option Nat) (σ : ST) : Option Int := p.bind fun p => gd (sc σ a = 4 ∧ sc σ p = 4) (some (if sW σ a = sW σ p then (1 : Int) else 0))
theorem r_same_ok (G : GG g) (d : Nat) (hd1 : 2 ≤ d) (a : Nat) (p : Option Nat) (σ : ST) (Q : VQ) : Sm (V g mX3_same d 0 [(0, vr (some a)), (1, vr p)] [] σ τ Q) (r_same a p σ) (fun r => Q.1 (some (vi r)) σ τ) := by
  unfold r_same
  cases p with
  | none => exact sm_none
  | some p =>
  show Sm _ (gd _ _) _
  refine sm_gd (fun hg => ?_)
  obtain ⟨ha, hp⟩ := hg
  refine sm_b (l' := [(0, vr (some a)), (1, vr (some p))]) (st' := [vr (some p), vr (some a)]) (pc' := 2) [(.aload_n 0, vi 0, 1), (.aload_n 1, vi 0, 2)] (by decide +kernel) rfl rfl ?_
  refine sm_rcl hp q274 (by decide +kernel) ?_
  refine sm_b (l' := [(0, vr (some a)), (1, vr (some p))]) (st' := [vr (some p), vi 0, vr (some (sH σ p)), vr (some a)]) (pc' := 7) [(.iconst 0, vi 0, 6), (.aload_n 1, vi 0, 7)] (by decide +kernel) rfl rfl ?_
  refine sm_rsz hp q278 (by decide +kernel) ?_
  refine sm_rowf ha (fun a1 a2 => ?_)
  refine sm_rowf hp (fun p1 p2 => ?_)
  have hcal : ∀ Q' : VQ, Sm (V g mX3_same_2 (d - 1) 0 [(0, vr (some a)), (1, vr (some (sH σ p))), (2, vi 0), (3, vi ((sW σ p).length : Nat))] [] σ τ Q') (some (if sW σ a = sW σ p then (1 : Int) else 0)) (fun r => Q'.1 (some (vi r)) σ τ) := ?_
  · intro hx
    refine V.cv (N := mX3_same_2) (d' := d - 1) (C := "WireSchemas$Row") [vr (some (sH σ p)), vi 0, vi ((sW σ p).length : Nat)] [] rfl (by decide +kernel) q841 q842 q843 (Or.inl ⟨rfl, q844⟩) (show okN yX3_same_2 3 = true by decide +kernel) (fun H hR => hR.rvR G.1 ha) rfl rfl (by omega) rfl (hcal _ (Ex_some.mpr ?_))
    refine (sm_zret rfl (by decide +kernel) ?_ (fun h => h) : Sm (V g mX3_same d 13 [(0, vr (some a)), (1, vr (some p))] [vi (if sW σ a = sW σ p then (1 : Int) else 0)] σ τ Q) (some (if sW σ a = sW σ p then (1 : Int) else 0)) (fun r => Q.1 (some (vi r)) σ τ)) hx
    split <;> decide
  · intro Q'
    refine sm_b (l' := [(0, vr (some a)), (1, vr (some (sH σ p))), (2, vi 0), (3, vi ((sW σ p).length : Nat))]) (st' := [vr (some a)]) (pc' := 1) [(.aload_n 0, vi 0, 1)] (by decide +kernel) rfl rfl ?_
    refine sm_rsz ha q278 (by decide +kernel) ?_
    refine sm_b (l' := [(0, vr (some a)), (1, vr (some (sH σ p))), (2, vi 0), (3, vi ((sW σ p).length : Nat))]) (st' := [vi ((sW σ p).length : Nat), vi ((sW σ a).length : Nat)]) (pc' := 5) [(.iload_n 3, vi 0, 5)] (by decide +kernel) rfl rfl ?_
    refine sm_icmp_ne (off := 7) (tgt := 12) ⟨by omega, by omega⟩ ⟨by omega, by omega⟩ (by decide +kernel) (fun c => ?_) (fun c => ?_)
    · refine sm_b (l' := [(0, vr (some a)), (1, vr (some (sH σ p))), (2, vi 0), (3, vi ((sW σ p).length : Nat)), (4, vi 0), (5, vi (0 : Nat))]) (st' := []) (pc' := 18) [(.iconst 0, vi 0, 13), (.istore 4, vi 0, 15), (.iconst 0, vi 0, 16), (.istore 5, vi 0, 18)] (by decide +kernel) rfl rfl ?_
      exact same_L ha hp (by omega) (by omega) _ 0 0 rfl (Or.inl ⟨rfl, fun e => c (by rw [e])⟩)
    · refine sm_b (l' := [(0, vr (some a)), (1, vr (some (sH σ p))), (2, vi 0), (3, vi ((sW σ p).length : Nat)), (4, vi 1), (5, vi (0 : Nat))]) (st' := []) (pc' := 18) [(.iconst 1, vi 1, 9), (.goto 4, vi 0, 13), (.istore 4, vi 0, 15), (.iconst 0, vi 0, 16), (.istore 5, vi 0, 18)] (by decide +kernel) rfl rfl ?_
      exact same_L ha hp (by omega) (by omega) _ 0 1 rfl (Or.inr ⟨rfl, by omega, fun j hj => by omega⟩)
end RowS
