set_option maxRecDepth 100000
/-! SCHEMAS, CHECKED: types of fields, by the system -/
section Sb
variable {y n sd root a0 : Nat} {I : Nat → Nat} {σ σ' : ST} {ob : Nat → Prop} {L : Nat → Nat → List Nat} {M : List TyM} {E : List TyE} {V : List TyV} {F : List TyF} {O : List TyO} {R : List TyR} {N : List TyN}
theorem map_nn {α : Type} {o : Option α} {f : α → Nat} : ¬ (o.map f = none) ↔ o.isSome = true := by
  cases o with
  | none => exact ⟨fun h => absurd rfl h, fun h => by cases h⟩
  | some a => exact ⟨fun _ => rfl, fun _ h => by cases h⟩
theorem res_L48n {bb : Nat × Nat} {a1 : Option Nat} {r N1 : Nat} : ck_resolve_L48 bb a1 r σ (N1 + 1) none = some none := by
  rw [ck_resolve_L48, gd_pos (by exact fun h => absurd rfl h), gd_pos (by exact fun h => absurd rfl h), gd_pos (by exact fun h => absurd rfl h), gd_pos (by exact fun h => absurd (Or.inl rfl) h), gd_pos (by exact fun h => absurd (Or.inl rfl) h), gd_pos (by exact fun h => absurd (Or.inl rfl) h), if_pos (Or.inl (Or.inl rfl))]
theorem res_L48 (h : SFr y σ I n ob L sd root M E V F O R N a0) {bb : Nat × Nat} {a1 : Option Nat} {r : Nat} {w : List UInt8} (hr : sc σ r = 4) (hw : sW σ r = w) : ∀ (c N1 : Nat) (p : Int) (s : Nat), scA M root p = some s → -1 ≤ p → p < (c : Int) → c + 2 < N1 → ck_resolve_L48 bb a1 r σ N1 (some s) = some ((upQ I n M E w (c + 1) p).bind (scA M root))
  | c, 0, p, s, _, _, _, h => by omega
  | c, N1 + 1, p, s, hs, hp, hpc, hN => by
    have m1 := scpm_eq h hs hr hw
    have m2 := scpe_eq h hs hr hw
    obtain ⟨-, s3⟩ := h.2.2.1.sc3 hs
    rw [ck_resolve_L48, gd_pos (by exact fun h => h), show ad (some s) = s from rfl, gd_pos (by exact fun _ => s3), m1, gd_pos (by exact fun _ => ok_some _), vo_s, gd_pos (by exact fun _ h => by cases h), gd_pos (by exact fun _ => s3), m2, gd_pos (by exact fun _ => ok_some _), vo_s]
    by_cases q : (fM I n M p w).isSome = true ∨ (fE I n E p w).isSome = true
    · rw [upQ, if_pos q]
      have cnd : ((some s = none) ∨ (¬ ((fM I n M p w).map (fun m => m.1) = none))) ∨ (¬ ((fE I n E p w).map (fun m => m.1) = none)) := by
        rcases q with q | q
        · exact Or.inl (Or.inr (map_nn.mpr q))
        · exact Or.inr (map_nn.mpr q)
      rw [if_pos cnd]
      show some (some s) = some (scA M root p)
      rw [hs]
    · have cnd : ¬ (((some s = none) ∨ (¬ ((fM I n M p w).map (fun m => m.1) = none))) ∨ (¬ ((fE I n E p w).map (fun m => m.1) = none))) := by
        intro k
        rcases k with (k | k) | k
        · cases k
        · exact q (Or.inl (map_nn.mp k))
        · exact q (Or.inr (map_nn.mp k))
      rw [if_neg cnd, bind_some', gd_pos s3, nm_eq, upQ, if_neg q]
      rcases scA_cases hs with ⟨e1, e2⟩ | ⟨j, m, e1, e2, e3⟩
      · obtain ⟨N1, rfl⟩ : ∃ N', N1 = N' + 1 := ⟨N1 - 1, by omega⟩
        rw [if_pos e1, e2, h.2.2.1.1.2.2.2.2.2, res_L48n]; rfl
      · obtain ⟨-, -, -, -, -, -, -, b8, ⟨s', b9⟩, -⟩ := h.2.2.1.2.1 j m e2
        have wm := h.2.2.2.1.2.1 j m e2
        rw [if_neg (by omega), ← e3, b8, b9, e1, Int.toNat_natCast, e2]
        obtain ⟨c, rfl⟩ : ∃ c', c = c' + 1 := ⟨c - 1, by omega⟩
        exact res_L48 h hr hw c N1 m.2.2.2 s' b9 wm.1 (by omega) (by omega)
/-- what a field's object says of its type -/
def KRs (σ : ST) (M : List TyM) (E : List TyE) (f : Nat) (v : Int) : Prop := (v = -1 ∧ sR σ 137 f = none ∧ sR σ 138 f = none) ∨ (∃ (j : Nat) (m : TyM), v = 16 + (j : Int) ∧ M[j]? = some m ∧ sR σ 137 f = some m.1 ∧ sR σ 138 f = none) ∨ ∃ (k : Nat) (e : TyE), v = 32 + (k : Int) ∧ E[k]? = some e ∧ sR σ 137 f = none ∧ sR σ 138 f = some e.1
/-- how the system follows the parts of a type's name -/
def SPk (I : Nat → Nat) (n : Nat) (M : List TyM) (E : List TyE) : List (List UInt8) → Option Int → Int → Prop
  | [], _, v => v = -1
  | _ :: _, none, v => v = -1
  | [w], some p, v => WKv I n M E p w v
  | w :: w' :: ws, some p, v => (fM I n M p w = none ∧ v = -1) ∨ ∃ (j : Nat) (m : TyM), fM I n M p w = some m ∧ M[j]? = some m ∧ SPk I n M E (w' :: ws) (some (j : Int)) v
end Sb
