set_option maxRecDepth 100000
/-! SCHEMAS, CHECKED: names in JSON, by the reference -/
section S4
variable {τ : TT}
theorem m_jn_T {u2 : Nat} (hu : u2 = 41 ∨ u2 = 42) {f : Nat} {w : List UInt8} (h50 : f < 50) (h24 : w.length ≤ 24) : ∀ (c n i : Nat) (g : Bool) (o : List UInt8) (τ : TT), Tok τ (tA τ 22 f) w → Arr τ u2 o → i + c = w.length → c < n → o.length ≤ i → ∃ τ', TF [u2] τ τ' ∧ m_jsonName_L8 (f : Int) u2 n (o.length : Int) (if g = true then 1 else 0) (i : Int) τ = some (((o ++ jsL g (w.drop i)).length : Int), τ') ∧ Arr τ' u2 (o ++ jsL g (w.drop i))
  | 0, n, i, g, o, τ, hT, hA, h1, h2, h3 => by
    obtain ⟨n, rfl⟩ : ∃ m, n = m + 1 := ⟨n - 1, by omega⟩
    obtain ⟨t, pl, a1, a2, a3, a4, a5, a6⟩ := id hT
    have e : w.drop i = [] := List.drop_eq_nil_of_le (by omega)
    rw [e, show jsL g [] = [] from rfl, List.append_nil]
    refine ⟨τ, TF.refl _ _, ?_, hA⟩
    rw [m_jsonName_L8, gd_pos (by omega), Int.toNat_natCast, a1, gd_pos (by omega), gd_pos (by omega), Int.toNat_natCast, a3, gd_pos (by omega), if_pos (by omega)]
  | c + 1, n, i, g, o, τ, hT, hA, h1, h2, h3 => by
    obtain ⟨n, rfl⟩ : ∃ m, n = m + 1 := ⟨n - 1, by omega⟩
    obtain ⟨t, pl, a1, a2, a3, a4, a5, a6⟩ := id hT
    have hb : ((w.getD i 0).toNat) < 256 := (w.getD i 0).toNat_lt
    have ei : tA τ 8 (pl + i) = (((w.getD i 0).toNat : Nat) : Int) := a6 i (by omega)
    have g01 : (if g = true then (1 : Int) else 0) = 0 ∨ (if g = true then (1 : Int) else 0) = 1 := by cases g <;> simp
    have eI : m_jsonName_L8 (f : Int) u2 (n + 1) (o.length : Int) (if g = true then 1 else 0) (i : Int) τ = Option.bind (if (((w.getD i 0).toNat : Nat) : Int) = 95 then (some (((o.length : Int), 1, τ))) else (Option.bind (if (((if g = true then (1 : Int) else 0) = 0) ∨ ((((w.getD i 0).toNat : Nat) : Int) < 97)) ∨ (122 < (((w.getD i 0).toNat : Nat) : Int)) then (some (((w.getD i 0).toNat : Nat) : Int)) else (some ((((w.getD i 0).toNat : Nat) : Int) - 32))) fun (v23 : Int) => gd (ib (o.length : Int) (tln u2)) (nm (uA τ u2 o.length v23) fun τ28 => some (((o.length : Int) + 1, 0, τ28))))) fun (v14 : Int × Int × TT) => m_jsonName_L8 (f : Int) u2 n v14.1 v14.2.1 ((i : Int) + 1) v14.2.2 := by
      rw [m_jsonName_L8, gd_pos (by omega), Int.toNat_natCast, a1, gd_pos (by omega), gd_pos (by omega), Int.toNat_natCast, a3, gd_pos (by omega), if_neg (by omega), a4, gd_pos (by omega), show ((pl : Int) + (i : Int)).toNat = pl + i by omega, ei, nm_eq, gd_pos (by omega), gd_pos (by omega), Int.toNat_natCast]
    rw [eI, drop_cons (w := w) (i := i) (by omega), jsL]
    by_cases c95 : (w.getD i 0).toNat = 95
    · rw [if_pos c95, if_pos (by omega), bind_some', show (i : Int) + 1 = ((i + 1 : Nat) : Int) by omega]
      have q := m_jn_T hu h50 h24 c n (i + 1) true o τ hT hA (by omega) (by omega) (by omega)
      rw [if_pos (show true = true from rfl)] at q
      exact q
    · rw [if_neg c95, if_neg (by omega)]
      have key : ∀ (x : Int) (b : UInt8), x = (b.toNat : Int) → ∃ τ', TF [u2] τ τ' ∧ (Option.bind (gd (ib (o.length : Int) (tln u2)) (nm (uA τ u2 o.length x) fun τ28 => some (((o.length : Int) + 1, (0 : Int), τ28)))) fun (v14 : Int × Int × TT) => m_jsonName_L8 (f : Int) u2 n v14.1 v14.2.1 ((i : Int) + 1) v14.2.2) = some (((o ++ b :: jsL false (w.drop (i + 1))).length : Int), τ') ∧ Arr τ' u2 (o ++ b :: jsL false (w.drop (i + 1))) := fun x b hx => by
        have f0 : TF [u2] τ (uA τ u2 o.length x) := (TF.refl _ τ).uA (by simp) _ _
        have hT' : Tok (uA τ u2 o.length x) (tA (uA τ u2 o.length x) 22 f) w := by
          rw [tA_uA, if_neg (by omega)]
          exact hT.tr f0 (by rcases hu with e | e <;> rw [e] <;> decide) (by rcases hu with e | e <;> rw [e] <;> decide) (by rcases hu with e | e <;> rw [e] <;> decide)
        have q := m_jn_T hu h50 h24 c n (i + 1) false (o ++ [b]) _ hT' (hA.push hx) (by omega) (by omega) (by rw [List.length_append]; simp; omega)
        obtain ⟨τ', f1, g1, g2⟩ := q
        refine ⟨τ', f0.tr f1 (fun _ e => e), ?_, ?_⟩
        · rw [gd_pos (by rcases hu with e | e <;> rw [e] <;> show _ ∧ _ < ((64 : Nat) : Int) <;> omega), nm_eq, bind_some']
          rw [if_neg (show ¬ false = true by decide)] at g1
          have el : ((o.length : Int) + 1) = (((o ++ [b]).length : Nat) : Int) := by rw [List.length_append]; simp
          show m_jsonName_L8 (f : Int) u2 n ((o.length : Int) + 1) 0 ((i : Int) + 1) (uA τ u2 o.length x) = _
          rw [el, show (i : Int) + 1 = ((i + 1 : Nat) : Int) by omega, g1, List.append_assoc]
          rfl
        · rw [List.append_assoc] at g2; exact g2
      by_cases cg : g = true ∧ 97 ≤ (w.getD i 0).toNat ∧ (w.getD i 0).toNat ≤ 122
      · rw [if_pos cg, if_neg (by rw [if_pos cg.1]; omega), bind_some']
        exact key _ _ (by rw [tn_of (by omega)]; omega)
      · rw [if_neg cg, if_pos (by
          by_cases r : g = true
          · rw [if_pos r]
            by_cases r2 : (w.getD i 0).toNat < 97
            · left; right; omega
            · right
              have : ¬ (w.getD i 0).toNat ≤ 122 := fun r3 => cg ⟨r, by omega, r3⟩
              omega
          · left; left; rw [if_neg r])]
        rw [bind_some']
        exact key _ _ rfl
theorem m_jsonName_t {u2 : Nat} (hu : u2 = 41 ∨ u2 = 42) {f : Nat} {w : List UInt8} (h50 : f < 50) (h24 : w.length ≤ 24) (hT : Tok τ (tA τ 22 f) w) {x : Int} (hx : x = (f : Int)) : ∃ τ', TF [u2] τ τ' ∧ m_jsonName x u2 τ = some (((jsn w).length : Int), τ') ∧ Arr τ' u2 (jsn w) := by
  subst hx
  have q := m_jn_T hu h50 h24 w.length FU 0 false [] τ hT (fun j hj => absurd hj (by simp)) (by omega) (FU_gt (by omega)) (by simp)
  exact q
end S4
