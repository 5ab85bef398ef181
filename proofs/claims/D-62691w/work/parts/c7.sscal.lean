set_option maxRecDepth 100000
/-! SCHEMAS, CHECKED: scalar types, by the system -/
/-- a text is a constant -/
abbrev wis (w : List UInt8) (u : Nat) : Prop := w.length = slen u ∧ ∀ j, j < slen u → wI w j = sch u j
section S7
variable {σ : ST} {a : Nat} {w : List UInt8}
theorem sb_c (b : UInt8) {c : Nat} (hc : c < 128) : sbI b = ((c : Nat) : Int) ↔ b.toNat = c := by
  rw [sb_eq]
  have := b.toNat_lt
  split <;> omega
theorem rowis_L {u : Nat} (ha : sc σ a = 4) (hw : sW σ a = w) (hl : w.length = slen u) (hu : slen u ≤ 100) (h128 : ∀ j, j < slen u → sch u j < 128) : ∀ (c N j : Nat), j + c = slen u → c + 1 < N → (∀ x, x < j → wI w x = sch u x) → row_is_L19 a u σ N 1 (j : Int) = some (if ∀ x, x < slen u → wI w x = sch u x then 1 else 0)
  | c, 0, j, _, h, _ => by omega
  | 0, N + 1, j, hj, _, hp => by
    rw [row_is_L19, gd_pos ha, gd_pos (by omega), gd_pos (by exact fun _ => by omega), hw, if_pos (Or.inl (by omega)), gd_pos (by decide), if_pos (fun x hx => hp x (by omega))]
  | c + 1, N + 1, j, hj, hN, hp => by
    have hb := h128 j (by omega)
    have er : rB σ a (j : Int) = w.getD j 0 := by unfold rB; rw [hw, Int.toNat_natCast]
    rw [row_is_L19, gd_pos ha, gd_pos (by omega), gd_pos (by exact fun _ => by omega), hw, if_neg (by omega), gd_pos (by constructor <;> omega), gd_pos (by constructor <;> omega), er, Int.toNat_natCast, show (j : Int) + 1 = ((j + 1 : Nat) : Int) by omega]
    by_cases q : wI w j = sch u j
    · rw [if_pos ((sb_c _ hb).mpr q), bind_some']
      exact rowis_L ha hw hl hu h128 c N (j + 1) (by omega) (by omega) (fun x hx => by
        by_cases e : x = j
        · rw [e]; exact q
        · exact hp x (by omega))
    · obtain ⟨N, rfl⟩ : ∃ N', N = N' + 1 := ⟨N - 1, by omega⟩
      rw [if_neg (fun h => q ((sb_c _ hb).mp h)), bind_some', row_is_L19, gd_pos ha, gd_pos (by omega), gd_pos (by exact fun _ => by omega), if_pos (Or.inr rfl), gd_pos (by decide), if_neg (fun h => q (h j (by omega)))]
theorem row_is_eq {u : Nat} (ha : sc σ a = 4) (hw : sW σ a = w) (hwl : w.length ≤ 1000) (hu : slen u ≤ 100) (h128 : ∀ j, j < slen u → sch u j < 128) : row_is a u σ = some (if wis w u then 1 else 0) := by
  unfold row_is
  rw [gd_pos ha, hw]
  by_cases c : w.length = slen u
  · rw [if_pos (by omega), bind_some']
    have := rowis_L ha hw c hu h128 (slen u) FU 0 (Nat.zero_add _) (FU_gt (by omega)) (fun x hx => by omega)
    have this : row_is_L19 a u σ FU 1 0 = _ := this
    rw [this]
    by_cases q : ∀ x, x < slen u → wI w x = sch u x
    · rw [if_pos q, if_pos (show wis w u from ⟨c, q⟩)]
    · rw [if_neg q, if_neg (show ¬ wis w u from fun h => q h.2)]
  · rw [if_neg (by omega), bind_some', show FU = 999999 + 1 from rfl, row_is_L19, gd_pos ha, gd_pos (by omega), gd_pos (by exact fun _ => by omega), if_pos (Or.inr rfl), gd_pos (by decide), if_neg (show ¬ wis w u from fun h => c h.1)]
theorem sc_st {P : Prop} [Decidable P] {v i : Int} : (gd (rg (if P then (1 : Int) else 0)) (if (if P then (1 : Int) else 0) = 0 then (some v) else (some i))) = some (if P then i else v) := by
  by_cases h : P
  · rw [if_pos h, if_pos h, gd_pos (by omega), if_neg (by omega)]
  · rw [if_neg h, if_neg h, gd_pos (by omega), if_pos rfl]
theorem wdC : ∀ u ∈ [36, 37, 38, 39, 40, 41, 42, 43, 44, 45, 46], slen u ≤ 100 ∧ ∀ j, j < slen u → sch u j < 128 := by decide +kernel
/-- the scalar type that a text names -/
def scK (w : List UInt8) : Int := if wis w 46 then 10 else (if wis w 45 then 9 else (if wis w 44 then 8 else (if wis w 43 then 7 else (if wis w 42 then 6 else (if wis w 41 then 5 else (if wis w 40 then 4 else (if wis w 39 then 3 else (if wis w 38 then 2 else (if wis w 37 then 1 else (if wis w 36 then 0 else (-1)))))))))))
theorem ck_scalar_eq (ha : sc σ a = 4) (hw : sW σ a = w) (hwl : w.length ≤ 1000) : ck_scalar (some a) σ = some (scK w) := by
  have r : ∀ u ∈ [36, 37, 38, 39, 40, 41, 42, 43, 44, 45, 46], row_is a u σ = some (if wis w u then 1 else 0) := fun u hu => row_is_eq ha hw hwl (wdC u hu).1 (wdC u hu).2
  unfold ck_scalar scK
  rw [bind_some', gd_pos ha, r 36 (by decide), bind_some', sc_st, bind_some', r 37 (by decide), bind_some', sc_st, bind_some', r 38 (by decide), bind_some', sc_st, bind_some', r 39 (by decide), bind_some', sc_st, bind_some', r 40 (by decide), bind_some', sc_st, bind_some', r 41 (by decide), bind_some', sc_st, bind_some', r 42 (by decide), bind_some', sc_st, bind_some', r 43 (by decide), bind_some', sc_st, bind_some', r 44 (by decide), bind_some', sc_st, bind_some', r 45 (by decide), bind_some', sc_st, bind_some', r 46 (by decide), bind_some', sc_st]
theorem wis_u {u u' : Nat} (h : wis w u) (h' : wis w u') : sx u = sx u' := by
  have hl : slen u = slen u' := by rw [← h.1, h'.1]
  refine List.ext_getElem hl (fun i h1 h2 => ?_)
  have e1 := h.2 i h1
  have e2 := h'.2 i h2
  rw [e1] at e2
  unfold sch at e2
  rw [List.getD_eq_getElem?_getD, List.getD_eq_getElem?_getD, List.getElem?_eq_getElem h1, List.getElem?_eq_getElem h2] at e2
  exact e2
theorem wdD : ∀ u ∈ [36, 37, 38, 39, 40, 41, 42, 43, 44, 45, 46], ∀ u' ∈ [36, 37, 38, 39, 40, 41, 42, 43, 44, 45, 46], sx u = sx u' → u = u' := by decide +kernel
theorem wis_1 {u u' : Nat} (hu : u ∈ [36, 37, 38, 39, 40, 41, 42, 43, 44, 45, 46]) (hu' : u' ∈ [36, 37, 38, 39, 40, 41, 42, 43, 44, 45, 46]) (h : wis w u) (hn : u ≠ u') : ¬ wis w u' := fun h' => hn (wdD u hu u' hu' (wis_u h h'))
theorem scK_0 (h : wis w 36) : scK w = 0 := by
  unfold scK
  rw [if_neg (wis_1 (by decide) (by decide) h (by decide)), if_neg (wis_1 (by decide) (by decide) h (by decide)), if_neg (wis_1 (by decide) (by decide) h (by decide)), if_neg (wis_1 (by decide) (by decide) h (by decide)), if_neg (wis_1 (by decide) (by decide) h (by decide)), if_neg (wis_1 (by decide) (by decide) h (by decide)), if_neg (wis_1 (by decide) (by decide) h (by decide)), if_neg (wis_1 (by decide) (by decide) h (by decide)), if_neg (wis_1 (by decide) (by decide) h (by decide)), if_neg (wis_1 (by decide) (by decide) h (by decide)), if_pos h]
theorem scK_1 (h : wis w 37) : scK w = 1 := by
  unfold scK
  rw [if_neg (wis_1 (by decide) (by decide) h (by decide)), if_neg (wis_1 (by decide) (by decide) h (by decide)), if_neg (wis_1 (by decide) (by decide) h (by decide)), if_neg (wis_1 (by decide) (by decide) h (by decide)), if_neg (wis_1 (by decide) (by decide) h (by decide)), if_neg (wis_1 (by decide) (by decide) h (by decide)), if_neg (wis_1 (by decide) (by decide) h (by decide)), if_neg (wis_1 (by decide) (by decide) h (by decide)), if_neg (wis_1 (by decide) (by decide) h (by decide)), if_pos h]
theorem scK_2 (h : wis w 38) : scK w = 2 := by
  unfold scK
  rw [if_neg (wis_1 (by decide) (by decide) h (by decide)), if_neg (wis_1 (by decide) (by decide) h (by decide)), if_neg (wis_1 (by decide) (by decide) h (by decide)), if_neg (wis_1 (by decide) (by decide) h (by decide)), if_neg (wis_1 (by decide) (by decide) h (by decide)), if_neg (wis_1 (by decide) (by decide) h (by decide)), if_neg (wis_1 (by decide) (by decide) h (by decide)), if_neg (wis_1 (by decide) (by decide) h (by decide)), if_pos h]
theorem scK_3 (h : wis w 39) : scK w = 3 := by
  unfold scK
  rw [if_neg (wis_1 (by decide) (by decide) h (by decide)), if_neg (wis_1 (by decide) (by decide) h (by decide)), if_neg (wis_1 (by decide) (by decide) h (by decide)), if_neg (wis_1 (by decide) (by decide) h (by decide)), if_neg (wis_1 (by decide) (by decide) h (by decide)), if_neg (wis_1 (by decide) (by decide) h (by decide)), if_neg (wis_1 (by decide) (by decide) h (by decide)), if_pos h]
theorem scK_4 (h : wis w 40) : scK w = 4 := by
  unfold scK
  rw [if_neg (wis_1 (by decide) (by decide) h (by decide)), if_neg (wis_1 (by decide) (by decide) h (by decide)), if_neg (wis_1 (by decide) (by decide) h (by decide)), if_neg (wis_1 (by decide) (by decide) h (by decide)), if_neg (wis_1 (by decide) (by decide) h (by decide)), if_neg (wis_1 (by decide) (by decide) h (by decide)), if_pos h]
theorem scK_5 (h : wis w 41) : scK w = 5 := by
  unfold scK
  rw [if_neg (wis_1 (by decide) (by decide) h (by decide)), if_neg (wis_1 (by decide) (by decide) h (by decide)), if_neg (wis_1 (by decide) (by decide) h (by decide)), if_neg (wis_1 (by decide) (by decide) h (by decide)), if_neg (wis_1 (by decide) (by decide) h (by decide)), if_pos h]
theorem scK_6 (h : wis w 42) : scK w = 6 := by
  unfold scK
  rw [if_neg (wis_1 (by decide) (by decide) h (by decide)), if_neg (wis_1 (by decide) (by decide) h (by decide)), if_neg (wis_1 (by decide) (by decide) h (by decide)), if_neg (wis_1 (by decide) (by decide) h (by decide)), if_pos h]
theorem scK_7 (h : wis w 43) : scK w = 7 := by
  unfold scK
  rw [if_neg (wis_1 (by decide) (by decide) h (by decide)), if_neg (wis_1 (by decide) (by decide) h (by decide)), if_neg (wis_1 (by decide) (by decide) h (by decide)), if_pos h]
theorem scK_8 (h : wis w 44) : scK w = 8 := by
  unfold scK
  rw [if_neg (wis_1 (by decide) (by decide) h (by decide)), if_neg (wis_1 (by decide) (by decide) h (by decide)), if_pos h]
theorem scK_9 (h : wis w 45) : scK w = 9 := by
  unfold scK
  rw [if_neg (wis_1 (by decide) (by decide) h (by decide)), if_pos h]
theorem scK_10 (h : wis w 46) : scK w = 10 := by
  unfold scK
  rw [if_pos h]
theorem scK_n (h : ∀ u ∈ [36, 37, 38, 39, 40, 41, 42, 43, 44, 45, 46], ¬ wis w u) : scK w = -1 := by
  unfold scK
  rw [if_neg (h 46 (by decide)), if_neg (h 45 (by decide)), if_neg (h 44 (by decide)), if_neg (h 43 (by decide)), if_neg (h 42 (by decide)), if_neg (h 41 (by decide)), if_neg (h 40 (by decide)), if_neg (h 39 (by decide)), if_neg (h 38 (by decide)), if_neg (h 37 (by decide)), if_neg (h 36 (by decide))]
end S7
