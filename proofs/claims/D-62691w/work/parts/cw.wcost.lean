set_option maxRecDepth 100000
/-! ROOM: what writing costs, by the bytes written -/
section Cw
theorem cpF_b : ∀ l, (l = 0 ∧ cpF l = 0) ∨ (1 ≤ l ∧ l ≤ 8 ∧ cpF l = 8) ∨ (9 ≤ l ∧ cpF l + 2 ≤ 2 * l ∧ l ≤ cpF l)
  | 0 => Or.inl ⟨rfl, rfl⟩
  | l + 1 => by
    have ih := cpF_b l
    rw [cpF]
    by_cases c : l = cpF l
    · rw [if_pos c]
      rcases ih with ⟨h1, h2⟩ | ⟨h1, h2, h3⟩ | ⟨h1, h2, h3⟩
      · right; left; omega
      · right; right; omega
      · right; right; omega
    · rw [if_neg c]
      rcases ih with ⟨h1, h2⟩ | ⟨h1, h2, h3⟩ | ⟨h1, h2, h3⟩
      · omega
      · right; left; omega
      · right; right; omega
theorem rwS_le (l : Nat) : rwS l ≤ 4 * l + 8 := by
  unfold rwS rp
  rcases cpF_b l with ⟨h1, h2⟩ | ⟨h1, h2, h3⟩ | ⟨h1, h2, h3⟩ <;> omega
theorem rwC_le (l : Nat) : 8 * rwC l ≤ 2 * l + 16 := by
  unfold rwC
  rcases cpF_b l with ⟨h1, h2⟩ | ⟨h1, h2, h3⟩ | ⟨h1, h2, h3⟩ <;> omega
theorem vrE_pos (k : Nat) (x : Int64) : 1 ≤ (vrE (k + 1) x).length := by
  rw [vrE]
  split
  · simp
  · simp
variable {S : SC} {od : Nat → List Nat} {r : Nat → Nat} {α β k0 e : Nat}
theorem sum_le {γ : Type} {f g : γ → Nat} : ∀ (l : List γ), (∀ x, x ∈ l → f x ≤ g x) → (l.map f).sum ≤ (l.map g).sum
  | [], _ => Nat.le_refl _
  | x :: l, h => by
    simp only [List.map_cons, List.sum_cons]
    have := h x (List.mem_cons_self ..)
    have := sum_le l (fun y hy => h y (List.mem_cons_of_mem _ hy))
    omega
theorem fm_len {γ : Type} {f : γ → List UInt8} (c : Nat) : ∀ (l : List γ), c * (l.flatMap f).length = (l.map (fun x => c * (f x).length)).sum
  | [] => by simp
  | x :: l => by
    rw [List.flatMap_cons, List.length_append, Nat.mul_add, fm_len c l]
    simp
theorem slC_le {d : Nat} (hk : β ≤ 2 * k0) {cn : Nat → TV d → Nat} {en : Nat → TV d → List UInt8} (ih : ∀ m T, e * cn m T ≤ k0 * (en m T).length + β) (s : SV d) (hp : isM S s.1 → ¬ plain S s.1) : e * slC S cn s ≤ k0 * (slE S en s).length := by
  unfold slC slE
  by_cases c : isM S s.1
  · rw [if_pos c, if_neg (hp c), List.length_append, List.length_append]
    have b : bdE S en s = en (qk S s.1 - 16) s.2.2.2 := by unfold bdE; rw [if_pos c]
    rw [b]
    have h1 : 1 ≤ (tagE S s.1 (wrK S s.1)).length := vrE_pos 8 _
    have h2 : 1 ≤ (lenE (en (qk S s.1 - 16) s.2.2.2)).length := vrE_pos 8 _
    have h3 := ih (qk S s.1 - 16) s.2.2.2
    have h4 : k0 * (1 + (1 + (en (qk S s.1 - 16) s.2.2.2).length)) ≤ k0 * ((tagE S s.1 (wrK S s.1)).length + ((lenE (en (qk S s.1 - 16) s.2.2.2)).length + (en (qk S s.1 - 16) s.2.2.2).length)) := Nat.mul_le_mul_left _ (by omega)
    rw [Nat.mul_add, Nat.mul_add] at h4
    omega
  · rw [if_neg c]; exact Nat.zero_le _
theorem fC_le {d : Nat} (hr : ∀ l, e * r l ≤ α * l + β) (hα : α ≤ k0) (hk : β ≤ 2 * k0) (hpl : ∀ f, isM S f → ¬ plain S f) {cn : Nat → TV d → Nat} {en : Nat → TV d → List UInt8} (ih : ∀ m T, e * cn m T ≤ k0 * (en m T).length + β) (T : TV (d + 1)) (f : Nat) : e * fC r S cn T f ≤ k0 * (encF S en T f).length := by
  unfold fC encF
  by_cases q : qr S f = 1
  · rw [if_pos q, if_pos q]
    by_cases q2 : rws f (t2 T) = []
    · rw [if_pos q2, if_pos q2]; exact Nat.zero_le _
    · rw [if_neg q2, if_neg q2]
      by_cases q3 : plain S f
      · rw [if_pos q3, if_pos q3, List.length_append, List.length_append]
        obtain ⟨l, hl⟩ : ∃ l, l = (pkE S f (rws f (t2 T))).length := ⟨_, rfl⟩
        rw [← hl]
        have h1 : 1 ≤ (tagE S f 2).length := vrE_pos 8 _
        have h2 : 1 ≤ (lenE (pkE S f (rws f (t2 T)))).length := vrE_pos 8 _
        have h3 := hr l
        have h4 : k0 * (1 + (1 + l)) ≤ k0 * ((tagE S f 2).length + ((lenE (pkE S f (rws f (t2 T)))).length + l)) := Nat.mul_le_mul_left _ (by omega)
        have h5 : α * l ≤ k0 * l := Nat.mul_le_mul_right _ hα
        rw [Nat.mul_add, Nat.mul_add] at h4
        omega
      · rw [if_neg q3, if_neg q3, fm_len]
        have e1 : e * ((rws f (t2 T)).map (slC S cn)).sum = ((rws f (t2 T)).map (fun s => e * slC S cn s)).sum := by
          generalize rws f (t2 T) = L
          induction L with
          | nil => simp
          | cons x L ih2 => simp only [List.map_cons, List.sum_cons, Nat.mul_add, ih2]
        rw [e1]
        exact sum_le _ (fun s _ => slC_le hk ih s (hpl s.1))
  · rw [if_neg q, if_neg q]
    cases drp f (t1 T) with
    | nil => exact Nat.zero_le _
    | cons s l => exact slC_le hk ih s (hpl s.1)
theorem wc_le (hr : ∀ l, e * r l ≤ α * l + β) (hα : α ≤ k0) (hk : β ≤ 2 * k0) (hpl : ∀ f, isM S f → ¬ plain S f) : ∀ (d m : Nat) (T : TV d), e * wc r S od d m T ≤ (k0 + α * d) * (enc S od d m T).length + β
  | 0, m, T => Nat.zero_le _
  | d + 1, m, T => by
    rw [wc, Nat.mul_add]
    have h1 := hr (enc S od (d + 1) m T).length
    have ih := wc_le hr hα hk hpl d
    have hk' : β ≤ 2 * (k0 + α * d) := by omega
    have hα' : α ≤ k0 + α * d := by omega
    have e1 : e * ((od m).map (fC r S (wc r S od d) T)).sum = ((od m).map (fun f => e * fC r S (wc r S od d) T f)).sum := by
      generalize od m = L
      induction L with
      | nil => simp
      | cons x L ih2 => simp only [List.map_cons, List.sum_cons, Nat.mul_add, ih2]
    have h2 : ((od m).map (fun f => e * fC r S (wc r S od d) T f)).sum ≤ (k0 + α * d) * (enc S od (d + 1) m T).length := by
      rw [enc, fm_len]
      exact sum_le _ (fun f _ => fC_le hr hα' hk' hpl ih T f)
    rw [e1]
    have h3 : (k0 + α * (d + 1)) * (enc S od (d + 1) m T).length = α * (enc S od (d + 1) m T).length + (k0 + α * d) * (enc S od (d + 1) m T).length := by
      rw [← Nat.add_mul]; congr 1; rw [Nat.mul_add]; omega
    omega
theorem plain_nm (f : Nat) (h : isM S f) : ¬ plain S f := by
  unfold plain
  simp only [isM] at h
  omega
/-- toWire costs 36 slots and 3 cells a byte -/
theorem twS_le {I : Nat → Nat} {n m : Nat} {w : List UInt8} (h : toW S od I n m = some w) : twS S od I n m ≤ 8 * n + 70 + 36 * w.length ∧ twC S od I n m ≤ 5 * n + 262 + 3 * w.length := by
  unfold toW at h
  unfold twS twC
  cases e : rdW S I n m with
  | none => rw [e] at h; cases h
  | some T =>
    rw [e] at h
    have h : some (enc S od 8 m T) = some w := h
    cases h
    have h1 := wc_le (S := S) (od := od) (r := rwS) (e := 1) (α := 4) (β := 8) (k0 := 4) (fun l => by rw [Nat.one_mul]; exact rwS_le l) (by decide) (by decide) plain_nm 8 m T
    have h2 := wc_le (S := S) (od := od) (r := rwC) (e := 8) (α := 2) (β := 16) (k0 := 8) rwC_le (by decide) (by decide) plain_nm 8 m T
    dsimp only
    constructor <;> omega
end Cw
