set_option maxRecDepth 100000
/-! ROOM: what toWire costs: numbers -/
noncomputable def chkH (A B e la K N : Nat) (l : List Nat) : Nat → Bool := @List.rec Nat (fun _ => Nat → Bool) (fun _ => true) (fun x _ ih k => @Bool.rec (fun _ => Bool) false (ih (Nat.succ k)) (Nat.ble (Nat.add (Nat.add x (Nat.div (Nat.mul la k) 2)) (Nat.add (rwq (Nat.max 15 (Nat.div (Nat.sub (Nat.mul B k) e) A))) (Nat.mul 8 (Nat.sub N k)))) K)) l
section Dd
variable {S : SC} {od : Nat → List Nat} {I : Nat → Nat} {n m : Nat} {w : List UInt8}
theorem chkH_ok (A B e la K N : Nat) : ∀ (l : List Nat) (k : Nat), chkH A B e la K N l k = true → ∀ i, i < l.length → l.getD i 0 + la * (k + i) / 2 + (rwq (max 15 ((B * (k + i) - e) / A)) + 8 * (N - (k + i))) ≤ K
  | [], k, _, i, hi => by simp at hi
  | x :: l, k, h, i, hi => by
    have e0 : chkH A B e la K N (x :: l) k = @Bool.rec (fun _ => Bool) false (chkH A B e la K N l (Nat.succ k)) (Nat.ble (Nat.add (Nat.add x (Nat.div (Nat.mul la k) 2)) (Nat.add (rwq (Nat.max 15 (Nat.div (Nat.sub (Nat.mul B k) e) A))) (Nat.mul 8 (Nat.sub N k)))) K) := rfl
    rw [e0] at h
    cases hb : Nat.ble (Nat.add (Nat.add x (Nat.div (Nat.mul la k) 2)) (Nat.add (rwq (Nat.max 15 (Nat.div (Nat.sub (Nat.mul B k) e) A))) (Nat.mul 8 (Nat.sub N k)))) K with
    | false => rw [hb] at h; cases h
    | true =>
      rw [hb] at h
      cases i with
      | zero => exact Nat.le_of_ble_eq_true hb
      | succ i =>
        have := chkH_ok A B e la K N l (Nat.succ k) h i (by simpa using hi)
        rw [show k + (i + 1) = Nat.succ k + i by omega]
        simpa using this
/-- a text that was read: how many chars its tree needs at least -/
theorem rdW_mt (hS : SW S) (hN : NE S) (hO : OD S od) (hI : ∀ k, I k < 256) (hm : m < S.1) {T : TV 8} (h : rdW S I n m = some T) : oW S od (lcF S) 5 6 1 1 8 m T ≤ n := by
  unfold rdW at h
  cases e : objS S I n 8 m (bl I n 0) with
  | none => rw [e] at h; cases h
  | some r =>
    rw [e] at h
    have h : (if bl I n r.1 = n then some r.2 else none) = some T := h
    by_cases c : bl I n r.1 = n
    · rw [if_pos c] at h
      cases h
      have b0 := bl_le' I n 0
      have q := (objS_n hS hN hO hI 8 m (bl I n 0) r hm (by omega) trivial e).1
      have bd := objS_bd hI 8 m (bl I n 0) r (by omega) e
      have q : oW S od (lcF S) 5 6 1 1 8 m r.2 + bl I n 0 ≤ r.1 := q
      omega
    · rw [if_neg c] at h; cases h
/-- toWire's cost, by tables -/
theorem tw_tab {A B e e1 K N : Nat} {ka ep : Nat → List Nat} (hS : SW S) (hN : NE S) (hO : OD S od) (hI : ∀ k, I k < 256) (hn : n ≤ N) (hN2 : N ≤ 1000) (hm : m < S.1) (hA : 0 < A) (hBA : B * 1000 ≤ 4096 * A)
    (hT : LT S (lcF S) A B 5 6 1 1 e1 e) (hD : DT S (lcF S) 5 6 1 1 5 4 8 1000 rwS (fun s => rwq (max 15 ((B * s - e) / A))) (fun d => kf (ka d) 5) (fun d => kf (ep d) 5))
    (hL : (ka 7).length = 1001) (hK : chkH A B e 5 K (N - 1) ((ka 7).take N) 0 = true) {T : TV 8} (h : rdW S I n m = some T) : twS S od I n m ≤ K + 70 := by
  have hmt := rdW_mt hS hN hO hI hm h
  obtain ⟨s, hs⟩ : ∃ s, s = sW2 S od (lcF S) 5 6 1 (oW S od (lcF S) 5 6 1 1 7) m T := ⟨_, rfl⟩
  have e8 : oW S od (lcF S) 5 6 1 1 8 m T = 1 + s := by rw [hs]; rfl
  have q := o_DP hS hO hD (fun d m T hm hN => by
    have lb := o_LB hS hO hT hA (N := 1000) (by omega) d m T hm hN
    obtain ⟨l1, l2⟩ := lb.row hA (N := 1000) hBA hN
    exact rwS_q l1 l2) 7 (by omega) m T hm (by rw [← hs]; omega)
  have r := o_dM hS hO 8 m T hm
  have hk := chkH_ok A B e 5 K (N - 1) _ 0 hK s (by rw [List.length_take, hL]; omega)
  have eg : ((ka 7).take N).getD s 0 = (ka 7).getD s 0 := by
    rw [List.getD_eq_getElem?_getD, List.getD_eq_getElem?_getD, List.getElem?_take_of_lt (by omega)]
  rw [eg, Nat.zero_add] at hk
  rw [← hs] at q
  have q : wc rwS S od 8 m T + oP S od 5 4 8 8 m T ≤ rwq (max 15 ((B * s - e) / A)) + 4 + kf (ka 7) 5 s := q
  rw [kf_in (by rw [hL]; omega)] at q
  unfold twS
  rw [h]
  show 8 * n + 62 - dM S 8 T + wc rwS S od 8 m T ≤ K + 70
  omega
end Dd
