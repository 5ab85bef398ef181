set_option maxRecDepth 100000
/-! JSON: objects, as the reference reads them -/
def oTail (rec : Int → Int → Int → TT → Option (Int × TT)) (u1 u3 : Int) (N : Nat) (x29 : Int64) (v38 : Int) (v47 : Int × TT) : Option ((Int × TT) ⊕ (Int × TT)) := gd (rg v47.1) (if v47.1 = ((-1)) then (some (Sum.inl (((-1), v47.2)))) else (Option.bind (m_blanks v47.1 v47.2) fun y55 => Option.bind (m_look y55 v47.2) fun y56 => gd (rg y56) (if y56 = 125 then (some (Sum.inr ((y55, v47.2)))) else (Option.bind (m_look y55 v47.2) fun y61 => gd (rg y61) (if y61 = 44 then (Option.bind (m_blanks (y55 + 1) v47.2) fun y66 => m_object_L49 rec u1 u3 N x29 v38 y66 v47.2) else (some (Sum.inl (((-1), v47.2)))))))))
section Mp
variable {S : SC} {I : Nat → Nat} {n : Nat} {d : Nat} {rec : Int → Int → Int → TT → Option (Int × TT)} {sp : Nat → Nat → Option (Nat × TV d)} {dp : Int}
theorem oTail_eq {τ : TT} (hJ : JH S I n τ) {e : Nat} (he : e ≤ n) (u1 : Int) (N : Nat) (x29 : Int64) (v38 : Int) : oTail rec u1 dp N x29 v38 ((e : Int), τ) = (if lk I n (bl I n e) = 44 then m_object_L49 rec u1 dp N x29 v38 ((bl I n (bl I n e + 1) : Nat) : Int) τ else if lk I n (bl I n e) = 125 then some (Sum.inr (((bl I n e : Nat) : Int), τ)) else some (Sum.inl (-1, τ))) := by
  have hn := hJ.2.1.2.1
  have hI := hJ.2.1.2.2.2
  have b1 := bl_ge' I n e
  have b2 := bl_le' I n e
  have hrg := lk_rg (n := n) hI (bl I n e)
  unfold oTail
  show gd (rg (e : Int)) (if (e : Int) = -1 then _ else Option.bind (m_blanks (e : Int) τ) _) = _
  rw [gd_pos (by omega), if_neg (by omega), m_blanks_eq hJ.2.1 rfl (by omega), bind_some']
  show Option.bind (m_look _ τ) _ = _
  rw [m_look_eq hJ.2.1 rfl (by omega), bind_some', gd_pos (rg_byte hrg)]
  by_cases c : lk I n (bl I n e) = 44
  · rw [if_neg (by omega), if_pos c]
    show Option.bind (some _) _ = _
    rw [bind_some', gd_pos (rg_byte hrg), if_pos c, m_blanks_eq (p := bl I n e + 1) hJ.2.1 (by omega) (by omega), bind_some']
  · rw [if_neg c]
    by_cases c2 : lk I n (bl I n e) = 125
    · rw [if_pos c2, if_pos c2]
    · rw [if_neg c2, if_neg c2]
      show Option.bind (some _) _ = _
      rw [bind_some', gd_pos (rg_byte hrg), if_neg c]
theorem oTail_m {τ : TT} (u1 : Int) (N : Nat) (x29 : Int64) (v38 : Int) : oTail rec u1 dp N x29 v38 ((-1 : Int), τ) = some (Sum.inl (-1, τ)) := by
  unfold oTail
  show gd (rg (-1)) (if (-1 : Int) = -1 then _ else _) = _
  rw [gd_pos (by omega), if_pos rfl]
theorem oTail_ns {τ : TT} (hJ : JH S I n τ) {e : Nat} (he : e < n) (h : nsg (lk I n e) = true) (u1 : Int) (N : Nat) (x29 : Int64) (v38 : Int) : oTail rec u1 dp N x29 v38 ((e : Int), τ) = some (Sum.inl (-1, τ)) := by
  obtain ⟨w1, w2, w3, w4⟩ := ns_bl h
  rw [oTail_eq hJ (by omega), w1, if_neg w2, if_neg w4]
theorem t1_put {T : TV (d + 1)} {s : SV d} : t1 (put S T s) = if qr S s.1 = 1 then t1 T else if (¬ isM S s.1 ∧ s.2.1 = 0 ∧ s.2.2.1 = []) ∧ ¬ keeps S s.1 then (t1 T).filter (fun t => !decide (goes S s.1 t.1)) else s :: (t1 T).filter (fun t => !decide (goes S s.1 t.1)) := by
  unfold put
  split
  · rfl
  · split <;> rfl
theorem put_in {T : TV (d + 1)} {s x : SV d} (h : x ∈ t1 (put S T s)) : x = s ∨ x ∈ t1 T := by
  rw [t1_put] at h
  split at h
  · exact Or.inr h
  · split at h
    · exact Or.inr (List.mem_filter.mp h).1
    · rcases List.mem_cons.mp h with e | e
      · exact Or.inl e
      · exact Or.inr (List.mem_filter.mp e).1
theorem TB.put0 {t : Nat} {T : TV (d + 1)} {s : SV d} (h : TB S t T) (h0 : qo S s.1 = -1) : TB S t (put S T s) := by
  refine ⟨h.1, fun o ho => ?_⟩
  rw [h.2 o ho]
  constructor
  · rintro ⟨x, hx, hq⟩
    have hg : ¬ goes S s.1 x.1 := by
      rintro (e | e)
      · rw [e, h0] at hq; omega
      · omega
    refine ⟨x, ?_, hq⟩
    rw [t1_put]
    split
    · exact hx
    · split
      · exact List.mem_filter.mpr ⟨hx, by rw [decide_eq_false hg]; rfl⟩
      · exact List.mem_cons_of_mem _ (List.mem_filter.mpr ⟨hx, by rw [decide_eq_false hg]; rfl⟩)
  · rintro ⟨x, hx, hq⟩
    rcases put_in hx with e | e
    · rw [e, h0] at hq; omega
    · exact ⟨x, e, hq⟩
theorem TB.put1 {t o : Nat} {T : TV (d + 1)} {s : SV d} (h : TB S t T) (ho : o < 12) (h0 : qo S s.1 = (o : Int)) (hr : qr S s.1 = 0) : TB S (t ||| 2 ^ o) (put S T s) := by
  have e1 : t1 (put S T s) = s :: (t1 T).filter (fun t => !decide (goes S s.1 t.1)) := by
    rw [t1_put, if_neg (by omega), if_neg (fun q => q.2 (Or.inr (Or.inl (by omega))))]
  refine ⟨Nat.or_lt_two_pow h.1 (Nat.pow_lt_pow_right (by decide) ho), fun o' ho' => ?_⟩
  rw [Nat.testBit_or, Nat.testBit_two_pow, Bool.or_eq_true, h.2 o' ho', decide_eq_true_iff, e1]
  constructor
  · rintro (⟨x, hx, hq⟩ | q)
    · by_cases c : o' = o
      · exact ⟨s, List.mem_cons_self, by rw [h0, c]⟩
      · have hg : ¬ goes S s.1 x.1 := by
          rintro (e | e)
          · rw [e, h0] at hq; omega
          · rw [hq, h0] at e; omega
        exact ⟨x, List.mem_cons_of_mem _ (List.mem_filter.mpr ⟨hx, by rw [decide_eq_false hg]; rfl⟩), hq⟩
    · exact ⟨s, List.mem_cons_self, by rw [h0, q]⟩
  · rintro ⟨x, hx, hq⟩
    rcases List.mem_cons.mp hx with e | e
    · right; rw [e, h0] at hq; omega
    · exact Or.inl ⟨x, (List.mem_filter.mp e).1, hq⟩
theorem fold_rep {f : Nat} (hr : qr S f = 1) : ∀ (ss : List (SV d)) (T : TV (d + 1)), (∀ s ∈ ss, s.1 = f) → t1 (ss.foldl (put S) T) = t1 T
  | [], T, h => rfl
  | s :: r, T, h => by
    rw [List.foldl_cons, fold_rep hr r _ (fun x hx => h x (List.mem_cons_of_mem _ hx)), t1_put, if_pos (by rw [h s List.mem_cons_self]; exact hr)]
theorem arrL_f {f : Nat} : ∀ (c p : Nat) (acc : List (SV d)) (e : Nat × List (SV d)), (∀ s ∈ acc, s.1 = f) → arrL S I n sp f c p acc = some e → ∀ s ∈ e.2, s.1 = f
  | 0, p, acc, e, ha, h => by cases h
  | c + 1, p, acc, e, ha, h => by
    rw [arrL] at h
    cases ev : valS S I n sp f (bl I n p) with
    | none => rw [ev] at h; cases h
    | some r =>
      rw [ev] at h
      have hf : r.2.1 = f := by
        unfold valS at ev
        split at ev
        · cases er : sp (qk S f - 16) (bl I n p) with
          | none => rw [er] at ev; cases ev
          | some q => rw [er] at ev; cases ev; rfl
        · cases er : sclS S I n f (bl I n p) with
          | none => rw [er] at ev; cases ev
          | some q => rw [er] at ev; cases ev; rfl
      have ha' : ∀ s ∈ acc ++ [r.2], s.1 = f := fun s hs => by
        rcases List.mem_append.mp hs with q | q
        · exact ha s q
        · rw [List.mem_singleton.mp q]; exact hf
      change (if lk I n (bl I n r.1) = 44 then arrL S I n sp f c (bl I n r.1 + 1) (acc ++ [r.2]) else if lk I n (bl I n r.1) = 93 then some (bl I n r.1 + 1, acc ++ [r.2]) else none) = some e at h
      split at h
      · exact arrL_f c _ _ _ ha' h
      · split at h
        · cases h; exact ha'
        · cases h
theorem itmS_f {f p : Nat} {e : Nat × List (SV d)} (h : itmS S I n sp f p = some e) : (∀ s ∈ e.2, s.1 = f) ∧ (qr S f ≠ 1 → ∃ s, e.2 = [s]) := by
  unfold itmS at h
  split at h
  · rename_i hr
    refine ⟨?_, fun q => absurd hr q⟩
    unfold arrS at h
    split at h
    · split at h
      · cases h; intro s hs; cases hs
      · exact arrL_f _ _ _ _ (fun s hs => by cases hs) h
    · cases h
  · cases ev : valS S I n sp f p with
    | none => rw [ev] at h; cases h
    | some r =>
      rw [ev] at h
      cases h
      refine ⟨fun s hs => ?_, fun _ => ⟨r.2, rfl⟩⟩
      rw [List.mem_singleton.mp hs]
      unfold valS at ev
      split at ev
      · cases er : sp (qk S f - 16) p with
        | none => rw [er] at ev; cases ev
        | some q => rw [er] at ev; cases ev; rfl
      · cases er : sclS S I n f p with
        | none => rw [er] at ev; cases ev
        | some q => rw [er] at ev; cases ev; rfl
theorem hasO_bit {t f : Nat} {T : TV (d + 1)} {seen : List Nat} (h : TB S t T) (hs : ∀ s ∈ t1 T, s.1 ∈ seen) (hf : f ∉ seen) {o : Nat} (ho : o < 12) (h0 : qo S f = (o : Int)) : hasO S T f = true ↔ t.testBit o = true := by
  rw [h.2 o ho]
  unfold hasO
  rw [Bool.and_eq_true, decide_eq_true_iff, List.any_eq_true]
  constructor
  · rintro ⟨-, s, q1, q2⟩
    exact ⟨s, q1, by rw [← h0]; exact (of_decide_eq_true q2).2⟩
  · rintro ⟨s, q1, q2⟩
    exact ⟨by omega, s, q1, decide_eq_true ⟨fun e => hf (by rw [← e]; exact hs s q1), by rw [q2, h0]⟩⟩
end Mp
