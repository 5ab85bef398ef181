set_option maxRecDepth 100000
/-! SCHEMAS, READ: what was read grows -/
section Gw
variable {y z k l x v n sd root s : Nat} {p : Int} {I : Nat → Nat} {σ σ0 σ1 σ' : ST} {ob : Nat → Prop} {L L' : Nat → Nat → List Nat} {M : List TyM} {E : List TyE} {V : List TyV} {F : List TyF} {O : List TyO} {R : List TyR} {N : List TyN}
theorem updL_k {k' x' : Nat} {w : List Nat} (h : k' ≠ k) : updL L k x w k' x' = L k' x' := by unfold updL; rw [if_neg (fun e => h e.1)]
theorem updL_x {x' : Nat} {w : List Nat} (h : x' ≠ x) : updL L k x w k x' = L k x' := by unfold updL; rw [if_neg (fun e => h e.2)]
theorem updL_s {w : List Nat} : updL L k x w k x = w := by unfold updL; rw [if_pos ⟨rfl, rfl⟩]
theorem ft_p {α : Type} {f : α → Bool} {l : List α} {a : α} (h : f a = true) : (l ++ [a]).filter f = l.filter f ++ [a] := by
  rw [List.filter_append]; simp [h]
theorem ft_n {α : Type} {f : α → Bool} {l : List α} {a : α} (h : f a = false) : (l ++ [a]).filter f = l.filter f := by
  rw [List.filter_append]; simp [h]
theorem scA_n (M : List TyM) (root j : Nat) : scA M root (j : Int) = (M[j]?).map (fun m => m.2.1) := rfl
theorem scA_1 (M : List TyM) (root : Nat) : scA M root (-1) = some root := rfl
theorem scA_cases (h : scA M root p = some s) : (p = -1 ∧ s = root) ∨ ∃ (j : Nat) (m : TyM), p = (j : Int) ∧ M[j]? = some m ∧ m.2.1 = s := by
  cases p with
  | ofNat j =>
    refine Or.inr ⟨j, ?_⟩
    change (M[j]?).map (fun m => m.2.1) = some s at h
    cases e : M[j]? with
    | none => rw [e] at h; cases h
    | some m => rw [e] at h; exact ⟨m, rfl, rfl, Option.some.inj h⟩
  | negSucc j =>
    cases j with
    | zero => exact Or.inl ⟨rfl, (Option.some.inj h).symm⟩
    | succ j => cases h
theorem scA_old {m : TyM} (h : scA M root p = some s) : scA (M ++ [m]) root p = some s := by
  rcases scA_cases h with ⟨e1, e2⟩ | ⟨j, m', e1, e2, e3⟩
  · rw [e1, e2]; rfl
  · rw [e1, scA_n, gq_old e2, ← e3]; rfl
theorem OBS.sc3 (B : OBS y σ I n ob L sd root M E V F O N) (h : scA M root p = some s) : ob s ∧ sc σ s = 3 := by
  rcases scA_cases h with ⟨e1, e2⟩ | ⟨j, m, e1, e2, e3⟩
  · rw [e2]; exact ⟨B.1.2.1, B.1.2.2.2.2.1⟩
  · obtain ⟨-, b2, -, -, -, -, b7, -⟩ := B.2.1 j m e2
    rw [← e3]; exact ⟨b2, b7⟩
theorem OBS.sinj (H : HVw y σ ob L) (B : OBS y σ I n ob L sd root M E V F O N) {p' : Int} {s' : Nat} (h : scA M root p = some s) (h' : scA M root p' = some s') (e : s' = s) : p' = p := by
  subst e
  rcases scA_cases h with ⟨e1, e2⟩ | ⟨j, m, e1, e2, e3⟩ <;> rcases scA_cases h' with ⟨f1, f2⟩ | ⟨j', m', f1, f2, f3⟩
  · rw [e1, f1]
  · obtain ⟨b1, b2, b3, b4, -, b6, b7, -⟩ := B.2.1 j' m' f2
    have := H.2.2 sd m'.1 16 98 B.1.1 b1 (by decide) (by decide) B.1.2.2.1 b3 (by rw [B.1.2.2.2.1, b6, f3, e2])
    cases this.1
  · obtain ⟨b1, b2, b3, b4, -, b6, b7, -⟩ := B.2.1 j m e2
    have := H.2.2 sd m.1 16 98 B.1.1 b1 (by decide) (by decide) B.1.2.2.1 b3 (by rw [B.1.2.2.2.1, b6, e3, f2])
    cases this.1
  · obtain ⟨b1, b2, b3, b4, -, b6, b7, -⟩ := B.2.1 j m e2
    obtain ⟨c1, c2, c3, c4, -, c6, c7, -⟩ := B.2.1 j' m' f2
    have := H.2.2 m.1 m'.1 98 98 b1 c1 (by decide) (by decide) b3 c3 (by rw [b6, c6, e3, f3])
    rw [this.2, c4] at b4
    omega
theorem OBS.einj (B : OBS y σ I n ob L sd root M E V F O N) {j j' : Nat} {e e' : TyE} (h : E[j]? = some e) (h' : E[j']? = some e') (q : e'.1 = e.1) : j' = j := by
  obtain ⟨-, -, b3, -⟩ := B.2.2.1 j e h
  obtain ⟨-, -, c3, -⟩ := B.2.2.1 j' e' h'
  rw [q, b3] at c3
  omega
theorem OBS.minj (B : OBS y σ I n ob L sd root M E V F O N) {j j' : Nat} {e e' : TyM} (h : M[j]? = some e) (h' : M[j']? = some e') (q : e'.1 = e.1) : j' = j := by
  obtain ⟨-, -, -, b3, -⟩ := B.2.1 j e h
  obtain ⟨-, -, -, c3, -⟩ := B.2.1 j' e' h'
  rw [q, b3] at c3
  omega
theorem OBS.cg (B : OBS y σ I n ob L sd root M E V F O N) (h : ∀ x, ob x → L' 139 x = L 139 x) : OBS y σ I n ob L' sd root M E V F O N := by
  obtain ⟨h1, hM, hE, hF, hN, hV, hO, hW⟩ := B
  refine ⟨h1, hM, hE, fun f hf => ⟨(hF f hf).1, ?_⟩, hN, hV, hO, hW⟩
  have := (hF f hf).2
  unfold OBF at this ⊢
  rw [h f.1 (hF f hf).1]; exact this
theorem QV.addV (Q : QV sd root M E V F O R N L) {e r i num : Nat} {t : TyE} (he : E[e]? = some t) (hx : t.1 = x) (hs : scA M root p = some s) (hE : ∀ (j : Nat) (e' : TyE), E[j]? = some e' → e'.1 = x → j = e) (hS : ∀ p' s', scA M root p' = some s' → s' = s → p' = p) :
    QV sd root M E (V ++ [(r, i, num, e)]) F O R (N ++ [(r, i, p)]) (updL (updL (updL L 115 x (L 115 x ++ [num])) 114 x (L 114 x ++ [r])) 35 s (L 35 s ++ [r])) := by
  obtain ⟨⟨q1, q2, q3⟩, qs, qm, qe⟩ := Q
  refine ⟨⟨?_, ?_, ?_⟩, fun p' s' h' => ?_, fun j m hm => ?_, fun j e' he' => ?_⟩
  · rw [updL_k (by decide), updL_k (by decide), updL_k (by decide)]; exact q1
  · rw [updL_k (by decide), updL_k (by decide), updL_k (by decide)]; exact q2
  · rw [updL_k (by decide), updL_k (by decide), updL_k (by decide)]; exact q3
  · obtain ⟨a1, a2, a3⟩ := qs p' s' h'
    refine ⟨?_, ?_, ?_⟩
    · rw [updL_k (by decide), updL_k (by decide), updL_k (by decide)]; exact a1
    · rw [updL_k (by decide), updL_k (by decide), updL_k (by decide)]; exact a2
    · by_cases c : p' = p
      · subst c
        rw [hs] at h'
        have e1 : s = s' := Option.some.inj h'
        subst e1
        rw [updL_s, ft_p (by simp), List.map_append, ← a3]; rfl
      · rw [updL_x (fun w => c (hS p' s' h' w)), updL_k (by decide), updL_k (by decide), ft_n (by simp; exact fun w => c w.symm)]; exact a3
  · obtain ⟨a1, a2, a3⟩ := qm j m hm
    refine ⟨?_, ?_, ?_⟩
    · rw [updL_k (by decide), updL_k (by decide), updL_k (by decide)]; exact a1
    · rw [updL_k (by decide), updL_k (by decide), updL_k (by decide)]; exact a2
    · rw [updL_k (by decide), updL_k (by decide), updL_k (by decide)]; exact a3
  · obtain ⟨a1, a2⟩ := qe j e' he'
    by_cases c : j = e
    · subst c
      rw [he] at he'
      have e1 : t = e' := Option.some.inj he'
      subst e1
      subst hx
      rw [ft_p (by simp), List.map_append, List.map_append, ← a1, ← a2]
      exact ⟨by rw [updL_k (by decide), updL_s]; rfl, by rw [updL_k (by decide), updL_k (by decide), updL_s]; rfl⟩
    · have ne : e'.1 ≠ x := fun w => c (hE j e' he' w)
      rw [ft_n (by simp; exact fun w => c w.symm)]
      exact ⟨by rw [updL_k (by decide), updL_x ne, updL_k (by decide)]; exact a1, by rw [updL_k (by decide), updL_k (by decide), updL_x ne]; exact a2⟩
theorem pm1 {α : Type} {A B C : List α} {x : α} (h : A.Perm (B ++ C)) : (A ++ [x]).Perm ((B ++ [x]) ++ C) := by
  refine (h.append_right [x]).trans ?_
  rw [List.append_assoc, List.append_assoc]
  exact List.perm_append_comm.append_left B
theorem pm2 {α : Type} {A B C D : List α} {x : α} (h : A.Perm (B ++ (C ++ D))) : (A ++ [x]).Perm (B ++ ((C ++ [x]) ++ D)) := by
  rw [← List.append_assoc] at h
  have := pm1 (x := x) h
  rw [List.append_assoc, List.append_assoc] at this
  rw [List.append_assoc]; exact this
theorem pm3 {α : Type} {A B C D : List α} {x : α} (h : A.Perm (B ++ (C ++ D))) : (A ++ [x]).Perm (B ++ (C ++ (D ++ [x]))) := by
  have := h.append_right [x]
  rw [List.append_assoc, List.append_assoc] at this
  exact this
theorem ePa_old {m : TyE} {e : Nat} (h : e < E.length) : ePa (E ++ [m]) e = ePa E e := by
  unfold ePa; rw [List.getElem?_append_left h]
theorem PW.addV (h : PW I n M E V F O R N) {e r i num : Nat} {t : TyE} (he : E[e]? = some t) (hp : t.2.2 = p) (hv : V.length < 40) (hel : e + 1 = E.length) (hn : num < 1000000000) (hk : (tkn I n i).1 = 1) (hi : i ≤ n) : PW I n M E (V ++ [(r, i, num, e)]) F O R (N ++ [(r, i, p)]) := by
  obtain ⟨⟨h1, h2, h3, h4, h5, h6⟩, hM, hE, hV, hF, hO, hR, hN, hPw⟩ := h
  refine ⟨⟨h1, h2, by rw [List.length_append]; simp; omega, h4, h5, h6⟩, hM, hE, fun v hv => ?_, hF, hO, hR, ?_, ?_⟩
  · rcases List.mem_append.mp hv with q | q
    · exact hV v q
    · rw [List.mem_singleton.mp q]; exact ⟨gq_lt he, hn, hk, hi⟩
  · rw [List.map_append, List.map_append]
    have ee : ePa E e = p := by unfold ePa; rw [he]; exact hp
    show (List.map _ N ++ [(i, p)]).Perm (_ ++ (_ ++ (_ ++ [(i, ePa E e)])))
    rw [ee]
    exact pm3 hN
  · rw [List.pairwise_append]
    refine ⟨hPw, List.pairwise_singleton _ _, fun u hu v hv => ?_⟩
    rw [List.mem_singleton.mp hv]
    have := (hV u hu).1
    show u.2.2.2 ≤ e
    omega
end Gw
