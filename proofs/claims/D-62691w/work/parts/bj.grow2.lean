set_option maxRecDepth 100000
/-! SCHEMAS, READ: what was read grows -/
section Gx
variable {y z k l x v n sd root s : Nat} {p : Int} {I : Nat → Nat} {σ σ0 σ1 σ' : ST} {ob : Nat → Prop} {L L' : Nat → Nat → List Nat} {M : List TyM} {E : List TyE} {V : List TyV} {F : List TyF} {O : List TyO} {R : List TyR} {N : List TyN}
def lowL (L : Nat → Nat → List Nat) (z : Nat) : Nat → Nat → List Nat := fun k x => if x < z then L k x else []
theorem lowL_l (h : x < z) : lowL L z k x = L k x := by unfold lowL; rw [if_pos h]
theorem lowL_h (h : ¬ x < z) : lowL L z k x = [] := by unfold lowL; rw [if_neg h]
theorem OBS.low (H : HVw y σ ob L) (B : OBS y σ I n ob L sd root M E V F O N) (hz : sZ σ ≤ z) : sd < z ∧ (∀ p s, scA M root p = some s → s < z) ∧ (∀ (j : Nat) (m : TyM), M[j]? = some m → m.1 < z) ∧ ∀ (j : Nat) (e : TyE), E[j]? = some e → e.1 < z := by
  have hb : ∀ x, ob x → x < z := fun x hx => by have := (H.1 x hx).2; omega
  exact ⟨hb _ B.1.1, fun p s h => hb _ (B.sc3 h).1, fun j m h => hb _ (B.2.1 j m h).1, fun j e h => hb _ (B.2.2.1 j e h).1⟩
theorem QV.low (Q : QV sd root M E V F O R N L) (h : sd < z ∧ (∀ p s, scA M root p = some s → s < z) ∧ (∀ (j : Nat) (m : TyM), M[j]? = some m → m.1 < z) ∧ ∀ (j : Nat) (e : TyE), E[j]? = some e → e.1 < z) : QV sd root M E V F O R N (lowL L z) := by
  obtain ⟨⟨q1, q2, q3⟩, qs, qm, qe⟩ := Q
  obtain ⟨h1, h2, h3, h4⟩ := h
  refine ⟨⟨by rw [lowL_l h1]; exact q1, by rw [lowL_l h1]; exact q2, by rw [lowL_l h1]; exact q3⟩, fun p s hp => ?_, fun j m hm => ?_, fun j e he => ?_⟩
  · have := h2 p s hp
    rw [lowL_l this, lowL_l this, lowL_l this]; exact qs p s hp
  · have := h3 j m hm
    rw [lowL_l this, lowL_l this, lowL_l this]; exact qm j m hm
  · have := h4 j e he
    rw [lowL_l this, lowL_l this]; exact qe j e he
theorem OBS.mo {ob' : Nat → Prop} (B : OBS y σ I n ob L sd root M E V F O N) (h : ∀ x, ob x → ob' x) : OBS y σ I n ob' L sd root M E V F O N := by
  obtain ⟨⟨h1, h2, h3⟩, hM, hE, hF, hN, hV, hO, hW⟩ := B
  exact ⟨⟨h _ h1, h _ h2, h3⟩, fun j m hm => ⟨h _ (hM j m hm).1, h _ (hM j m hm).2.1, (hM j m hm).2.2⟩, fun j e he => ⟨h _ (hE j e he).1, (hE j e he).2⟩, fun f hf => ⟨h _ (hF f hf).1, (hF f hf).2⟩, hN, hV, hO, hW⟩
theorem fil0 {α : Type} {f : α → Bool} {l : List α} (h : ∀ a, a ∈ l → f a = false) : l.filter f = [] := by
  rw [List.filter_eq_nil_iff]; exact fun a ha => by rw [h a ha]; decide
theorem PW.nsc (hw : PW I n M E V F O R N) {w : TyN} (h : w ∈ N) : -1 ≤ w.2.2 ∧ w.2.2 < (M.length : Int) := by
  obtain ⟨-, hM, hE, hV, -, -, -, hN, -⟩ := hw
  have h1 : (w.2.1, w.2.2) ∈ N.map (fun w => (w.2.1, w.2.2)) := List.mem_map.mpr ⟨w, h, rfl⟩
  rw [hN.mem_iff] at h1
  rcases List.mem_append.mp h1 with q | q
  · obtain ⟨m, m1, m2⟩ := List.mem_map.mp q
    obtain ⟨j, hj⟩ := List.getElem?_of_mem m1
    have := hM j m hj
    have e : m.2.2.2 = w.2.2 := congrArg Prod.snd m2
    have := gq_lt hj
    omega
  · rcases List.mem_append.mp q with q | q
    · obtain ⟨m, m1, m2⟩ := List.mem_map.mp q
      have := hE m m1
      have e : m.2.2 = w.2.2 := congrArg Prod.snd m2
      omega
    · obtain ⟨v, m1, m2⟩ := List.mem_map.mp q
      have h2 := (hV v m1).1
      have e : ePa E v.2.2.2 = w.2.2 := congrArg Prod.snd m2
      have e3 : E[v.2.2.2]? = some E[v.2.2.2] := List.getElem?_eq_getElem h2
      unfold ePa at e
      rw [e3] at e
      have e : (E[v.2.2.2]).2.2 = w.2.2 := e
      have := hE _ (List.getElem_mem h2)
      omega
theorem QV.addE (Q : QV sd root M E V F O R N L) {X r t : Nat} (hs : scA M root p = some s) (hS : ∀ p' s', scA M root p' = some s' → s' = s → p' = p) (hV : ∀ v, v ∈ V → v.2.2.2 < E.length) (h4 : L 114 X = []) (h5 : L 115 X = []) :
    QV sd root M (E ++ [(X, t, p)]) V F O R (N ++ [(r, t, p)]) (updL (updL (updL L 18 sd (L 18 sd ++ [X])) 34 s (L 34 s ++ [X])) 35 s (L 35 s ++ [r])) := by
  obtain ⟨⟨q1, q2, q3⟩, qs, qm, qe⟩ := Q
  refine ⟨⟨?_, ?_, ?_⟩, fun p' s' h' => ?_, fun j m hm => ?_, fun j e' he' => ?_⟩
  · rw [updL_k (by decide), updL_k (by decide), updL_k (by decide)]; exact q1
  · rw [updL_k (by decide), updL_k (by decide), updL_s, q2, List.map_append]; rfl
  · rw [updL_k (by decide), updL_k (by decide), updL_k (by decide)]; exact q3
  · obtain ⟨a1, a2, a3⟩ := qs p' s' h'
    refine ⟨?_, ?_, ?_⟩
    · rw [updL_k (by decide), updL_k (by decide), updL_k (by decide)]; exact a1
    · by_cases c : p' = p
      · subst c
        rw [hs] at h'
        have e1 : s = s' := Option.some.inj h'
        subst e1
        rw [updL_k (by decide), updL_s, ft_p (by simp), List.map_append, ← a2]; rfl
      · rw [updL_k (by decide), updL_x (fun w => c (hS p' s' h' w)), updL_k (by decide), ft_n (by simp; exact fun w => c w.symm)]; exact a2
    · by_cases c : p' = p
      · subst c
        rw [hs] at h'
        have e1 : s = s' := Option.some.inj h'
        subst e1
        rw [updL_s, ft_p (by simp), List.map_append, ← a3]; rfl
      · rw [updL_x (fun w => c (hS p' s' h' w)), updL_k (by decide), updL_k (by decide), ft_n (by simp; exact fun w => c w.symm)]; exact a3
  · obtain ⟨a1, a2, a3⟩ := qm j m hm
    refine ⟨?_, ?_, ?_⟩
    · rw [updL_k (by decide), updL_k (by decide), updL_k (by decide)]; exact a1
    · rw [updL_k (by decide), updL_k (by decide), updL_k (by decide)]; exact a2
    · rw [updL_k (by decide), updL_k (by decide), updL_k (by decide)]; exact a3
  · rw [updL_k (by decide), updL_k (by decide), updL_k (by decide), updL_k (by decide), updL_k (by decide), updL_k (by decide)]
    rcases gq_app he' with ⟨-, q⟩ | ⟨q, q'⟩
    · exact qe j e' q
    · subst q q'
      have ef : V.filter (fun v => decide (v.2.2.2 = E.length)) = [] := fil0 (fun v hv => by
        have := hV v hv
        simp; omega)
      rw [ef]; exact ⟨h4, h5⟩
theorem PW.addE (h : PW I n M E V F O R N) {X r t : Nat} (h1 : E.length < 6) (hp : -1 ≤ p ∧ p < (M.length : Int)) (hk : (tkn I n t).1 = 1) (hi : t ≤ n) : PW I n M (E ++ [(X, t, p)]) V F O R (N ++ [(r, t, p)]) := by
  obtain ⟨⟨g1, g2, g3, g4, g5, g6⟩, hM, hE, hV, hF, hO, hR, hN, hPw⟩ := h
  refine ⟨⟨g1, by rw [List.length_append]; simp; omega, g3, g4, g5, g6⟩, hM, fun e he => ?_, fun v hv => ?_, hF, hO, hR, ?_, hPw⟩
  · rcases List.mem_append.mp he with q | q
    · exact hE e q
    · rw [List.mem_singleton.mp q]; exact ⟨hp.1, hp.2, hk, hi⟩
  · obtain ⟨b1, b2⟩ := hV v hv
    exact ⟨by rw [List.length_append]; omega, b2⟩
  · rw [List.map_append, List.map_append]
    have ee : V.map (fun v => (v.2.1, ePa (E ++ [(X, t, p)]) v.2.2.2)) = V.map (fun v => (v.2.1, ePa E v.2.2.2)) := List.map_congr_left (fun v hv => by rw [ePa_old (hV v hv).1])
    rw [ee]
    exact pm2 hN
theorem OBS.addE (B : OBS y σ I n ob L sd root M E V F O N) {X r t : Nat} (h1 : ob X) (h2 : sc σ X = 8) (h3 : sI σ 112 X = (E.length : Int)) (h4 : sR σ 113 X = some r) (h5 : Rt y σ r (tkX I (tkn I n t))) : OBS y σ I n ob L sd root M (E ++ [(X, t, p)]) V F O (N ++ [(r, t, p)]) := by
  obtain ⟨g, hM, hE, hF, hN, hV, hO, hW⟩ := B
  refine ⟨g, hM, fun j e he => ?_, hF, hN, hV, hO, fun w hw => ?_⟩
  · rcases gq_app he with ⟨-, q⟩ | ⟨q, q'⟩
    · exact hE j e q
    · subst q q'
      exact ⟨h1, h2, h3, r, h4, h5⟩
  · rcases List.mem_append.mp hw with q | q
    · exact hW w q
    · rw [List.mem_singleton.mp q]; exact h5
theorem QV.addM (Q : QV sd root M E V F O R N L) {X S r t : Nat} (hw : PW I n M E V F O R N) (hs : scA M root p = some s) (hp : p < (M.length : Int)) (hS : ∀ p' s', scA M root p' = some s' → s' = s → p' = p) (hn : S ≠ s)
    (h0 : L 33 S = [] ∧ L 34 S = [] ∧ L 35 S = []) (h1 : L 99 X = [] ∧ L 100 X = [] ∧ L 101 X = []) :
    QV sd root (M ++ [(X, S, t, p)]) E V F O R (N ++ [(r, t, p)]) (updL (updL (updL L 17 sd (L 17 sd ++ [X])) 33 s (L 33 s ++ [X])) 35 s (L 35 s ++ [r])) := by
  obtain ⟨⟨q1, q2, q3⟩, qs, qm, qe⟩ := Q
  obtain ⟨-, wM, wE, wV, wF, wO, wR, -⟩ := id hw
  refine ⟨⟨?_, ?_, ?_⟩, fun p' s' h' => ?_, fun j m hm => ?_, fun j e' he' => ?_⟩
  · rw [updL_k (by decide), updL_k (by decide), updL_s, q1, List.map_append]; rfl
  · rw [updL_k (by decide), updL_k (by decide), updL_k (by decide)]; exact q2
  · rw [updL_k (by decide), updL_k (by decide), updL_k (by decide)]; exact q3
  · rcases scA_cases h' with ⟨e1, e2⟩ | ⟨j, m, e1, e2, e3⟩
    case inr =>
      rcases gq_app e2 with ⟨-, q⟩ | ⟨q, q'⟩
      case inr =>
        subst q q'
        have e3 : S = s' := e3
        subst e3
        subst e1
        have pn : ¬ p = ((M.length : Nat) : Int) := by omega
        refine ⟨?_, ?_, ?_⟩
        · rw [updL_k (by decide), updL_x hn, updL_k (by decide), h0.1, ft_n (by simp; exact pn), fil0 (fun m hm => ?_)]; rfl
          obtain ⟨j, hj⟩ := List.getElem?_of_mem hm
          have := wM j m hj
          have := gq_lt hj
          simp; omega
        · rw [updL_k (by decide), updL_k (by decide), updL_k (by decide), h0.2.1, fil0 (fun e he => ?_)]; rfl
          have := wE e he
          simp; omega
        · rw [updL_x hn, updL_k (by decide), updL_k (by decide), h0.2.2, ft_n (by simp; exact pn), fil0 (fun w hv => ?_)]; rfl
          have := hw.nsc hv
          simp; omega
      have g' : scA M root p' = some s' := by rw [e1, scA_n, q, ← e3]; rfl
      obtain ⟨a1, a2, a3⟩ := qs p' s' g'
      by_cases c : p' = p
      · subst c
        rw [hs] at g'
        have e1 : s = s' := Option.some.inj g'
        subst e1
        refine ⟨?_, ?_, ?_⟩
        · rw [updL_k (by decide), updL_s, ft_p (by simp), List.map_append, ← a1]; rfl
        · rw [updL_k (by decide), updL_k (by decide), updL_k (by decide)]; exact a2
        · rw [updL_s, ft_p (by simp), List.map_append, ← a3]; rfl
      · have ns : s' ≠ s := fun w => c (hS p' s' g' w)
        refine ⟨?_, ?_, ?_⟩
        · rw [updL_k (by decide), updL_x ns, updL_k (by decide), ft_n (by simp; exact fun w => c w.symm)]; exact a1
        · rw [updL_k (by decide), updL_k (by decide), updL_k (by decide)]; exact a2
        · rw [updL_x ns, updL_k (by decide), updL_k (by decide), ft_n (by simp; exact fun w => c w.symm)]; exact a3
    · have g' : scA M root p' = some s' := by rw [e1, e2]; rfl
      obtain ⟨a1, a2, a3⟩ := qs p' s' g'
      by_cases c : p' = p
      · subst c
        rw [hs] at g'
        have e1 : s = s' := Option.some.inj g'
        subst e1
        refine ⟨?_, ?_, ?_⟩
        · rw [updL_k (by decide), updL_s, ft_p (by simp), List.map_append, ← a1]; rfl
        · rw [updL_k (by decide), updL_k (by decide), updL_k (by decide)]; exact a2
        · rw [updL_s, ft_p (by simp), List.map_append, ← a3]; rfl
      · have ns : s' ≠ s := fun w => c (hS p' s' g' w)
        refine ⟨?_, ?_, ?_⟩
        · rw [updL_k (by decide), updL_x ns, updL_k (by decide), ft_n (by simp; exact fun w => c w.symm)]; exact a1
        · rw [updL_k (by decide), updL_k (by decide), updL_k (by decide)]; exact a2
        · rw [updL_x ns, updL_k (by decide), updL_k (by decide), ft_n (by simp; exact fun w => c w.symm)]; exact a3
  · rw [updL_k (by decide), updL_k (by decide), updL_k (by decide), updL_k (by decide), updL_k (by decide), updL_k (by decide), updL_k (by decide), updL_k (by decide), updL_k (by decide)]
    rcases gq_app hm with ⟨-, q⟩ | ⟨q, q'⟩
    · exact qm j m q
    · subst q q'
      have e1 : F.filter (fun f => decide (fMs f = M.length)) = [] := fil0 (fun f hf => by
        have := (wF f hf).1
        simp; omega)
      have e2 : O.filter (fun o => decide (o.2.2 = M.length)) = [] := fil0 (fun f hf => by
        have := (wO f hf).1
        simp; omega)
      have e3 : R.filter (fun r => decide (r.2 = M.length)) = [] := fil0 (fun f hf => by
        have := (wR f hf).1
        simp; omega)
      rw [e1, e2, e3]; exact h1
  · rw [updL_k (by decide), updL_k (by decide), updL_k (by decide), updL_k (by decide), updL_k (by decide), updL_k (by decide)]
    exact qe j e' he'
theorem PW.addM (h : PW I n M E V F O R N) {X S r t : Nat} (h1 : M.length < 10) (hp : -1 ≤ p ∧ p < (M.length : Int)) (hk : (tkn I n t).1 = 1) (hi : t ≤ n) : PW I n (M ++ [(X, S, t, p)]) E V F O R (N ++ [(r, t, p)]) := by
  obtain ⟨⟨g1, g2, g3, g4, g5, g6⟩, hM, hE, hV, hF, hO, hR, hN, hPw⟩ := h
  have hl : (M ++ [(X, S, t, p)]).length = M.length + 1 := by rw [List.length_append]; rfl
  refine ⟨⟨by omega, g2, g3, g4, g5, g6⟩, fun j m hm => ?_, fun e he => ?_, hV, fun f hf => ?_, fun o ho => ?_, fun r hr => ?_, ?_, hPw⟩
  · rcases gq_app hm with ⟨-, q⟩ | ⟨q, q'⟩
    · exact hM j m q
    · subst q q'
      exact ⟨hp.1, hp.2, hk, hi⟩
  · obtain ⟨b1, b2, b3⟩ := hE e he
    exact ⟨b1, by omega, b3⟩
  · obtain ⟨b1, b2⟩ := hF f hf
    exact ⟨by omega, b2⟩
  · obtain ⟨b1, b2⟩ := hO o ho
    exact ⟨by omega, b2⟩
  · obtain ⟨b1, b2⟩ := hR r hr
    exact ⟨by omega, b2⟩
  · rw [List.map_append, List.map_append]
    exact pm1 hN
theorem OBS.addM (B : OBS y σ I n ob L sd root M E V F O N) (hw : PW I n M E V F O R N) {X S r t : Nat} (hs : scA M root p = some s) (h1 : ob X) (h2 : ob S) (h3 : sc σ X = 7) (h4 : sI σ 96 X = (M.length : Int)) (h5 : sR σ 97 X = some r) (h6 : Rt y σ r (tkX I (tkn I n t))) (h7 : sR σ 98 X = some S) (h8 : sc σ S = 3) (h9 : sR σ 32 S = some s) (hA : ∃ fa, sR σ 103 X = some fa ∧ y ≤ fa ∧ fa < sZ σ ∧ sc σ fa = 103) : OBS y σ I n ob L sd root (M ++ [(X, S, t, p)]) E V F O (N ++ [(r, t, p)]) := by
  obtain ⟨g, hM, hE, hF, hN, hV, hO, hW⟩ := B
  refine ⟨g, fun j m hm => ?_, hE, fun f hf => ?_, hN, hV, hO, fun w hw => ?_⟩
  · rcases gq_app hm with ⟨-, q⟩ | ⟨q, q'⟩
    · obtain ⟨b1, b2, b3, b4, b5, b6, b7, b8, ⟨s', b9⟩, bA⟩ := hM j m q
      exact ⟨b1, b2, b3, b4, b5, b6, b7, by rw [scA_old b9, b8, b9], ⟨s', scA_old b9⟩, bA⟩
    · subst q q'
      exact ⟨h1, h2, h3, h4, ⟨r, h5, h6⟩, h7, h8, h9.trans (scA_old hs).symm, ⟨s, scA_old hs⟩, hA⟩
  · obtain ⟨b1, b2⟩ := hF f hf
    refine ⟨b1, ?_⟩
    unfold OBF at b2 ⊢
    rw [List.getElem?_append_left (hw.2.2.2.2.1 f hf).1]; exact b2
  · rcases List.mem_append.mp hw with q | q
    · exact hW w q
    · rw [List.mem_singleton.mp q]; exact h6
end Gx
