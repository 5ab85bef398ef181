set_option maxRecDepth 100000
/-! JSON: values that are no messages; what both sides read -/
def nval (v : Nat) (m : Int) : Int64 := if m = 1 then -(lN v) else lN v
def msg (w : List UInt8) (v : Nat) : Int := if lk (wI w) w.length 0 = 45 ∧ v ≠ 0 then 1 else 0
/-- a row that is a number of a kind -/
def numW (k : Nat) (w : List UInt8) : Option Int64 := if gok (wI w) w.length 0 ∧ g4 (wI w) w.length 0 = w.length then (wv (wI w) w.length 0).bind fun v => if fitk k v (msg w v) then some (nval v (msg w v)) else none else none
/-- a number at a place: a text that is one, or its signs -/
def nuS (I : Nat → Nat) (n k p : Nat) : Option (Nat × Int64) := if lk I n p = 34 then (str I n p).bind fun r => (numW k r.2).map fun x => (r.1, x) else (numW k (cut I p (rns I n p))).map fun x => (rns I n p, x)
/-- the number that the reference has -/
def NumV (τ : TT) (x : Int64) : Prop := (tI τ 60 = 0 ∨ tI τ 60 = 1) ∧ (if tI τ 60 = 0 then tJ τ 59 else -(tJ τ 59)) = x
theorem NumV.tr {τ τ' : TT} {l : List Nat} {x : Int64} (h : NumV τ x) (f : TF l τ τ') (h1 : 59 ∉ l) (h2 : 60 ∉ l) : NumV τ' x := by
  unfold NumV at h ⊢
  rw [(f 60 h2).1, (f 59 h1).2.1]
  exact h
def KJ : List Nat := [41, 56, 57, 58, 59, 60]
section Sc
variable {I : Nat → Nat} {n p k : Nat} {τ : TT} {S : SC}
theorem m_whole_row {J : Nat → Nat} {N b : Nat} (hS : Sy τ J N) (hb : b ≤ 1000) (hg : gok J N b) {f : Nat} (hf : f < 50) (hk : tA τ 28 f = (k : Int)) (hk2 : k < 1000) : ∃ τ', TF [59, 60] τ τ' ∧ ∃ y, m_isWhole (b : Int) (g4 J N b : Int) τ = some (y, τ') ∧ (y = 0 ∨ y = 1) ∧ (match wv J N b with | some v => y = 1 ∧ m_fits (f : Int) τ' = some (if fitk k v (if lk J N b = 45 ∧ v ≠ 0 then 1 else 0) then 1 else 0) ∧ NumV τ' (nval v (if lk J N b = 45 ∧ v ≠ 0 then 1 else 0)) | none => y = 0) := by
  obtain ⟨τ', f1, e1, h1⟩ := m_isWhole_eq hS hb hg rfl rfl
  refine ⟨τ', f1, _, e1, ?_, ?_⟩
  · cases wv J N b with
    | none => exact Or.inl rfl
    | some v => exact Or.inr rfl
  · cases e : wv J N b with
    | none => rfl
    | some v =>
      obtain ⟨a1, a2, a3⟩ := h1 v e
      have hm : (if lk J N b = 45 ∧ v ≠ 0 then (1 : Int) else 0) = 0 ∨ ((if lk J N b = 45 ∧ v ≠ 0 then (1 : Int) else 0) = 1 ∧ v ≠ 0) := by
        by_cases c : lk J N b = 45 ∧ v ≠ 0
        · rw [if_pos c]; exact Or.inr ⟨rfl, c.2⟩
        · rw [if_neg c]; exact Or.inl rfl
      refine ⟨rfl, m_fits_eq rfl hf (by rw [(f1 28 (by decide)).2.2]; exact hk) hk2 a3 hm a1 a2, ?_, ?_⟩
      · rw [a3]; exact hm.imp id (fun q => q.1)
      · rw [a3, a1]
        unfold nval
        by_cases c : lk J N b = 45 ∧ v ≠ 0
        · rw [if_pos c, if_neg (by omega), if_pos rfl]
        · rw [if_neg c, if_pos rfl, if_neg (by omega)]
theorem m_numberOf_eq (hI : TIn τ I n) (h58 : tI τ 58 = 0) {f : Nat} (hf : f < 50) (hk : tA τ 28 f = (k : Int)) (hk2 : k < 1000) (hp : p ≤ n) : ∃ τ' r, TF KJ τ τ' ∧ tI τ' 58 = 0 ∧ m_numberOf (f : Int) (p : Int) τ = some (r, τ') ∧ (match nuS I n k p with | some e => r = (e.1 : Int) ∧ NumV τ' e.2 | none => r = -1 ∨ ∃ e : Nat, r = (e : Int) ∧ e < n ∧ nsg (lk I n e) = true) := by
  have hn := hI.2.1
  have hx := lk_rg (n := n) hI.2.2.2 p
  unfold m_numberOf nuS
  rw [m_look_eq hI rfl (by omega), bind_some', gd_pos (rg_byte hx)]
  by_cases c : lk I n p = 34
  · rw [if_pos c, if_pos c]
    obtain ⟨τ1, f1, e1⟩ := m_string_eq (p := p) hI rfl (by omega)
    cases es : str I n p with
    | none =>
      rw [es] at e1
      rw [e1, bind_some']
      refine ⟨uI (uI τ1 58 1) 58 0, -1, ((f1.mono (by decide)).uI (by decide) _).uI (by decide) _, by rw [tI_uI, if_pos rfl], ?_, Or.inl rfl⟩
      show nm (uI τ1 58 1) _ = _
      rw [nm_eq]
      show Option.bind (gd (rg (-1)) (gd (¬ ((-1 : Int) = -1) → ok (m_numberText 0 (uI τ1 58 1))) (gd (¬ ((-1 : Int) = -1) → rg (vv (m_numberText 0 (uI τ1 58 1)))) (gd (¬ ((-1 : Int) = -1) → rg (tI (uI τ1 58 1) 57)) (if ((-1 : Int) = -1) ∨ (¬ ((vv (m_numberText 0 (uI τ1 58 1))) = (tI (uI τ1 58 1) 57))) then (some ((0, uI τ1 58 1))) else _))))) _ = _
      rw [gd_pos (by omega), gd_pos (by exact fun q => absurd rfl q), gd_pos (by exact fun q => absurd rfl q), gd_pos (by exact fun q => absurd rfl q), if_pos (Or.inl rfl), bind_some', nm_eq]
      rfl
    | some r =>
      rw [es] at e1
      obtain ⟨e1, s1⟩ := e1
      obtain ⟨l1, l2, l3, l4⟩ := str_len es
      rw [e1, bind_some']
      have f2 : TF KJ τ (uI τ1 58 1) := (f1.mono (by decide)).uI (by decide) _
      have fs : TF [58] τ1 (uI τ1 58 1) := (TF.refl _ τ1).uI (by decide) _
      have s2 : Said (uI τ1 58 1) r.2 := s1.tr fs (by decide) (by decide)
      have hSy : Sy (uI τ1 58 1) (wI r.2) r.2.length := Sy.ofSaid s2 (by rw [tI_uI, if_pos rfl]) (by omega)
      have hk3 : tA (uI τ1 58 1) 28 f = (k : Int) := by rw [(f2 28 (by decide)).2.2]; exact hk
      have hs := g_sp (wI r.2) r.2.length 0
      have e57 : tI (uI τ1 58 1) 57 = (r.2.length : Int) := s2.1
      have ent := m_numberText_eq (b := 0) hSy (x := 0) rfl (by omega)
      show ∃ τ' r', TF KJ τ τ' ∧ tI τ' 58 = 0 ∧ (nm (uI τ1 58 1) fun τ7 => Option.bind (gd (rg (r.1 : Int)) (gd (¬ ((r.1 : Int) = -1) → ok (m_numberText 0 τ7)) (gd (¬ ((r.1 : Int) = -1) → rg (vv (m_numberText 0 τ7))) (gd (¬ ((r.1 : Int) = -1) → rg (tI τ7 57)) (if ((r.1 : Int) = -1) ∨ (¬ ((vv (m_numberText 0 τ7)) = (tI τ7 57))) then (some ((0, τ7))) else (Option.bind (m_isWhole 0 (tI τ7 57) τ7) fun y26 => gd (rg y26.1) (gd (¬ (y26.1 = 0) → ok (m_fits (f : Int) y26.2)) (gd (¬ (y26.1 = 0) → rg (vv (m_fits (f : Int) y26.2))) (if (y26.1 = 0) ∨ ((vv (m_fits (f : Int) y26.2)) = 0) then (some ((0, y26.2))) else (some ((1, y26.2)))))))))))) fun (v14 : Int × TT) => nm (uI v14.2 58 0) fun τ18 => gd (rg v14.1) (if v14.1 = 0 then (some (((-1), τ18))) else (some (((r.1 : Int), τ18))))) = some (r', τ') ∧ (match Option.map (fun x => (r.1, x)) (numW k r.2) with | some e => r' = (e.1 : Int) ∧ NumV τ' e.2 | none => r' = -1 ∨ ∃ e : Nat, r' = (e : Int) ∧ e < n ∧ nsg (lk I n e) = true)
      rw [nm_eq, ent, e57, gd_pos (by omega), gd_pos (by exact fun _ => rfl), gd_pos (by exact fun _ => by rw [vv_s]; split <;> omega), gd_pos (by omega), vv_s]
      unfold numW
      by_cases g : gok (wI r.2) r.2.length 0 ∧ g4 (wI r.2) r.2.length 0 = r.2.length
      · rw [if_pos g, if_pos g.1, if_neg (by have := g.2; omega)]
        obtain ⟨τ3, f3, y, e3, y01, h3⟩ := m_whole_row hSy (by omega) g.1 hf hk3 hk2
        rw [g.2, show ((0 : Nat) : Int) = 0 from rfl] at e3
        rw [e3, bind_some']
        have f4 : TF KJ τ (uI τ3 58 0) := (f2.tr f3 (by decide)).uI (by decide) _
        have h58' : tI (uI τ3 58 0) 58 = 0 := by rw [tI_uI, if_pos rfl]
        cases ew : wv (wI r.2) r.2.length 0 with
        | none =>
          rw [ew] at h3
          subst h3
          refine ⟨uI τ3 58 0, -1, f4, h58', ?_, Or.inl rfl⟩
          show Option.bind (gd (rg 0) (gd (¬ ((0 : Int) = 0) → ok (m_fits (f : Int) τ3)) (gd (¬ ((0 : Int) = 0) → rg (vv (m_fits (f : Int) τ3))) (if ((0 : Int) = 0) ∨ ((vv (m_fits (f : Int) τ3)) = 0) then (some ((0, τ3))) else (some ((1, τ3))))))) _ = _
          rw [gd_pos (by omega), gd_pos (by exact fun q => absurd rfl q), gd_pos (by exact fun q => absurd rfl q), if_pos (Or.inl rfl), bind_some', nm_eq]
          rfl
        | some v =>
          rw [ew] at h3
          obtain ⟨h31, h32, h33⟩ := h3
          subst h31
          rw [h32, vv_s]
          have emsg : (if lk (wI r.2) r.2.length 0 = 45 ∧ v ≠ 0 then (1 : Int) else 0) = msg r.2 v := rfl
          rw [emsg] at h33 ⊢
          by_cases ft : fitk k v (msg r.2 v)
          · refine ⟨uI τ3 58 0, (r.1 : Int), f4, h58', ?_, ?_⟩
            · show Option.bind (gd (rg 1) (gd (¬ ((1 : Int) = 0) → ok (some (if fitk k v (msg r.2 v) then (1 : Int) else 0))) (gd (¬ ((1 : Int) = 0) → rg (if fitk k v (msg r.2 v) then (1 : Int) else 0)) (if ((1 : Int) = 0) ∨ ((if fitk k v (msg r.2 v) then (1 : Int) else 0) = 0) then (some ((0, τ3))) else (some ((1, τ3))))))) _ = _
              rw [if_pos ft, gd_pos (by omega), gd_pos (by exact fun _ => rfl), gd_pos (by omega), if_neg (by omega), bind_some', nm_eq]
              rfl
            · show (match Option.map (fun x => (r.1, x)) (if fitk k v (msg r.2 v) then some (nval v (msg r.2 v)) else none) with | some e => _ | none => _)
              rw [if_pos ft]
              exact ⟨rfl, h33.tr (l := [58]) ((TF.refl _ τ3).uI (by decide) _) (by decide) (by decide)⟩
          · refine ⟨uI τ3 58 0, -1, f4, h58', ?_, ?_⟩
            · show Option.bind (gd (rg 1) (gd (¬ ((1 : Int) = 0) → ok (some (if fitk k v (msg r.2 v) then (1 : Int) else 0))) (gd (¬ ((1 : Int) = 0) → rg (if fitk k v (msg r.2 v) then (1 : Int) else 0)) (if ((1 : Int) = 0) ∨ ((if fitk k v (msg r.2 v) then (1 : Int) else 0) = 0) then (some ((0, τ3))) else (some ((1, τ3))))))) _ = _
              rw [if_neg ft, gd_pos (by omega), gd_pos (by exact fun _ => rfl), gd_pos (by omega), if_pos (by omega), bind_some', nm_eq]
              rfl
            · show (match Option.map (fun x => (r.1, x)) (if fitk k v (msg r.2 v) then some (nval v (msg r.2 v)) else none) with | some e => _ | none => _)
              rw [if_neg ft]
              exact Or.inl rfl
      · rw [if_neg g, if_pos (by
          right
          by_cases g1 : gok (wI r.2) r.2.length 0
          · rw [if_pos g1]; intro q; exact g ⟨g1, by omega⟩
          · rw [if_neg g1]; omega), bind_some', nm_eq]
        exact ⟨uI (uI τ1 58 1) 58 0, -1, f2.uI (by decide) _, by rw [tI_uI, if_pos rfl], rfl, Or.inl rfl⟩
  · rw [if_neg c, if_neg c]
    have hSy : Sy τ I n := Sy.ofIn hI h58
    have hR := Rns.mk (n := n) (p := p) hI.2.2.2
    obtain ⟨t1, t2, t3, t4, t5⟩ := hR.num
    have hcl := cut_len I p (rns I n p)
    have hg4 : g4 I n p ≤ 5000 ∧ p ≤ g4 I n p := by
      have hs := g_sp I n p
      omega
    have eqg : g4 (wI (cut I p (rns I n p))) (rns I n p - p) 0 = rns I n p - p → (g4 I n p : Int) = (rns I n p : Int) := fun q => by rw [t3, q, Nat.add_sub_cancel' hR.2.1]
    have far : ¬ g4 (wI (cut I p (rns I n p))) (rns I n p - p) 0 = rns I n p - p → g4 I n p < n ∧ nsg (lk I n (g4 I n p)) = true := fun q => by
      have hlt : g4 I n p < rns I n p := by
        have h1 := Nat.lt_of_le_of_ne t4 q
        have h2 := hR.2.1
        rw [t3]
        omega
      have := hR.2.2.2.2 (g4 I n p) hg4.2 hlt
      exact ⟨lk_in (fun e => by rw [e] at this; exact absurd this (by decide)), this⟩
    rw [m_numberText_eq hSy (b := p) rfl (by omega), bind_some']
    have eN : numW k (cut I p (rns I n p)) = (if gok I n p ∧ g4 (wI (cut I p (rns I n p))) (rns I n p - p) 0 = rns I n p - p then (wv I n p).bind (fun v => if fitk k v (msg (cut I p (rns I n p)) v) then some (nval v (msg (cut I p (rns I n p)) v)) else none) else none) := by
      unfold numW
      rw [hcl, ← t5]
      by_cases g : gok I n p ∧ g4 (wI (cut I p (rns I n p))) (rns I n p - p) 0 = rns I n p - p
      · rw [if_pos g, if_pos ⟨t2.mp g.1, g.2⟩]
      · rw [if_neg g, if_neg (fun q => g ⟨t2.mpr q.1, q.2⟩)]
    rw [eN]
    by_cases g1 : gok I n p
    · rw [if_pos g1, gd_pos ⟨by omega, by omega⟩, if_neg (by omega)]
      obtain ⟨τ3, f3, y, e3, y01, h3⟩ := m_whole_row hSy (by omega) g1 hf hk hk2
      rw [e3, bind_some']
      have f4 : TF KJ τ τ3 := f3.mono (by decide)
      have h58' : tI τ3 58 = 0 := by rw [(f3 58 (by decide)).1]; exact h58
      cases ew : wv I n p with
      | none =>
        rw [ew] at h3
        subst h3
        refine ⟨τ3, -1, f4, h58', ?_, ?_⟩
        · show gd (rg 0) (gd (¬ ((0 : Int) = 0) → ok (m_fits (f : Int) τ3)) (gd (¬ ((0 : Int) = 0) → rg (vv (m_fits (f : Int) τ3))) (if ((0 : Int) = 0) ∨ ((vv (m_fits (f : Int) τ3)) = 0) then (some (((-1), τ3))) else (some (((g4 I n p : Int), τ3)))))) = _
          rw [gd_pos (by omega), gd_pos (by exact fun q => absurd rfl q), gd_pos (by exact fun q => absurd rfl q), if_pos (Or.inl rfl)]
        · by_cases g : gok I n p ∧ g4 (wI (cut I p (rns I n p))) (rns I n p - p) 0 = rns I n p - p
          · rw [if_pos g]; exact Or.inl rfl
          · rw [if_neg g]; exact Or.inl rfl
      | some v =>
        rw [ew] at h3
        obtain ⟨h31, h32, h33⟩ := h3
        subst h31
        have emsg : (if lk I n p = 45 ∧ v ≠ 0 then (1 : Int) else 0) = msg (cut I p (rns I n p)) v := by
          unfold msg
          rw [hcl]
          by_cases q : lk I n p = 45 ∧ v ≠ 0
          · rw [if_pos q, if_pos ⟨t1.mp q.1, q.2⟩]
          · rw [if_neg q, if_neg (fun r => q ⟨t1.mpr r.1, r.2⟩)]
        rw [emsg] at h32 h33
        by_cases ft : fitk k v (msg (cut I p (rns I n p)) v)
        · refine ⟨τ3, (g4 I n p : Int), f4, h58', ?_, ?_⟩
          · show gd (rg 1) (gd (¬ ((1 : Int) = 0) → ok (m_fits (f : Int) τ3)) (gd (¬ ((1 : Int) = 0) → rg (vv (m_fits (f : Int) τ3))) (if ((1 : Int) = 0) ∨ ((vv (m_fits (f : Int) τ3)) = 0) then (some (((-1), τ3))) else (some (((g4 I n p : Int), τ3)))))) = _
            rw [h32, vv_s, if_pos ft, gd_pos (by omega), gd_pos (by exact fun _ => rfl), gd_pos (by omega), if_neg (by omega)]
          · by_cases g : gok I n p ∧ g4 (wI (cut I p (rns I n p))) (rns I n p - p) 0 = rns I n p - p
            · rw [if_pos g]
              show (match Option.map (fun x => (rns I n p, x)) (if fitk k v (msg (cut I p (rns I n p)) v) then some (nval v (msg (cut I p (rns I n p)) v)) else none) with | some e => _ | none => _)
              rw [if_pos ft]
              exact ⟨eqg g.2, h33⟩
            · rw [if_neg g]
              obtain ⟨r1, r2⟩ := far (fun q => g ⟨g1, q⟩)
              exact Or.inr ⟨g4 I n p, rfl, r1, r2⟩
        · refine ⟨τ3, -1, f4, h58', ?_, ?_⟩
          · show gd (rg 1) (gd (¬ ((1 : Int) = 0) → ok (m_fits (f : Int) τ3)) (gd (¬ ((1 : Int) = 0) → rg (vv (m_fits (f : Int) τ3))) (if ((1 : Int) = 0) ∨ ((vv (m_fits (f : Int) τ3)) = 0) then (some (((-1), τ3))) else (some (((g4 I n p : Int), τ3)))))) = _
            rw [h32, vv_s, if_neg ft, gd_pos (by omega), gd_pos (by exact fun _ => rfl), gd_pos (by omega), if_pos (by omega)]
          · by_cases g : gok I n p ∧ g4 (wI (cut I p (rns I n p))) (rns I n p - p) 0 = rns I n p - p
            · rw [if_pos g]
              show (match Option.map (fun x => (rns I n p, x)) (if fitk k v (msg (cut I p (rns I n p)) v) then some (nval v (msg (cut I p (rns I n p)) v)) else none) with | some e => _ | none => _)
              rw [if_neg ft]
              exact Or.inl rfl
            · rw [if_neg g]; exact Or.inl rfl
    · rw [if_neg g1, gd_pos (by omega), if_pos rfl, if_neg (fun q => g1 q.1)]
      exact ⟨τ, -1, TF.refl _ _, h58, rfl, Or.inl rfl⟩
end Sc
