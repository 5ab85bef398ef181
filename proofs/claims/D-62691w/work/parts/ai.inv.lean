set_option maxRecDepth 100000
/-! BOTH SIDES TOGETHER: what holds between two calls -/
/-- the schema's object and its lists -/
def HSd (y z : Nat) (σ : ST) (S : SC) (fa ma ea : Nat → Nat) (sch : Nat) : Prop := y ≤ sch ∧ sch < z ∧ sc σ sch = 2 ∧ ∃ ml el fl, sR σ 17 sch = some ml ∧ sR σ 18 sch = some el ∧ sR σ 19 sch = some fl ∧ (y ≤ ml ∧ ml < z ∧ sc σ ml = 16 ∧ sA σ ml = (List.range S.1).map ma) ∧ (y ≤ el ∧ el < z ∧ sc σ el = 16 ∧ sA σ el = (List.range S.2.1).map ea) ∧ (y ≤ fl ∧ fl < z ∧ sc σ fl = 16 ∧ sA σ fl = (List.range (nF_ S)).map fa)
/-- the system's own objects -/
def OWN (σ : ST) (a0 tp b sch ro rs : Nat) : Prop := sc σ a0 = 1 ∧ a0 < sZ σ ∧ sR σ 0 a0 = some tp ∧ sR σ 1 a0 = some b ∧ sR σ 4 a0 = some sch ∧ sR σ 5 a0 = some ro ∧ sR σ 6 a0 = some rs ∧ (sc σ tp = 101 ∧ sN σ tp = 1000 ∧ tp < sZ σ) ∧ (sc σ b = 101 ∧ sN σ b = 1000 ∧ b < sZ σ) ∧ tp ≠ b ∧ (RW σ ro ∧ ro < sZ σ) ∧ (RW σ rs ∧ rs < sZ σ) ∧ ro ≠ rs
def OUTS (y z : Nat) (l : List Nat) : Prop := ∀ x ∈ l, x < y ∨ z ≤ x
/-- the input's bytes -/
def inp (σ : ST) (b k : Nat) : Nat := (sB σ b k).toNat
theorem inp_lt (σ : ST) (b k : Nat) : inp σ b k < 256 := UInt8.toNat_lt _
def INV (S : SC) (fa ma ea : Nat → Nat) (od : Nat → List Nat) (y z a0 tp b sch ro rs n k : Nat) (w : List UInt8) (σ : ST) (τ : TT) : Prop :=
  (SW S ∧ SN S ∧ OD S od) ∧ (HSc z σ S fa ma ea od ∧ HSy y σ S fa ma ea ∧ HSd y z σ S fa ma ea sch) ∧ OWN σ a0 tp b sch ro rs ∧ OUTS y z [a0, tp, b, ro, rs] ∧
  (sI σ 3 a0 = (n : Int) ∧ TIn τ (inp σ b) n) ∧ (k ≤ 1000 ∧ sI σ 2 a0 = (k : Int) ∧ tI τ 4 = (k : Int) ∧ ∀ j, j < k → tA τ 1 j = ((sB σ tp j).toNat : Int)) ∧ (sW σ ro = w ∧ OW τ w) ∧ tI τ 58 = 0 ∧ TSc τ S
abbrev KI : List Nat := [1, 2, 3, 4, 5, 6, 58, 8, 10, 11, 19, 20, 21, 22, 23, 24, 27, 28, 29, 30, 35, 36, 37, 38]
section In
variable {S : SC} {fa ma ea : Nat → Nat} {od : Nat → List Nat} {y z a0 tp b sch ro rs n k : Nat} {w : List UInt8} {σ σ' : ST} {τ τ' : TT}
theorem HSd.kept (h : HSd y z σ S fa ma ea sch) (hz : z ≤ sZ σ) (hF : FR (fun b => b < y ∨ z ≤ b) σ σ') : HSd y z σ' S fa ma ea sch := by
  obtain ⟨h1, h2, h3, ml, el, fl, h4, h5, h6, ⟨a1, a2, a3, a4⟩, ⟨b1, b2, b3, b4⟩, c1, c2, c3, c4⟩ := h
  have sm : ∀ x, y ≤ x → x < z → SameB σ σ' x ∧ sc σ' x = sc σ x := fun x hx hz => ⟨(hF.2 x (by omega)).2 (by omega), (hF.2 x (by omega)).1⟩
  have sR' : ∀ k, sR σ' k sch = sR σ k sch := fun k => (sm sch h1 h2).1.2.2.2.2.2.2.2.2.2 k
  exact ⟨h1, h2, by rw [(sm sch h1 h2).2]; exact h3, ml, el, fl, by rw [sR']; exact h4, by rw [sR']; exact h5, by rw [sR']; exact h6, ⟨a1, a2, by rw [(sm ml a1 a2).2]; exact a3, by rw [(sm ml a1 a2).1.2.1]; exact a4⟩, ⟨b1, b2, by rw [(sm el b1 b2).2]; exact b3, by rw [(sm el b1 b2).1.2.1]; exact b4⟩, c1, c2, by rw [(sm fl c1 c2).2]; exact c3, by rw [(sm fl c1 c2).1.2.1]; exact c4⟩
/-- the reference wrote what does not matter -/
theorem INV.tf (h : INV S fa ma ea od y z a0 tp b sch ro rs n k w σ τ) {l : List Nat} (f : TF l τ τ') (hl : ∀ j ∈ KI, j ∉ l) : INV S fa ma ea od y z a0 tp b sch ro rs n k w σ τ' := by
  obtain ⟨h1, h2, h3, h4, ⟨h5, h6⟩, ⟨h7, h8, h9, h10⟩, ⟨h11, h12⟩, h13, h14⟩ := h
  refine ⟨h1, h2, h3, h4, ⟨h5, h6.tr f (hl 5 (by decide)) (hl 2 (by decide))⟩, ⟨h7, h8, by rw [(f 4 (hl 4 (by decide))).1]; exact h9, fun j hj => by rw [(f 1 (hl 1 (by decide))).2.2]; exact h10 j hj⟩, ⟨h11, h12.tr f (hl 3 (by decide)) (hl 6 (by decide))⟩, by rw [(f 58 (hl 58 (by decide))).1]; exact h13, h14.tr f (fun j hj => hl j ?_)⟩
  revert j
  decide
theorem z_f (τ : TT) : TF [0] τ (uI τ 0 0) := (TF.refl _ τ).uI (by decide) _
/-- output -/
theorem output_eq (h : INV S fa ma ea od y z a0 tp b sch ro rs n k w σ τ) {x : Int} (hx : rg x) : ∃ r τ', ws_output a0 x σ = some r ∧ m_output x τ = some (r, τ') ∧ rg r ∧ INV S fa ma ea od y z a0 tp b sch ro rs n k w σ τ' := by
  obtain ⟨-, -, ⟨o1, o2, o3, o4, o5, o6, o7, o8, o9, o10, ⟨o11, o12⟩, o13, o14⟩, -, -, -, ⟨e1, w1, w2, w3⟩, -, -⟩ := id h
  have hI := h.tf (z_f τ) (by decide)
  have t6 : tI (uI τ 0 0) 6 = (w.length : Int) := w2
  unfold ws_output row_at m_output
  rw [gd_pos o1, o6, bind_some', gd_pos o11.1, gd_pos hx, gd_pos (by exact fun _ => o11.1), e1, nm_eq, gd_pos hx, t6, gd_pos (show ¬ x < 0 → rg (w.length : Int) by omega)]
  by_cases c : x < 0 ∨ (w.length : Int) ≤ x
  · rw [if_pos c, bind_some', if_pos (by omega)]
    exact ⟨-1, _, rfl, rfl, by omega, hI⟩
  · obtain ⟨j, rfl⟩ : ∃ j : Nat, x = (j : Int) := ⟨x.toNat, by omega⟩
    have hb : (w.getD j 0).toNat < 256 := UInt8.toNat_lt _
    have t3 : tA (uI τ 0 0) 3 j = ((w.getD j 0).toNat : Int) := w3 j (by omega)
    rw [if_neg c, gd_pos (show ib (j : Int) w.length by omega), gd_pos o11.1, bind_some', if_neg (by omega), gd_pos (by omega), Int.toNat_natCast, t3, sb_and]
    unfold rB
    rw [e1, Int.toNat_natCast]
    exact ⟨_, _, rfl, rfl, by omega, hI⟩
/-- count -/
theorem count_eq (h : INV S fa ma ea od y z a0 tp b sch ro rs n k w σ τ) {x : Int} (hx : rg x) : ∃ r τ', ws_count a0 x σ = some r ∧ m_count x τ = some (r, τ') ∧ rg r ∧ INV S fa ma ea od y z a0 tp b sch ro rs n k w σ τ' := by
  obtain ⟨⟨hS, -, -⟩, ⟨-, -, -, -, d3, ml, el, fl, d4, d5, d6, ⟨-, -, a3, a4⟩, ⟨-, -, b3, b4⟩, -, -, c3, c4⟩, ⟨o1, o2, o3, o4, o5, -⟩, -, -, -, -, -, hT⟩ := id h
  have hI := h.tf (z_f τ) (by decide)
  have h50 := hS.1
  have hM := hS.2.2.1
  have hE := hS.2.2.2.1
  have l1 : (sA σ ml).length = S.1 := by rw [a4, List.length_map, List.length_range]
  have l2 : (sA σ el).length = S.2.1 := by rw [b4, List.length_map, List.length_range]
  have l3 : (sA σ fl).length = nF_ S := by rw [c4, List.length_map, List.length_range]
  have t35 : tI (uI τ 0 0) 35 = (S.1 : Int) := hT.1
  have t36 : tI (uI τ 0 0) 36 = (S.2.1 : Int) := hT.2.1
  have t38 : tI (uI τ 0 0) 38 = (nF_ S : Int) := hT.2.2.2.1
  unfold ws_count m_count
  rw [gd_pos hx, nm_eq, gd_pos hx, t35, t36, t38]
  unfold l_size
  by_cases c0 : x = 0
  · rw [if_pos c0, if_pos c0, gd_pos o1, o5, bind_some', gd_pos d3, d4, bind_some', gd_pos a3, gd_pos a3, bind_some', l1]
    exact ⟨_, _, rfl, rfl, by omega, hI⟩
  · rw [if_neg c0, if_neg c0]
    by_cases c1 : x = 1
    · rw [if_pos c1, if_pos c1, gd_pos o1, o5, bind_some', gd_pos d3, d5, bind_some', gd_pos b3, gd_pos b3, bind_some', l2]
      exact ⟨_, _, rfl, rfl, by omega, hI⟩
    · rw [if_neg c1, if_neg c1]
      by_cases c2 : x = 2
      · rw [if_pos c2, if_pos c2, gd_pos o1, o5, bind_some', gd_pos d3, d6, bind_some', gd_pos c3, gd_pos c3, bind_some', l3]
        exact ⟨_, _, rfl, rfl, by omega, hI⟩
      · rw [if_neg c2, if_neg c2]
        exact ⟨-1, _, rfl, rfl, by omega, hI⟩
end In
