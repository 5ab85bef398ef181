set_option maxRecDepth 100000
/-! BOTH SIDES TOGETHER: the system's answer rows -/
def SYS (S : SC) (fa ma ea : Nat → Nat) (od : Nat → List Nat) (y z a0 tp b sch ro rs n k : Nat) (σ : ST) : Prop := (HSc z σ S fa ma ea od ∧ HSy y σ S fa ma ea ∧ HSd y z σ S fa ma ea sch) ∧ OWN σ a0 tp b sch ro rs ∧ OUTS y z [a0, tp, b, ro, rs] ∧ sI σ 3 a0 = (n : Int) ∧ sI σ 2 a0 = (k : Int)
section Te
variable {S : SC} {fa ma ea : Nat → Nat} {od : Nat → List Nat} {y z a0 tp b sch ro rs n k : Nat} {w : List UInt8} {σ σ' : ST} {τ τ' : TT}
theorem INV.sys (h : INV S fa ma ea od y z a0 tp b sch ro rs n k w σ τ) : SYS S fa ma ea od y z a0 tp b sch ro rs n k σ := ⟨h.2.1, h.2.2.1, h.2.2.2.1, h.2.2.2.2.1.1, h.2.2.2.2.2.1.2.1⟩
/-- the schema stays -/
theorem SYS.keep (h : SYS S fa ma ea od y z a0 tp b sch ro rs n k σ) {W : Nat → Prop} (F : FR W σ σ') (hW : ∀ x, x < sZ σ → W x → x ∈ [a0, tp, b, ro, rs]) : HSc z σ' S fa ma ea od ∧ HSy y σ' S fa ma ea ∧ HSd y z σ' S fa ma ea sch := by
  obtain ⟨⟨h1, h2, h3⟩, -, h4, -⟩ := h
  have F' : FR (fun b => b < y ∨ z ≤ b) σ σ' := ⟨F.1, fun x hx => ⟨(F.2 x hx).1, fun q => (F.2 x hx).2 (fun u => q (h4 x (hW x hx u)))⟩⟩
  obtain ⟨q1, q2⟩ := HS2.kept h1 h2 F'
  exact ⟨q1, q2, h3.kept h1.1 F'⟩
theorem SYS.fr (h : SYS S fa ma ea od y z a0 tp b sch ro rs n k σ) {W : Nat → Prop} (F : FR W σ σ') (hW : ∀ x, x < sZ σ → W x → x = rs) (hR : RW σ' rs) : SYS S fa ma ea od y z a0 tp b sch ro rs n k σ' ∧ sB σ' b = sB σ b ∧ sB σ' tp = sB σ tp ∧ sW σ' ro = sW σ ro ∧ sN σ' ro = sN σ ro := by
  have hK := h.keep F (fun x hx q => by rw [hW x hx q]; simp)
  obtain ⟨-, ⟨o1, o2, o3, o4, o5, o6, o7, ⟨p1, p2, p3⟩, ⟨b1, b2, b3⟩, o10, ⟨o11, o12⟩, ⟨o13, o15⟩, o14⟩, h4, h5, h6⟩ := h
  have na : a0 ≠ rs := fun e => by rw [e, o13.1] at o1; cases o1
  have nt : tp ≠ rs := fun e => by rw [e, o13.1] at p1; cases p1
  have nb : b ≠ rs := fun e => by rw [e, o13.1] at b1; cases b1
  have sm : ∀ x, x < sZ σ → x ≠ rs → SameB σ σ' x ∧ sc σ' x = sc σ x := fun x hx hn => ⟨(F.2 x hx).2 (fun q => hn (hW x hx q)), (F.2 x hx).1⟩
  have A := sm a0 o2 na
  have B := sm b b3 nb
  have C := sm tp p3 nt
  have D := sm ro o12 o14
  have hz := F.1.1
  have sR' : ∀ j, sR σ' j a0 = sR σ j a0 := fun j => A.1.2.2.2.2.2.2.2.2.2 j
  have sI' : ∀ j, sI σ' j a0 = sI σ j a0 := fun j => A.1.2.2.2.2.2.2.2.1 j
  refine ⟨⟨hK, ⟨by rw [A.2]; exact o1, by omega, by rw [sR']; exact o3, by rw [sR']; exact o4, by rw [sR']; exact o5, by rw [sR']; exact o6, by rw [sR']; exact o7, ⟨by rw [C.2]; exact p1, by rw [C.1.2.2.1]; exact p2, by omega⟩, ⟨by rw [B.2]; exact b1, by rw [B.1.2.2.1]; exact b2, by omega⟩, o10, ⟨⟨by rw [D.2]; exact o11.1, by rw [D.1.1, D.1.2.2.1]; exact o11.2.1, by rw [D.1.2.2.1]; exact o11.2.2⟩, by omega⟩, ⟨hR, by omega⟩, o14⟩, h4, by rw [sI']; exact h5, by rw [sI']; exact h6⟩, B.1.2.2.2.1, C.1.2.2.2.1, D.1.1, D.1.2.2.1⟩
theorem ws_isMessage_eq (hS : SW S) (h : SYS S fa ma ea od y z a0 tp b sch ro rs n k σ) {x : Int} (hx : rg x) : ws_isMessage a0 x σ = some (if 0 ≤ x ∧ x < (S.1 : Int) then 1 else 0) := by
  obtain ⟨⟨-, -, -, -, d3, ml, el, fl, d4, d5, d6, ⟨-, -, a3, a4⟩, -⟩, ⟨o1, o2, o3, o4, o5, -⟩, -⟩ := h
  have hM := hS.2.2.1
  have l1 : (sA σ ml).length = S.1 := by rw [a4, List.length_map, List.length_range]
  have e1 : ad (some sch) = sch := rfl
  have e2 : ad (some ml) = ml := rfl
  have e3 : l_size ml σ = some (S.1 : Int) := by unfold l_size; rw [gd_pos a3, l1]
  unfold ws_isMessage
  rw [o5, e1, d4, e2, e3, vv_s, gd_pos hx, gd_pos (show ¬ x < 0 → sc σ a0 = 1 from fun _ => o1), gd_pos (show ¬ x < 0 → ¬ some sch = none from fun _ q => by cases q), gd_pos (show ¬ x < 0 → sc σ sch = 2 from fun _ => d3), gd_pos (show ¬ x < 0 → ¬ some ml = none from fun _ q => by cases q), gd_pos (show ¬ x < 0 → sc σ ml = 16 from fun _ => a3), gd_pos (show ¬ x < 0 → ok (some (S.1 : Int)) from fun _ => rfl), gd_pos (show ¬ x < 0 → rg (S.1 : Int) by omega)]
  by_cases c : 0 ≤ x ∧ x < (S.1 : Int)
  · rw [if_pos c, if_neg (by omega)]
  · rw [if_neg c, if_pos (by omega)]
/-- what is told -/
theorem tell_eq (h : SYS S fa ma ea od y z a0 tp b sch ro rs n k σ) {lim : Int} (hl : rg lim) (o : Option Nat) (ho : o = none ∨ o = some rs ∨ ∃ x, o = some x ∧ x ≠ ro ∧ x ≠ rs ∧ RW σ x ∧ x < sZ σ ∧ z ≤ x) (hlen : ∀ x, o = some x → (sW σ x).length < 2147483648) (bb : Nat × Nat) : ∃ r σ' ro' rs', ws_tell bb a0 o lim σ = some (r, σ') ∧ SYS S fa ma ea od y z a0 tp b sch ro' rs' n k σ' ∧ sB σ' = sB σ ∧ sC σ' = sC σ ∧ sS σ' = sS σ ∧ sN σ' = sN σ ∧ sZ σ' = sZ σ ∧ (match o with | none => r = -1 ∧ sW σ' ro' = [] ∧ ro' = ro ∧ rs' = rs | some x => if ((sW σ x).length : Int) ≤ lim then r = ((sW σ x).length : Int) ∧ sW σ' ro' = sW σ x ∧ ro' = x ∧ rs' = (if x = rs then ro else rs) else r = -1 ∧ sW σ' ro' = [] ∧ ro' = ro ∧ rs' = rs) := by
  obtain ⟨hK, ⟨o1, o2, o3, o4, o5, o6, o7, ⟨p1, p2, p3⟩, ⟨b1, b2, b3⟩, o10, ⟨o11, o12⟩, ⟨o13, o15⟩, o14⟩, h4, h5, h6⟩ := id h
  obtain ⟨X, hX⟩ : ∃ X, X = sWu σ ro [] := ⟨_, rfl⟩
  have FX : FR (fun c => c = ro) σ X := by rw [hX]; exact FR.sWu σ [] rfl
  have FX2 : FR (fun c => c = a0 ∨ c = ro) σ X := ⟨FX.1, fun c hc => ⟨(FX.2 c hc).1, fun q => (FX.2 c hc).2 (fun u => q (Or.inr u))⟩⟩
  have wX : ∀ c, sW X c = if c = ro then [] else sW σ c := fun c => by rw [hX, sW_sWu_]
  have eC : r_clear ro σ = some X := by unfold r_clear; rw [gd_pos o11.1, hX]
  have own : ∀ (Y : ST) (r' s' : Nat), sc Y = sc X → sZ Y = sZ X → sN Y = sN X → sW Y = sW X → sB Y = sB X → sI Y = sI X → (∀ j, j ≠ 5 → j ≠ 6 → sR Y j a0 = sR X j a0) → sR Y 5 a0 = some r' → sR Y 6 a0 = some s' → (RW X r' ∧ r' < sZ σ) → (RW X s' ∧ s' < sZ σ) → r' ≠ s' → (r' < y ∨ z ≤ r') → (s' < y ∨ z ≤ s') → FR (fun c => c = a0 ∨ c = ro) σ Y → SYS S fa ma ea od y z a0 tp b sch r' s' n k Y := fun Y r' s' y1 y2 y3 y4 y5 y6 y7 y8 y9 y10 y11 y12 y13 y14 F => by
    have scX : sc X = sc σ := by rw [hX]; rfl
    have sNX : sN X = sN σ := by rw [hX]; rfl
    have sZX : sZ X = sZ σ := by rw [hX]; rfl
    have sRX : sR X = sR σ := by rw [hX]; rfl
    have sIX : sI X = sI σ := by rw [hX]; rfl
    refine ⟨h.keep F (fun c _ q => ?_), ⟨?_, ?_, ?_, ?_, ?_, y8, y9, ⟨?_, ?_, ?_⟩, ⟨?_, ?_, ?_⟩, o10, ⟨⟨?_, ?_, ?_⟩, ?_⟩, ⟨⟨?_, ?_, ?_⟩, ?_⟩, y12⟩, ?_, ?_, ?_⟩
    · rcases q with q | q <;> rw [q] <;> simp
    · rw [y1, scX]; exact o1
    · rw [y2, sZX]; exact o2
    · rw [y7 0 (by decide) (by decide), sRX]; exact o3
    · rw [y7 1 (by decide) (by decide), sRX]; exact o4
    · rw [y7 4 (by decide) (by decide), sRX]; exact o5
    · rw [y1, scX]; exact p1
    · rw [y3, sNX]; exact p2
    · rw [y2, sZX]; exact p3
    · rw [y1, scX]; exact b1
    · rw [y3, sNX]; exact b2
    · rw [y2, sZX]; exact b3
    · rw [y1]; exact y10.1.1
    · rw [y4, y3]; exact y10.1.2.1
    · rw [y3]; exact y10.1.2.2
    · rw [y2, sZX]; exact y10.2
    · rw [y1]; exact y11.1.1
    · rw [y4, y3]; exact y11.1.2.1
    · rw [y3]; exact y11.1.2.2
    · rw [y2, sZX]; exact y11.2
    · intro c hc
      simp only [List.mem_cons, List.not_mem_nil, or_false] at hc
      rcases hc with q | q | q | q | q
      · rw [q]; exact h4 a0 (by simp)
      · rw [q]; exact h4 tp (by simp)
      · rw [q]; exact h4 b (by simp)
      · rw [q]; exact y13
      · rw [q]; exact y14
    · rw [y6, sIX]; exact h5
    · rw [y6, sIX]; exact h6
  have RWo : RW X ro := by
    refine ⟨by rw [hX]; exact o11.1, by rw [wX, if_pos rfl]; exact Nat.zero_le _, by rw [hX]; exact o11.2.2⟩
  have RWx : ∀ c, c ≠ ro → RW σ c → RW X c := fun c hc q => ⟨by rw [hX]; exact q.1, by rw [wX, if_neg hc, hX]; exact q.2.1, by rw [hX]; exact q.2.2⟩
  have base := own X ro rs rfl rfl rfl rfl rfl rfl (fun _ _ _ => rfl) (by rw [hX]; exact o6) (by rw [hX]; exact o7) ⟨RWo, o12⟩ ⟨RWx rs (fun e => o14 e.symm) o13, o15⟩ o14 (h4 ro (by simp)) (h4 rs (by simp)) ⟨FX.1, fun c hc => ⟨(FX.2 c hc).1, fun q => (FX.2 c hc).2 (fun u => q (Or.inr u))⟩⟩
  have fac : sB X = sB σ ∧ sC X = sC σ ∧ sS X = sS σ ∧ sN X = sN σ ∧ sZ X = sZ σ := by rw [hX]; exact ⟨rfl, rfl, rfl, rfl, rfl⟩
  unfold ws_tell
  rw [gd_pos o1, o6, bind_some', gd_pos o11.1, eC, bind_some']
  cases o with
  | none =>
    rw [gd_ni rfl, gd_ni rfl, gd_ni rfl, if_pos (Or.inl rfl)]
    exact ⟨-1, X, ro, rs, rfl, base, fac.1, fac.2.1, fac.2.2.1, fac.2.2.2.1, fac.2.2.2.2, rfl, by rw [wX, if_pos rfl], rfl, rfl⟩
  | some x =>
    have hx : x ≠ ro ∧ RW σ x ∧ x < sZ σ ∧ (x < y ∨ z ≤ x) := by
      rcases ho with q | q | ⟨x', q, q1, q2, q3, q4, q5⟩
      · cases q
      · cases q; exact ⟨fun e => o14 e.symm, o13, o15, h4 rs (by simp)⟩
      · cases q; exact ⟨q1, q3, q4, Or.inr q5⟩
    have sx : sc X x = 4 := by rw [hX]; exact hx.2.1.1
    have wx : sW X x = sW σ x := by rw [wX, if_neg hx.1]
    have ea' : ad (some x) = x := rfl
    rw [ea', wx, gd_pos (show ¬ some x = none → ¬ some x = none from fun q => q), gd_pos (show ¬ some x = none → sc X x = 4 from fun _ => sx), gd_pos (show ¬ some x = none → rg lim from fun _ => hl)]
    have X6 : sR X 6 a0 = some rs := by rw [hX]; exact o7
    have X5 : sR X 5 a0 = some ro := by rw [hX]; exact o6
    have X1 : sc X a0 = 1 := by rw [hX]; exact o1
    by_cases c : ((sW σ x).length : Int) ≤ lim
    · rw [if_neg (show ¬ (some x = none ∨ ¬ ((sW σ x).length : Int) ≤ lim) from fun q => q.elim (fun u => by cases u) (fun u => u c)), gd_pos X1, X6, X5]
      simp only [if_pos c]
      by_cases cr : x = rs
      · rw [if_pos (show some x = some rs by rw [cr]), nm_eq, bind_some', if_pos cr]
        obtain ⟨Y, hY⟩ : ∃ Y, Y = pR (pR X 6 a0 (some ro)) 5 a0 (some x) := ⟨_, rfl⟩
        rw [gd_pos (show sc (pR X 6 a0 (some ro)) a0 = 1 from X1), nm_eq, bind_some', ← hY, gd_pos (show sc Y x = 4 by rw [hY]; exact sx), show sW Y x = sW σ x by rw [hY]; exact wx]
        refine ⟨_, Y, x, ro, rfl, own Y x ro (by rw [hY]; rfl) (by rw [hY]; rfl) (by rw [hY]; rfl) (by rw [hY]; rfl) (by rw [hY]; rfl) (by rw [hY]; rfl) (fun j j5 j6 => by rw [hY, sR_pR, if_neg (fun q => j5 q.1), sR_pR, if_neg (fun q => j6 q.1)]) (by rw [hY, sR_pR, if_pos ⟨rfl, rfl⟩]) (by rw [hY, sR_pR, if_neg (by omega), sR_pR, if_pos ⟨rfl, rfl⟩]) ⟨RWx x hx.1 hx.2.1, hx.2.2.1⟩ ⟨RWo, o12⟩ hx.1 hx.2.2.2 (h4 ro (by simp)) ?_, by rw [hY]; exact fac.1, by rw [hY]; exact fac.2.1, by rw [hY]; exact fac.2.2.1, by rw [hY]; exact fac.2.2.2.1, by rw [hY]; exact fac.2.2.2.2, rfl, by rw [hY]; exact wx, rfl, rfl⟩
        rw [hY]
        exact (FX2.tr (FR.at1 (W := fun c => c = a0 ∨ c = ro) (at_pR _ 6 a0 _) (Or.inl rfl)) (fun _ _ q => q)).tr (FR.at1 (W := fun c => c = a0 ∨ c = ro) (at_pR _ 5 a0 _) (Or.inl rfl)) (fun _ _ q => q)
      · rw [if_neg (show ¬ some x = some rs from fun q => cr (Option.some.inj q)), bind_some', if_neg cr]
        obtain ⟨Y, hY⟩ : ∃ Y, Y = pR X 5 a0 (some x) := ⟨_, rfl⟩
        rw [gd_pos X1, nm_eq, bind_some', ← hY, gd_pos (show sc Y x = 4 by rw [hY]; exact sx), show sW Y x = sW σ x by rw [hY]; exact wx]
        refine ⟨_, Y, x, rs, rfl, own Y x rs (by rw [hY]; rfl) (by rw [hY]; rfl) (by rw [hY]; rfl) (by rw [hY]; rfl) (by rw [hY]; rfl) (by rw [hY]; rfl) (fun j j5 j6 => by rw [hY, sR_pR, if_neg (fun q => j5 q.1)]) (by rw [hY, sR_pR, if_pos ⟨rfl, rfl⟩]) (by rw [hY, sR_pR, if_neg (by omega)]; exact X6) ⟨RWx x hx.1 hx.2.1, hx.2.2.1⟩ ⟨RWx rs (fun e => o14 e.symm) o13, o15⟩ cr hx.2.2.2 (h4 rs (by simp)) ?_, by rw [hY]; exact fac.1, by rw [hY]; exact fac.2.1, by rw [hY]; exact fac.2.2.1, by rw [hY]; exact fac.2.2.2.1, by rw [hY]; exact fac.2.2.2.2, rfl, by rw [hY]; exact wx, rfl, rfl⟩
        rw [hY]
        exact FX2.tr (FR.at1 (W := fun c => c = a0 ∨ c = ro) (at_pR _ 5 a0 _) (Or.inl rfl)) (fun _ _ q => q)
    · rw [if_pos (show some x = none ∨ ¬ ((sW σ x).length : Int) ≤ lim from Or.inr c)]
      simp only [if_neg c]
      exact ⟨-1, X, ro, rs, rfl, base, fac.1, fac.2.1, fac.2.2.1, fac.2.2.2.1, fac.2.2.2.2, rfl, by rw [wX, if_pos rfl], rfl, rfl⟩
end Te
