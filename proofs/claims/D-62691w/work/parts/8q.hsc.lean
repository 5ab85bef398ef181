set_option maxRecDepth 100000
/-! SCHEMAS, as the system has them -/
/-- a kind as the system has it -/
def sk (S : SC) (f : Nat) : Nat := if isM S f then 16 else ks (qk S f)
/-- a row below z with its bytes -/
def Rw0 (z : Nat) (σ : ST) (x : Option Nat) (w : List UInt8) : Prop := ∃ a, x = some a ∧ a < z ∧ sc σ a = 4 ∧ sW σ a = w
/-- the values of an enum -/
def vls (S : SC) (e : Nat) : List Nat := (List.range (nV_ S)).filter (fun v => decide (ve S v = e))
/-- all objects of a schema lie below z: fields at fa, messages at ma, enums at ea; od: fields by their numbers -/
def HSc (z : Nat) (σ : ST) (S : SC) (fa ma ea : Nat → Nat) (od : Nat → List Nat) : Prop :=
  z ≤ sZ σ ∧
  (∀ f, f < nF_ S → fa f < z ∧ sc σ (fa f) = 9 ∧ sR σ 128 (fa f) = some (ma (qm S f)) ∧ Rw0 z σ (sR σ 129 (fa f)) (qw S f) ∧ Rw0 z σ (sR σ 130 (fa f)) (jsn (qw S f)) ∧ sI σ 131 (fa f) = (qn S f : Int) ∧ sI σ 132 (fa f) = (sk S f : Int) ∧ sI σ 133 (fa f) = qo S f ∧ sI σ 135 (fa f) = qr S f ∧ sI σ 136 (fa f) = qp S f ∧ sR σ 137 (fa f) = (if isM S f then some (ma (qk S f - 16)) else none) ∧ sR σ 138 (fa f) = (if 32 ≤ qk S f then some (ea (qk S f - 32)) else none) ∧ ∃ j : Nat, sI σ 134 (fa f) = (j : Int) ∧ j < (od (qm S f)).length ∧ (od (qm S f)).getD j 0 = f) ∧
  (∀ f g, f < nF_ S → g < nF_ S → fa f = fa g → f = g) ∧
  (∀ m, m < S.1 → ma m < z ∧ sc σ (ma m) = 7 ∧ sI σ 96 (ma m) = (m : Int) ∧ (∃ oa, sR σ 103 (ma m) = some oa ∧ oa < z ∧ sc σ oa = 103 ∧ sN σ oa = (od m).length ∧ ∀ j, j < (od m).length → sF σ oa j = some (fa ((od m).getD j 0))) ∧ (od m).length ≤ 50 ∧ (∀ f, f ∈ od m ↔ (f < nF_ S ∧ qm S f = m)) ∧ (od m).Pairwise (fun f g => qn S f < qn S g)) ∧
  (∀ m k, m < S.1 → k < S.1 → ma m = ma k → m = k) ∧
  (∀ e, e < S.2.1 → ea e < z ∧ sc σ (ea e) = 8 ∧ sI σ 112 (ea e) = (e : Int) ∧ ∃ nl va, sR σ 114 (ea e) = some nl ∧ nl < z ∧ sc σ nl = 16 ∧ sR σ 115 (ea e) = some va ∧ va < z ∧ sc σ va = 102 ∧ sN σ va = 40 ∧ (sA σ nl).length = (vls S e).length ∧ ∀ j, j < (vls S e).length → Rw0 z σ (some ((sA σ nl).getD j 0)) (vw_ S ((vls S e).getD j 0)) ∧ sE σ va j = (vn S ((vls S e).getD j 0) : Int))
theorem HSc.kept {z : Nat} {σ σ' : ST} {S : SC} {fa ma ea : Nat → Nat} {od : Nat → List Nat} (h : HSc z σ S fa ma ea od) (hS : SW S) (hF : FR (fun b => z ≤ b) σ σ') : HSc z σ' S fa ma ea od := by
  obtain ⟨h1, h2, h3, h4, h5, h6⟩ := h
  have sm : ∀ a, a < z → SameB σ σ' a ∧ sc σ' a = sc σ a := fun a ha => ⟨(hF.2 a (by omega)).2 (by omega), (hF.2 a (by omega)).1⟩
  have rw0 : ∀ (x y : Option Nat) (w : List UInt8), y = x → Rw0 z σ x w → Rw0 z σ' y w := fun x y w e q => by
    obtain ⟨a, a1, a2, a3, a4⟩ := q
    exact ⟨a, by rw [e]; exact a1, a2, by rw [(sm a a2).2]; exact a3, by rw [(sm a a2).1.1]; exact a4⟩
  have sI' : ∀ k a, a < z → sI σ' k a = sI σ k a := fun k a ha => (sm a ha).1.2.2.2.2.2.2.2.1 k
  have sR' : ∀ k a, a < z → sR σ' k a = sR σ k a := fun k a ha => (sm a ha).1.2.2.2.2.2.2.2.2.2 k
  refine ⟨Nat.le_trans h1 hF.1.1, fun f hf => ?_, h3, fun m hm => ?_, h5, fun e he => ?_⟩
  · obtain ⟨b1, b2, b3, b4, b5, b6, b7, b8, b9, b10, b11, b12, b13⟩ := h2 f hf
    refine ⟨b1, by rw [(sm _ b1).2]; exact b2, by rw [sR' _ _ b1]; exact b3, rw0 _ _ _ (sR' _ _ b1) b4, rw0 _ _ _ (sR' _ _ b1) b5, by rw [sI' _ _ b1]; exact b6, by rw [sI' _ _ b1]; exact b7, by rw [sI' _ _ b1]; exact b8, by rw [sI' _ _ b1]; exact b9, by rw [sI' _ _ b1]; exact b10, by rw [sR' _ _ b1]; exact b11, by rw [sR' _ _ b1]; exact b12, ?_⟩
    rw [sI' _ _ b1]; exact b13
  · obtain ⟨b1, b2, b3, ⟨oa, c1, c2, c3, c4, c5⟩, b5, b6, b7⟩ := h4 m hm
    refine ⟨b1, by rw [(sm _ b1).2]; exact b2, by rw [sI' _ _ b1]; exact b3, ⟨oa, by rw [sR' _ _ b1]; exact c1, c2, by rw [(sm _ c2).2]; exact c3, by rw [(sm _ c2).1.2.2.1]; exact c4, fun j hj => by rw [(sm _ c2).1.2.2.2.2.2.1]; exact c5 j hj⟩, b5, b6, b7⟩
  · obtain ⟨b1, b2, b3, nl, va, c1, c2, c3, c4, c5, c6, c7, c8, c9⟩ := h6 e he
    refine ⟨b1, by rw [(sm _ b1).2]; exact b2, by rw [sI' _ _ b1]; exact b3, nl, va, by rw [sR' _ _ b1]; exact c1, c2, by rw [(sm _ c2).2]; exact c3, by rw [sR' _ _ b1]; exact c4, c5, by rw [(sm _ c5).2]; exact c6, by rw [(sm _ c5).1.2.2.1]; exact c7, by rw [(sm _ c2).1.2.1]; exact c8, fun j hj => ?_⟩
    obtain ⟨d1, d2⟩ := c9 j hj
    refine ⟨rw0 _ _ _ (by rw [(sm _ c2).1.2.1]) d1, ?_⟩
    rw [(sm _ c5).1.2.2.2.2.1]; exact d2
section Nb
variable {z : Nat} {σ : ST} {S : SC} {fa ma ea : Nat → Nat} {od : Nat → List Nat} {ra : Nat} {w : List UInt8}
theorem getD_mem {l : List Nat} {j : Nat} (h : j < l.length) : l.getD j 0 ∈ l := by
  rw [List.getD_eq_getElem?_getD, List.getElem?_eq_getElem h]
  exact List.getElem_mem h
theorem mem_getD {l : List Nat} {x : Nat} (h : x ∈ l) : ∃ j, j < l.length ∧ l.getD j 0 = x := by
  obtain ⟨j, hj, e⟩ := List.getElem_of_mem h
  exact ⟨j, hj, by rw [List.getD_eq_getElem?_getD, List.getElem?_eq_getElem hj]; exact e⟩
theorem byName_L11 (hH : HSc z σ S fa ma ea od) (ha : sc σ ra = 4) (hw : sW σ ra = w) {m : Nat} (hm : m < S.1) {oa : Nat} (c2 : oa < z) (c3 : sc σ oa = 103) (c4 : sN σ oa = (od m).length) (c5 : ∀ j, j < (od m).length → sF σ oa j = some (fa ((od m).getD j 0))) (u0 : Nat) : ∀ (c N k : Nat), k + c = (od m).length → c < N → ∃ o : Option Nat, mt_byName_L11 u0 (some ra) (some oa) ((od m).length : Int) σ N (k : Int) = some (match o with | some f => Sum.inl (some (fa f)) | none => Sum.inr ()) ∧ (match o with | some f => f ∈ od m ∧ jsn (qw S f) = w | none => ∀ j, k ≤ j → j < (od m).length → jsn (qw S ((od m).getD j 0)) ≠ w)
  | 0, N, k, h1, h2 => by
    obtain ⟨N, rfl⟩ : ∃ m, N = m + 1 := ⟨N - 1, by omega⟩
    have h50 := (hH.2.2.2.1 m hm).2.2.2.2.1
    refine ⟨none, ?_, fun j q1 q2 => absurd q2 (by omega)⟩
    rw [mt_byName_L11, gd_pos (by omega), gd_pos (by omega), if_pos (by omega)]
  | c + 1, N, k, h1, h2 => by
    obtain ⟨N, rfl⟩ : ∃ m, N = m + 1 := ⟨N - 1, by omega⟩
    have h50 := (hH.2.2.2.1 m hm).2.2.2.2.1
    have hk : k < (od m).length := by omega
    have hfm := getD_mem hk
    have hf := ((hH.2.2.2.1 m hm).2.2.2.2.2.1 _).mp hfm
    obtain ⟨b1, b2, b3, b4, ⟨jr, j1, j2, j3, j4⟩, -⟩ := hH.2.1 _ hf.1
    have eI : mt_byName_L11 u0 (some ra) (some oa) ((od m).length : Int) σ (N + 1) (k : Int) = gd (rg (if jsn (qw S ((od m).getD k 0)) = w then (1 : Int) else 0)) (if (if jsn (qw S ((od m).getD k 0)) = w then (1 : Int) else 0) = 0 then (mt_byName_L11 u0 (some ra) (some oa) ((od m).length : Int) σ N ((k : Int) + 1)) else (some (Sum.inl (some (fa ((od m).getD k 0)))))) := by
      rw [mt_byName_L11, gd_pos (by omega), gd_pos (by omega), if_neg (by omega), bind_some', gd_pos c3, gd_pos (by rw [c4]; omega), nm_eq, Int.toNat_natCast, c5 k hk, bind_some', gd_pos b2, j1, bind_some', gd_pos j3]
      unfold r_same
      rw [bind_some', gd_pos ⟨j3, ha⟩, bind_some', j4, hw]
    rw [eI]
    by_cases q : jsn (qw S ((od m).getD k 0)) = w
    · rw [if_pos q, gd_pos (by omega), if_neg (by omega)]
      exact ⟨some ((od m).getD k 0), rfl, hfm, q⟩
    · rw [if_neg q, gd_pos (by omega), if_pos rfl, show (k : Int) + 1 = ((k + 1 : Nat) : Int) by omega]
      obtain ⟨o, e1, e2⟩ := byName_L11 hH ha hw hm c2 c3 c4 c5 u0 c N (k + 1) (by omega) (by omega)
      refine ⟨o, e1, ?_⟩
      cases o with
      | some f => exact e2
      | none =>
        intro j r1 r2
        rcases Nat.lt_or_ge k j with r | r
        · exact e2 j r r2
        · rw [show j = k by omega]; exact q
theorem byName_L55 (hH : HSc z σ S fa ma ea od) (ha : sc σ ra = 4) (hw : sW σ ra = w) {m : Nat} (hm : m < S.1) {oa : Nat} (c2 : oa < z) (c3 : sc σ oa = 103) (c4 : sN σ oa = (od m).length) (c5 : ∀ j, j < (od m).length → sF σ oa j = some (fa ((od m).getD j 0))) : ∀ (c N k : Nat), k + c = (od m).length → c < N → ∃ o : Option Nat, mt_byName_L55 (some ra) (some oa) ((od m).length : Int) σ N (k : Int) = some (o.map fa) ∧ (match o with | some f => f ∈ od m ∧ qw S f = w | none => ∀ j, k ≤ j → j < (od m).length → qw S ((od m).getD j 0) ≠ w)
  | 0, N, k, h1, h2 => by
    obtain ⟨N, rfl⟩ : ∃ m, N = m + 1 := ⟨N - 1, by omega⟩
    have h50 := (hH.2.2.2.1 m hm).2.2.2.2.1
    refine ⟨none, ?_, fun j q1 q2 => absurd q2 (by omega)⟩
    rw [mt_byName_L55, gd_pos (by omega), gd_pos (by omega), if_pos (by omega)]
    rfl
  | c + 1, N, k, h1, h2 => by
    obtain ⟨N, rfl⟩ : ∃ m, N = m + 1 := ⟨N - 1, by omega⟩
    have h50 := (hH.2.2.2.1 m hm).2.2.2.2.1
    have hk : k < (od m).length := by omega
    have hfm := getD_mem hk
    have hf := ((hH.2.2.2.1 m hm).2.2.2.2.2.1 _).mp hfm
    obtain ⟨b1, b2, b3, ⟨jr, j1, j2, j3, j4⟩, -⟩ := hH.2.1 _ hf.1
    have eI : mt_byName_L55 (some ra) (some oa) ((od m).length : Int) σ (N + 1) (k : Int) = gd (rg (if qw S ((od m).getD k 0) = w then (1 : Int) else 0)) (if (if qw S ((od m).getD k 0) = w then (1 : Int) else 0) = 0 then (mt_byName_L55 (some ra) (some oa) ((od m).length : Int) σ N ((k : Int) + 1)) else (some (some (fa ((od m).getD k 0))))) := by
      rw [mt_byName_L55, gd_pos (by omega), gd_pos (by omega), if_neg (by omega), bind_some', gd_pos c3, gd_pos (by rw [c4]; omega), nm_eq, Int.toNat_natCast, c5 k hk, bind_some', gd_pos b2, j1, bind_some', gd_pos j3]
      unfold r_same
      rw [bind_some', gd_pos ⟨j3, ha⟩, bind_some', j4, hw]
    rw [eI]
    by_cases q : qw S ((od m).getD k 0) = w
    · rw [if_pos q, gd_pos (by omega), if_neg (by omega)]
      exact ⟨some ((od m).getD k 0), rfl, hfm, q⟩
    · rw [if_neg q, gd_pos (by omega), if_pos rfl, show (k : Int) + 1 = ((k + 1 : Nat) : Int) by omega]
      obtain ⟨o, e1, e2⟩ := byName_L55 hH ha hw hm c2 c3 c4 c5 c N (k + 1) (by omega) (by omega)
      refine ⟨o, e1, ?_⟩
      cases o with
      | some f => exact e2
      | none =>
        intro j r1 r2
        rcases Nat.lt_or_ge k j with r | r
        · exact e2 j r r2
        · rw [show j = k by omega]; exact q
/-- the field that a text names -/
theorem mt_byName_eq (hS : SW S) (hH : HSc z σ S fa ma ea od) (ha : sc σ ra = 4) (hw : sW σ ra = w) {m : Nat} (hm : m < S.1) : mt_byName (ma m) (some ra) σ = some ((byN S m w).map fa) := by
  obtain ⟨d1, d2, d3, ⟨oa, c1, c2, c3, c4, c5⟩, d5, d6, d7⟩ := hH.2.2.2.1 m hm
  obtain ⟨o, e1, e2⟩ := byName_L11 hH ha hw hm c2 c3 c4 c5 (ma m) (od m).length FU 0 (by omega) (FU_gt (by omega))
  rw [show ((0 : Nat) : Int) = 0 from rfl] at e1
  unfold mt_byName
  rw [gd_pos d2, nm_eq, c1, bind_some', gd_pos c3, nm_eq, c4, e1, bind_some']
  cases o with
  | some f =>
    have hb : BN S m w (some f) := ⟨((d6 f).mp e2.1).1, ((d6 f).mp e2.1).2, Or.inl e2.2⟩
    rw [← BN.uniq hS hb (byN_ok S m w)]
    rfl
  | none =>
    have nj : ∀ g, g < nF_ S → qm S g = m → jsn (qw S g) ≠ w := fun g hg hgm => by
      obtain ⟨j, hj, ej⟩ := mem_getD ((d6 g).mpr ⟨hg, hgm⟩)
      rw [← ej]; exact e2 j (Nat.zero_le _) hj
    obtain ⟨o2, e3, e4⟩ := byName_L55 hH ha hw hm c2 c3 c4 c5 (od m).length FU 0 (by omega) (FU_gt (by omega))
    rw [show ((0 : Nat) : Int) = 0 from rfl] at e3
    rw [elim_r, nm_eq, bind_some', gd_pos c3, nm_eq, c4, e3]
    have hb : BN S m w o2 := by
      cases o2 with
      | some f => exact ⟨((d6 f).mp e4.1).1, ((d6 f).mp e4.1).2, Or.inr ⟨e4.2, nj⟩⟩
      | none =>
        intro g hg hgm
        obtain ⟨j, hj, ej⟩ := mem_getD ((d6 g).mpr ⟨hg, hgm⟩)
        exact ⟨nj g hg hgm, by rw [← ej]; exact e4 j (Nat.zero_le _) hj⟩
    rw [← BN.uniq hS hb (byN_ok S m w)]
theorem vls_in {e v : Nat} : v ∈ vls S e ↔ v < nV_ S ∧ ve S v = e := by
  unfold vls
  rw [List.mem_filter, List.mem_range, decide_eq_true_iff]
theorem et_valueOf_L (hS : SW S) (hH : HSc z σ S fa ma ea od) (ha : sc σ ra = 4) (hw : sW σ ra = w) {e : Nat} (he : e < S.2.1) : ∀ (c N k : Nat), k + c = (vls S e).length → c < N → ∃ o : Option Nat, et_valueOf_L2 (ea e) (some ra) σ N (k : Int) = some (oI o) ∧ (match o with | some j => j < (vls S e).length ∧ vw_ S ((vls S e).getD j 0) = w | none => ∀ j, k ≤ j → j < (vls S e).length → vw_ S ((vls S e).getD j 0) ≠ w)
  | 0, N, k, h1, h2 => by
    obtain ⟨N, rfl⟩ : ∃ m, N = m + 1 := ⟨N - 1, by omega⟩
    obtain ⟨b1, b2, b3, nl, va, c1, c2, c3, c4, c5, c6, c7, c8, c9⟩ := hH.2.2.2.2.2 e he
    have h40 : (vls S e).length ≤ 40 := Nat.le_trans (List.length_filter_le _ _) (by rw [List.length_range]; exact hS.2.1)
    refine ⟨none, ?_, fun j q1 q2 => absurd q2 (by omega)⟩
    rw [et_valueOf_L2, gd_pos b2, c1, bind_some', gd_pos c3]
    unfold l_size
    rw [gd_pos c3, bind_some', c8, gd_pos (by omega), gd_pos (by omega), if_pos (by omega)]
    rfl
  | c + 1, N, k, h1, h2 => by
    obtain ⟨N, rfl⟩ : ∃ m, N = m + 1 := ⟨N - 1, by omega⟩
    obtain ⟨b1, b2, b3, nl, va, c1, c2, c3, c4, c5, c6, c7, c8, c9⟩ := hH.2.2.2.2.2 e he
    have h40 : (vls S e).length ≤ 40 := Nat.le_trans (List.length_filter_le _ _) (by rw [List.length_range]; exact hS.2.1)
    have hk : k < (vls S e).length := by omega
    obtain ⟨⟨jr, j1, j2, j3, j4⟩, -⟩ := c9 k hk
    have j1' : (sA σ nl).getD k 0 = jr := Option.some.inj j1
    have eI : et_valueOf_L2 (ea e) (some ra) σ (N + 1) (k : Int) = gd (rg (if vw_ S ((vls S e).getD k 0) = w then (1 : Int) else 0)) (if (if vw_ S ((vls S e).getD k 0) = w then (1 : Int) else 0) = 0 then (et_valueOf_L2 (ea e) (some ra) σ N ((k : Int) + 1)) else (some (k : Int))) := by
      rw [et_valueOf_L2, gd_pos b2, c1, bind_some', gd_pos c3]
      unfold l_size l_get
      rw [gd_pos c3, bind_some', c8, gd_pos (by omega), gd_pos (by omega), if_neg (by omega), gd_pos ⟨c3, by omega⟩, bind_some', bind_some', Int.toNat_natCast, j1', gd_pos j3]
      unfold r_same
      rw [bind_some', gd_pos ⟨j3, ha⟩, bind_some', j4, hw]
    rw [eI]
    by_cases q : vw_ S ((vls S e).getD k 0) = w
    · rw [if_pos q, gd_pos (by omega), if_neg (by omega)]
      exact ⟨some k, rfl, hk, q⟩
    · rw [if_neg q, gd_pos (by omega), if_pos rfl, show (k : Int) + 1 = ((k + 1 : Nat) : Int) by omega]
      obtain ⟨o, e1, e2⟩ := et_valueOf_L hS hH ha hw he c N (k + 1) (by omega) (by omega)
      refine ⟨o, e1, ?_⟩
      cases o with
      | some f => exact e2
      | none =>
        intro j r1 r2
        rcases Nat.lt_or_ge k j with r | r
        · exact e2 j r r2
        · rw [show j = k by omega]; exact q
theorem et_valueOf_eq (hS : SW S) (hH : HSc z σ S fa ma ea od) (ha : sc σ ra = 4) (hw : sW σ ra = w) {e : Nat} (he : e < S.2.1) : ∃ o : Option Nat, et_valueOf (ea e) (some ra) σ = some (oI o) ∧ (match o with | some j => j < (vls S e).length ∧ vnm S e w = some ((vls S e).getD j 0) | none => vnm S e w = none) := by
  have h40 : (vls S e).length ≤ 40 := Nat.le_trans (List.length_filter_le _ _) (by rw [List.length_range]; exact hS.2.1)
  obtain ⟨o, e1, e2⟩ := et_valueOf_L hS hH ha hw he (vls S e).length FU 0 (by omega) (FU_gt (by omega))
  refine ⟨o, e1, ?_⟩
  cases o with
  | some j =>
    have hm := vls_in.mp (getD_mem e2.1)
    have hv : VN S e w (some ((vls S e).getD j 0)) := ⟨hm.1, hm.2, e2.2⟩
    exact ⟨e2.1, (VN.uniq hS hv (vnm_ok S e w)).symm⟩
  | none =>
    have hv : VN S e w none := fun v hv hve => by
      obtain ⟨j, hj, ej⟩ := mem_getD (vls_in.mpr ⟨hv, hve⟩)
      rw [← ej]; exact e2 j (Nat.zero_le _) hj
    exact (VN.uniq hS hv (vnm_ok S e w)).symm
end Nb
