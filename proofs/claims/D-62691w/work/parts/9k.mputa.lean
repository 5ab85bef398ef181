set_option maxRecDepth 100000
/-! WIRE: how the reference writes rows -/
def elE {d : Nat} (S : SC) (en : Nat → TV d → List UInt8) (f : Nat) (s : SV d) : List UInt8 := if plain S f then numE S f s.2.1 else slE S en s
section Pa
variable {S : SC} {I : Nat → Nat} {n d k : Nat} {od : Nat → List Nat} {rec : Int → Int → TT → Option TT} {f q : Nat} {τ : TT} {w : List UInt8}
/-- the reference reads a value again -/
theorem m_again (hS : SW S) (hX : TXT I n) (hk : d + k = 7) (hf : f < nF_ S) (hq : q ≤ n) (hJ : JH S I n τ) {e : Nat × SV d} (hv : valS S I n (objS S I n d) f q = some e) : ∃ τ1, TF KJ τ τ1 ∧ tI τ1 58 = 0 ∧ m_value (m_object 12) (f : Int) (q : Int) 1 τ = some ((e.1 : Int), τ1) ∧ (¬ isM S f → VV τ1 S f (e.2.2.1, e.2.2.2.1)) := by
  have hsk := (hS.2.2.2.2.1 f hf).2.2.2.1
  have hM := hS.2.2.1
  by_cases c : isM S f
  · obtain ⟨s', es'⟩ := valS_to hv k
    obtain ⟨τ1, r, f1, h1, e1, q1⟩ := m_val (dp := 1) hS hX (objRO (d := d) (k := k) hS hX hk) hf hq hJ
    rw [es'] at q1
    change r = ((e.1 : Nat) : Int) at q1
    subst q1
    exact ⟨τ1, f1, h1, e1, fun u => absurd c u⟩
  · unfold valS at hv
    rw [if_neg c] at hv
    cases er : sclS S I n f q with
    | none => rw [er] at hv; cases hv
    | some r =>
      rw [er] at hv
      cases hv
      obtain ⟨τ1, r1, f1, h58, e1, v1⟩ := m_value_scl hS hJ.1 hJ.2.1 hJ.2.2 hX (m_object 12) hf (by omega) hq 1
      rw [er] at v1
      obtain ⟨v0, v1⟩ := v1
      subst v0
      exact ⟨τ1, f1, h58, e1, fun _ => v1⟩
theorem m_putA_L (hS : SW S) (hX : TXT I n) (hI : ∀ k, I k < 256) (hPO : PO S I n od d rec) (hk : d + k = 7) (hf : f < nF_ S) (u5 : Int) : ∀ (c N p : Nat) (acc : List (SV d)) (e : Nat × List (SV d)) (τ : TT) (w : List UInt8), arrL S I n (objS S I n d) f c p acc = some e → p ≤ n → c + 1 < N → JH S I n τ → OW τ w → ∃ new, e.2 = acc ++ new ∧ new ≠ [] ∧ (w.length + (new.flatMap (elE S (enc S od d) f)).length ≤ 4000 → ∃ τ', m_putArray_L43 rec (f : Int) (if plain S f then 1 else 0) u5 N ((bl I n p : Nat) : Int) τ = some τ' ∧ MR τ w (new.flatMap (elE S (enc S od d) f)) τ')
  | 0, N, p, acc, e, τ, w, g, _, _, _, _ => by cases g
  | c + 1, N, p, acc, e, τ, w, g, hp, hN, hJ, hO => by
    obtain ⟨N, rfl⟩ : ∃ m, N = m + 1 := ⟨N - 1, by omega⟩
    have hn := hJ.2.1.2.1
    have b1 := bl_ge' I n p
    have b2 := bl_le' I n p
    rw [arrL] at g
    cases ev : valS S I n (objS S I n d) f (bl I n p) with
    | none => rw [ev] at g; cases g
    | some r =>
      rw [ev] at g
      change (if lk I n (bl I n r.1) = 44 then arrL S I n (objS S I n d) f c (bl I n r.1 + 1) (acc ++ [r.2]) else if lk I n (bl I n r.1) = 93 then some (bl I n r.1 + 1, acc ++ [r.2]) else none) = some e at g
      obtain ⟨v1, v2, v3⟩ := valS_bd hI (objS_bd hI d) (by omega) ev
      have b3 := bl_ge' I n r.1
      have b4 := bl_le' I n r.1
      have hne := val_ne hI (fun a b c => (plain_m hS hf).mpr ⟨fun u => u.elim a b, c⟩) ev
      have hrg := lk_rg (n := n) hI (bl I n p)
      have hrg2 := lk_rg (n := n) hI (bl I n r.1)
      obtain ⟨τ1, f1, h1, e1, vv1⟩ := m_again hS hX hk hf (by omega) hJ ev
      have hJ1 := hJ.tr f1 h1
      have hO1 := hO.rd f1
      -- one value
      have one : w.length + (elE S (enc S od d) f r.2).length ≤ 4000 → ∃ τ2, (gd (rg (if plain S f then (1 : Int) else 0)) (if (if plain S f then (1 : Int) else 0) = 0 then (Option.bind (m_putValue rec (f : Int) ((bl I n p : Nat) : Int) τ1) fun y52 => some y52) else (Option.bind (m_putWhole (f : Int) τ1) fun y53 => some y53))) = some τ2 ∧ MR τ w (elE S (enc S od d) f r.2) τ2 := fun hl => by
        unfold elE at hl ⊢
        by_cases hpl : plain S f
        · rw [if_pos hpl] at hl ⊢
          rw [if_pos hpl, gd_pos (by omega), if_neg (by omega)]
          obtain ⟨τ2, e2, g2⟩ := m_putWhole_eq hS hJ1.1 hf ((vv1 (((plain_m hS hf).mp hpl).2)).1 hpl) hO1 hl
          exact ⟨τ2, by rw [e2, bind_some'], (g2.toR h1).rd f1⟩
        · rw [if_neg hpl] at hl ⊢
          rw [if_neg hpl, gd_pos (by omega), if_pos rfl]
          obtain ⟨τ2, e2, g2⟩ := m_putValue_eq hS hX hPO hf (by omega) hJ1 hO1 ev hl
          exact ⟨τ2, by rw [e2, bind_some'], g2.rd f1⟩
      have eA : ∀ τ2 : TT, JH S I n τ2 → (gd (rg (if plain S f then (1 : Int) else 0)) (if (if plain S f then (1 : Int) else 0) = 0 then (Option.bind (m_putValue rec (f : Int) ((bl I n p : Nat) : Int) τ1) fun y52 => some y52) else (Option.bind (m_putWhole (f : Int) τ1) fun y53 => some y53))) = some τ2 → m_putArray_L43 rec (f : Int) (if plain S f then 1 else 0) u5 (N + 1) ((bl I n p : Nat) : Int) τ = if lk I n (bl I n r.1) = 44 then m_putArray_L43 rec (f : Int) (if plain S f then 1 else 0) u5 N ((bl I n (bl I n r.1 + 1) : Nat) : Int) τ2 else m_putArray_L43 rec (f : Int) (if plain S f then 1 else 0) u5 N ((bl I n r.1 : Nat) : Int) τ2 := fun τ2 hJ2 e2 => by
        rw [m_putArray_L43, m_look_eq hJ.2.1 rfl (by omega), bind_some', gd_pos (rg_byte hrg), if_neg hne, e1, bind_some']
        show Option.bind (gd (rg (if plain S f then (1 : Int) else 0)) (if (if plain S f then (1 : Int) else 0) = 0 then (Option.bind (m_putValue rec (f : Int) ((bl I n p : Nat) : Int) τ1) fun y52 => some y52) else (Option.bind (m_putWhole (f : Int) τ1) fun y53 => some y53))) (fun (v34 : TT) => Option.bind (m_blanks (r.1 : Int) v34) _) = _
        rw [e2, bind_some', m_blanks_eq hJ2.2.1 rfl (by omega), bind_some', m_look_eq hJ2.2.1 rfl (by omega), bind_some', gd_pos (rg_byte hrg2)]
        by_cases c44 : lk I n (bl I n r.1) = 44
        · have l44 := lk_ne c44 (by decide)
          rw [if_pos c44, if_pos c44, m_blanks_eq (p := bl I n r.1 + 1) hJ2.2.1 (by omega) (by omega), bind_some', bind_some']
        · rw [if_neg c44, if_neg c44, bind_some']
      by_cases c44 : lk I n (bl I n r.1) = 44
      · rw [if_pos c44] at g
        have l44 := lk_ne c44 (by decide)
        -- the rest, wherever it is written
        have rest : ∀ (τ2 : TT) (w2 : List UInt8), JH S I n τ2 → OW τ2 w2 → ∃ new, e.2 = (acc ++ [r.2]) ++ new ∧ new ≠ [] ∧ (w2.length + (new.flatMap (elE S (enc S od d) f)).length ≤ 4000 → ∃ τ', m_putArray_L43 rec (f : Int) (if plain S f then 1 else 0) u5 N ((bl I n (bl I n r.1 + 1) : Nat) : Int) τ2 = some τ' ∧ MR τ2 w2 (new.flatMap (elE S (enc S od d) f)) τ') := fun τ2 w2 hJ2 hO2 => m_putA_L hS hX hI hPO hk hf u5 c N (bl I n r.1 + 1) (acc ++ [r.2]) e τ2 w2 g (by omega) (by omega) hJ2 hO2
        obtain ⟨new, n1, n2, -⟩ := rest τ w hJ hO
        refine ⟨r.2 :: new, by rw [n1, List.append_assoc]; rfl, by simp, fun hl => ?_⟩
        rw [List.flatMap_cons, List.length_append] at hl
        obtain ⟨τ2, e2, g2⟩ := one (by omega)
        have hJ2 := hJ.trW g2.1 g2.2.1
        obtain ⟨new', m1, m2, m3⟩ := rest τ2 _ hJ2 g2.2.2
        have em : new' = new := List.append_cancel_left (m1.symm.trans n1)
        subst em
        obtain ⟨τ3, e3, g3⟩ := m3 (by rw [List.length_append]; omega)
        refine ⟨τ3, ?_, ?_⟩
        · rw [eA τ2 hJ2 e2, if_pos c44, e3]
        · rw [List.flatMap_cons]
          exact g2.tr g3
      · rw [if_neg c44] at g
        by_cases c93 : lk I n (bl I n r.1) = 93
        · rw [if_pos c93] at g
          have l93 := lk_ne c93 (by decide)
          cases g
          refine ⟨[r.2], rfl, by simp, fun hl => ?_⟩
          rw [List.flatMap_cons, List.flatMap_nil, List.append_nil] at hl ⊢
          obtain ⟨τ2, e2, g2⟩ := one hl
          have hJ2 := hJ.trW g2.1 g2.2.1
          obtain ⟨N, rfl⟩ : ∃ m, N = m + 1 := ⟨N - 1, by omega⟩
          refine ⟨τ2, ?_, g2⟩
          rw [eA τ2 hJ2 e2, if_neg c44, m_putArray_L43, m_look_eq hJ2.2.1 rfl (by omega), bind_some', c93, gd_pos (by omega), if_pos rfl]
        · rw [if_neg c93] at g; cases g
def rowE {d : Nat} (S : SC) (en : Nat → TV d → List UInt8) (f : Nat) (l : List (SV d)) : List UInt8 := if l = [] then [] else if plain S f then tagE S f 2 ++ (lenE (pkE S f l) ++ pkE S f l) else l.flatMap (slE S en)
theorem m_putArray_eq (hS : SW S) (hX : TXT I n) (hPO : PO S I n od d rec) (hk : d + k = 7) (hf : f < nF_ S) (hq : q ≤ n) (hJ : JH S I n τ) (hO : OW τ w) {e : Nat × List (SV d)} (hv : arrS S I n (objS S I n d) f q = some e) (hl : w.length + (rowE S (enc S od d) f e.2).length ≤ 4000) : ∃ τ', m_putArray rec (f : Int) (q : Int) τ = some τ' ∧ MR τ w (rowE S (enc S od d) f e.2) τ' := by
  have hn := hJ.2.1.2.1
  have hI := hJ.2.1.2.2.2
  unfold arrS at hv
  by_cases c91 : lk I n q = 91
  · rw [if_pos c91] at hv
    have l91 := lk_ne c91 (by decide)
    have b1 := bl_ge' I n (q + 1)
    have b2 := bl_le' I n (q + 1)
    have hrg := lk_rg (n := n) hI (bl I n (q + 1))
    unfold m_putArray
    rw [m_blanks_eq (p := q + 1) hJ.2.1 (by omega) (by omega), bind_some', m_look_eq hJ.2.1 rfl (by omega), bind_some', gd_pos (rg_byte hrg)]
    by_cases c93 : lk I n (bl I n (q + 1)) = 93
    · rw [if_pos c93] at hv
      cases hv
      rw [if_pos c93]
      refine ⟨τ, rfl, ?_⟩
      show MR τ w (rowE S (enc S od d) f []) τ
      unfold rowE
      rw [if_pos rfl]
      exact MR.nil hO hJ.2.2
    · rw [if_neg c93] at hv
      rw [if_neg c93, m_isPlain_eq hS hJ.1 hf, bind_some']
      by_cases hpl : plain S f
      · have ex : elE S (enc S od d) f = fun s => numE S f s.2.1 := by funext s; unfold elE; rw [if_pos hpl]
        obtain ⟨new0, n1, n2, -⟩ := m_putA_L hS hX hI hPO hk hf 0 (n + 1) FU (q + 1) [] e τ w hv (by omega) (FU_gt (by omega)) hJ hO
        have es : e.2 ≠ [] := by rw [n1]; exact n2
        have er : rowE S (enc S od d) f e.2 = tagE S f 2 ++ (lenE (pkE S f e.2) ++ pkE S f e.2) := by unfold rowE; rw [if_neg es, if_pos hpl]
        rw [er] at hl ⊢
        rw [List.length_append, List.length_append] at hl
        obtain ⟨τ1, e1, g1⟩ := m_putTag_eq hS hJ.1 hf hO 2 (by omega)
        have r1 := g1.toR hJ.2.2
        have hJ1 := hJ.trW r1.1 r1.2.1
        rw [if_pos hpl, gd_pos (by omega), if_neg (by omega), e1, bind_some', bind_some', nm_eq]
        obtain ⟨new, m1, m2, m3⟩ := m_putA_L hS hX hI hPO hk hf (tI τ1 6) (n + 1) FU (q + 1) [] e τ1 _ hv (by omega) (FU_gt (by omega)) hJ1 r1.2.2
        have em : new = e.2 := m1.symm
        subst em
        have ep : e.2.flatMap (elE S (enc S od d) f) = pkE S f e.2 := by rw [ex]; rfl
        rw [ep, if_pos hpl] at m3
        obtain ⟨τ2, e2, g2⟩ := m3 (by rw [List.length_append]; omega)
        obtain ⟨τ3, e3, g3, g4⟩ := m_putLength_eq (w := w ++ tagE S f 2) g2.2.2 (by rw [List.length_append]; omega) (a := tI τ1 6) r1.2.2.2.1
        refine ⟨τ3, ?_, r1.tr ⟨g2.1.tr (g3.mono KO_KW) (fun _ u => u), by rw [(g3 58 (by decide)).1]; exact g2.2.1, g4⟩⟩
        rw [e2, bind_some', gd_pos (by omega), if_neg (by omega), e3, bind_some']
      · have ex : elE S (enc S od d) f = slE S (enc S od d) := by funext s; unfold elE; rw [if_neg hpl]
        rw [if_neg hpl, gd_pos (by omega), if_pos rfl, bind_some', nm_eq]
        obtain ⟨new, m1, m2, m3⟩ := m_putA_L hS hX hI hPO hk hf (tI τ 6) (n + 1) FU (q + 1) [] e τ w hv (by omega) (FU_gt (by omega)) hJ hO
        have em : new = e.2 := m1.symm
        subst em
        have er : rowE S (enc S od d) f e.2 = e.2.flatMap (slE S (enc S od d)) := by unfold rowE; rw [if_neg m2, if_neg hpl]
        rw [er] at hl ⊢
        rw [ex, if_neg hpl] at m3
        obtain ⟨τ2, e2, g2⟩ := m3 hl
        exact ⟨τ2, by rw [e2, bind_some', gd_pos (by omega), if_pos rfl], g2⟩
  · rw [if_neg c91] at hv; cases hv
theorem scl_pl {e : Nat × Int64 × List UInt8} (h : sclS S I n f q = some e) : (plain S f → e.2.2 = []) ∧ (qk S f = 9 ∨ qk S f = 10 → e.2.1 = 0) := by
  unfold sclS at h
  split at h
  · split at h
    · cases h; exact ⟨fun _ => rfl, fun u => by omega⟩
    · split at h
      · cases h; exact ⟨fun _ => rfl, fun u => by omega⟩
      · cases h
  · split at h
    · cases es : strX I n q with
      | none => rw [es] at h; cases h
      | some r => rw [es] at h; cases h; exact ⟨fun u => by unfold plain at u; omega, fun _ => rfl⟩
    · split at h
      · cases es : strX I n q with
        | none => rw [es] at h; cases h
        | some r =>
          rw [es] at h
          change (unb r.2).map _ = _ at h
          cases eu : unb r.2 with
          | none => rw [eu] at h; cases h
          | some o => rw [eu] at h; cases h; exact ⟨fun u => by unfold plain at u; omega, fun _ => rfl⟩
      · split at h
        · cases es : strX I n q with
          | none => rw [es] at h; cases h
          | some r =>
            rw [es] at h
            change (vnm S (qk S f - 32) r.2).map _ = _ at h
            cases eu : vnm S (qk S f - 32) r.2 with
            | none => rw [eu] at h; cases h
            | some o => rw [eu] at h; cases h; exact ⟨fun _ => rfl, fun u => by omega⟩
        · split at h
          · cases es : strX I n q with
            | none => rw [es] at h; cases h
            | some r =>
              rw [es] at h
              change (numW (qk S f) r.2).map _ = _ at h
              cases eu : numW (qk S f) r.2 with
              | none => rw [eu] at h; cases h
              | some o => rw [eu] at h; cases h; exact ⟨fun _ => rfl, fun u => by omega⟩
          · cases eu : numW (qk S f) (cut I q (rns I n q)) with
            | none => rw [eu] at h; cases h
            | some o => rw [eu] at h; cases h; exact ⟨fun _ => rfl, fun u => by omega⟩
theorem neg0 (x : Int64) : -x = 0 ↔ x = 0 := by
  constructor
  · intro h
    have := congrArg (fun y => -y) h
    simpa using this
  · intro h; rw [h]; rfl
end Pa
