set_option maxRecDepth 100000
/-! WIRE: how the reference writes messages -/
section Po
variable {S : SC} {I : Nat → Nat} {n d k : Nat} {od : Nat → List Nat} {rec : Int → Int → TT → Option TT} {f q m p : Nat} {τ : TT} {w : List UInt8}
theorem m_putO_1 (hS : SW S) (hX : TXT I n) (hPO : PO S I n od d rec) (hk : d + k = 7) (hf : f < nF_ S) (hm : m < S.1) {e : Nat} {T : TV (d + 1)} (g : objS S I n (d + 1) m p = some (e, T)) (hJ : JH S I n τ) (hO : OW τ w) (hl : w.length + (encF S (enc S od d) T f).length ≤ 4000) : ∃ τ', (Option.bind (m_member (f : Int) (m : Int) (p : Int) τ) fun y5 => Option.bind (gd (rg y5.1) (if y5.1 = ((-1)) then (some y5.2) else (gd (ib (f : Int) 50) (gd (rg (tA y5.2 29 (f : Int).toNat)) (if (tA y5.2 29 (f : Int).toNat) = 0 then (Option.bind (gd (rg (tA y5.2 30 (f : Int).toNat)) (gd ((tA y5.2 30 (f : Int).toNat) = 0 → rg (tA y5.2 27 (f : Int).toNat)) (if ((tA y5.2 30 (f : Int).toNat) = 0) ∧ ((tA y5.2 27 (f : Int).toNat) = ((-1))) then (gd (rg (tA y5.2 28 (f : Int).toNat)) (if ((tA y5.2 28 (f : Int).toNat) < 16) ∨ (32 ≤ (tA y5.2 28 (f : Int).toNat)) then (some 0) else (some 1))) else (some 1)))) fun (v27 : Int) => Option.bind (gd (rg v27) (if v27 = 0 then (Option.bind (m_value (m_object 12) (f : Int) y5.1 1 y5.2) fun y38 => Option.bind (m_isPlain (f : Int) y38.2) fun y39 => gd (rg y39) (if y39 = 0 then (gd (rg (tI y38.2 57)) (if (tI y38.2 57) = 0 then (some (Sum.inl y38.2)) else (some (Sum.inr y38.2)))) else (if (tJ y38.2 59) = 0 then (some (Sum.inl y38.2)) else (some (Sum.inr y38.2))))) else (some (Sum.inr y5.2)))) (Sum.elim some fun (v33 : TT) => Option.bind (m_putValue rec (f : Int) y5.1 v33) fun y37 => some y37)) else (Option.bind (m_putArray rec (f : Int) y5.1 y5.2) fun y76 => some y76)))))) fun (v11 : TT) => some v11) = some τ' ∧ MR τ w (encF S (enc S od d) T f) τ' := by
  have h50 := hS.1
  have hM := hS.2.2.1
  have hE := hS.2.2.2.1
  obtain ⟨-, -, -, hsk, o1, o2, r01, p01, -, -⟩ := hS.2.2.2.2.1 f hf
  obtain ⟨τ1, f1, h1, q1⟩ := m_member_eq hS hX hk hf (by omega) g hJ
  have hJ1 := hJ.tr f1 h1
  have hO1 := hO.rd f1
  obtain ⟨-, -, t28, t27, t29, t30, -⟩ := hJ1.1.2.2.2.2.1 f hf
  rcases q1 with ⟨w1, w2⟩ | ⟨q, hq, w1, w2, w3⟩
  · refine ⟨τ1, ?_, ?_⟩
    · rw [w1, bind_some']
      show Option.bind (gd (rg (-1)) (if (-1 : Int) = -1 then some τ1 else _)) _ = _
      rw [gd_pos (by omega), if_pos rfl, bind_some']
    · rw [w2.enc]
      exact (MR.nil hO1 h1).rd f1
  · rw [w1, bind_some']
    show ∃ τ', Option.bind (gd (rg (q : Int)) (if (q : Int) = -1 then some τ1 else (gd (ib (f : Int) 50) (gd (rg (tA τ1 29 (f : Int).toNat)) (if (tA τ1 29 (f : Int).toNat) = 0 then (Option.bind (gd (rg (tA τ1 30 (f : Int).toNat)) (gd ((tA τ1 30 (f : Int).toNat) = 0 → rg (tA τ1 27 (f : Int).toNat)) (if ((tA τ1 30 (f : Int).toNat) = 0) ∧ ((tA τ1 27 (f : Int).toNat) = ((-1))) then (gd (rg (tA τ1 28 (f : Int).toNat)) (if ((tA τ1 28 (f : Int).toNat) < 16) ∨ (32 ≤ (tA τ1 28 (f : Int).toNat)) then (some 0) else (some 1))) else (some 1)))) fun (v27 : Int) => Option.bind (gd (rg v27) (if v27 = 0 then (Option.bind (m_value (m_object 12) (f : Int) (q : Int) 1 τ1) fun y38 => Option.bind (m_isPlain (f : Int) y38.2) fun y39 => gd (rg y39) (if y39 = 0 then (gd (rg (tI y38.2 57)) (if (tI y38.2 57) = 0 then (some (Sum.inl y38.2)) else (some (Sum.inr y38.2)))) else (if (tJ y38.2 59) = 0 then (some (Sum.inl y38.2)) else (some (Sum.inr y38.2))))) else (some (Sum.inr τ1)))) (Sum.elim some fun (v33 : TT) => Option.bind (m_putValue rec (f : Int) (q : Int) v33) fun y37 => some y37)) else (Option.bind (m_putArray rec (f : Int) (q : Int) τ1) fun y76 => some y76)))))) (fun (v11 : TT) => some v11) = _ ∧ _
    have hn := hJ.2.1.2.1
    rw [gd_pos (by omega), if_neg (by omega), gd_pos (by omega), Int.toNat_natCast, t29, t30, t27, t28, gd_pos (by omega)]
    obtain ⟨e', ss, i1, i2, i3⟩ := w3
    unfold itmS at i1
    by_cases cr : qr S f = 1
    · rw [if_pos cr] at i1
      rw [encF_rep cr, i2 cr] at hl ⊢
      obtain ⟨τ2, e2, g2⟩ := m_putArray_eq hS hX hPO hk hf hq hJ1 hO1 i1 hl
      refine ⟨τ2, ?_, g2.rd f1⟩
      rw [if_neg (by omega), e2, bind_some', bind_some']
    · rw [if_neg cr] at i1
      obtain ⟨s, es, eh⟩ := i3 cr
      rw [encF_hd cr, eh] at hl ⊢
      cases ev : valS S I n (objS S I n d) f q with
      | none => rw [ev] at i1; cases i1
      | some v =>
        rw [ev] at i1
        have u2 : [v.2] = ss := congrArg Prod.snd (Option.some.inj i1)
        rw [es] at u2
        have u3 : v.2 = s := by injection u2
        have hs1 : s.1 = f := by rw [← u3]; exact (valS_bd hJ.2.1.2.2.2 (objS_bd hJ.2.1.2.2.2 d) hq ev).2.2
        rw [if_pos (by omega)]
        have put : ∀ τx : TT, TF KJ τ1 τx → tI τx 58 = 0 → ¬ dps S s → ∃ τ', (Option.bind (Option.bind (some (Sum.inr τx : TT ⊕ TT)) (Sum.elim some fun (v33 : TT) => Option.bind (m_putValue rec (f : Int) (q : Int) v33) fun y37 => some y37)) fun (v11 : TT) => some v11) = some τ' ∧ MR τ w (match (if dps S s then none else some s) with | none => [] | some s => slE S (enc S od d) s) τ' := fun τx fx hx hd => by
          rw [if_neg hd] at hl ⊢
          obtain ⟨τ2, e2, g2⟩ := m_putValue_eq hS hX hPO hf hq (hJ1.tr fx hx) (hO1.rd fx) ev (by rw [u3]; exact hl)
          rw [u3] at g2
          refine ⟨τ2, ?_, (g2.rd fx).rd f1⟩
          rw [bind_some', elim_r, e2, bind_some', bind_some']
        by_cases ck : qp S f = 0 ∧ qo S f = -1 ∧ ¬ isM S f
        · obtain ⟨k1, k2, k3⟩ := ck
          rw [gd_pos (by omega), gd_pos (by omega), if_pos ⟨k1, k2⟩, gd_pos (by omega), if_pos (by omega), bind_some', gd_pos (by omega), if_pos rfl]
          obtain ⟨τ2, f2, h2, e2, v2⟩ := m_again hS hX hk hf hq hJ1 ev
          have v3 := v2 k3
          have hJ2 := hJ1.tr f2 h2
          rw [e2, bind_some', m_isPlain_eq hS hJ2.1 hf]
          have nk : ¬ keeps S s.1 := by
            rw [hs1]
            rintro (u | u | u)
            · omega
            · omega
            · exact k3 u
          have dd : dps S s ↔ s.2.1 = 0 ∧ s.2.2.1 = [] := ⟨fun u => u.1.2, fun u => ⟨⟨by rw [hs1]; exact k3, u⟩, nk⟩⟩
          have sc : ∃ r, sclS S I n f q = some r ∧ s.2.1 = r.2.1 ∧ s.2.2.1 = r.2.2 := by
            unfold valS at ev
            rw [if_neg k3] at ev
            cases er : sclS S I n f q with
            | none => rw [er] at ev; cases ev
            | some r =>
              rw [er] at ev
              cases ev
              exact ⟨r, rfl, by rw [← u3], by rw [← u3]⟩
          obtain ⟨r, sr, sx1, sx2⟩ := sc
          have pl := scl_pl sr
          rw [u3] at v3
          have fin : ∀ b : Prop, [Decidable b] → (b ↔ dps S s) → ∃ τ', (Option.bind (Option.bind (if b then (some (Sum.inl τ2 : TT ⊕ TT)) else (some (Sum.inr τ2))) (Sum.elim some fun (v33 : TT) => Option.bind (m_putValue rec (f : Int) (q : Int) v33) fun y37 => some y37)) fun (v11 : TT) => some v11) = some τ' ∧ MR τ w (match (if dps S s then none else some s) with | none => [] | some s => slE S (enc S od d) s) τ' := fun b _ hb => by
            by_cases cb : b
            · rw [if_pos cb, if_pos (hb.mp cb)]
              refine ⟨τ2, ?_, ?_⟩
              · rw [bind_some', elim_l, bind_some']
              · exact ((MR.nil (hO1.rd f2) h2).rd f2).rd f1
            · rw [if_neg cb]
              exact put τ2 f2 h2 (fun u => cb (hb.mpr u))
          by_cases hpl : plain S f
          · rw [if_pos hpl]
            obtain ⟨n1, n2⟩ := v3.1 hpl
            have e59 : tJ τ2 59 = 0 ↔ dps S s := by
              rw [dd, sx2, pl.1 hpl]
              change (if tI τ2 60 = 0 then tJ τ2 59 else -(tJ τ2 59)) = s.2.1 at n2
              rw [← n2]
              split
              · exact ⟨fun u => ⟨u, rfl⟩, fun u => u.1⟩
              · rw [neg0]; exact ⟨fun u => ⟨u, rfl⟩, fun u => u.1⟩
            have := fin (tJ τ2 59 = 0) e59
            rw [bind_some', gd_pos (by omega), if_neg (by omega)]
            exact this
          · rw [if_neg hpl]
            have hkk : qk S f = 9 ∨ qk S f = 10 := by
              by_cases u : qk S f = 9 ∨ qk S f = 10
              · exact u
              · exact absurd ((plain_m hS hf).mpr ⟨u, k3⟩) hpl
            obtain ⟨s1, s2⟩ := v3.2 hkk
            have e57 := s1.1
            change tI τ2 57 = ((s.2.2.1.length : Nat) : Int) at e57
            have s2' : s.2.2.1.length ≤ 1000 := s2
            have e0 : tI τ2 57 = 0 ↔ dps S s := by
              rw [dd, e57, sx1, pl.2 hkk]
              constructor
              · intro u; exact ⟨rfl, List.length_eq_zero_iff.mp (by omega)⟩
              · intro u; rw [u.2]; rfl
            have := fin (tI τ2 57 = 0) e0
            rw [bind_some', gd_pos (by omega), if_pos rfl, gd_pos (show rg (tI τ2 57) by omega)]
            exact this
        · have nd : ¬ dps S s := by
            rintro ⟨⟨u1, -⟩, u2⟩
            rw [hs1] at u1 u2
            refine ck ⟨?_, ?_, u1⟩
            · by_cases z : qp S f = 0
              · exact z
              · exact absurd (Or.inl (by omega)) u2
            · by_cases z : 0 ≤ qo S f
              · exact absurd (Or.inr (Or.inl z)) u2
              · omega
          have e27 : (gd (rg (qp S f)) (gd (qp S f = 0 → rg (qo S f)) (if (qp S f = 0) ∧ (qo S f = ((-1))) then (gd (rg ((qk S f : Nat) : Int)) (if (((qk S f : Nat) : Int) < 16) ∨ (32 ≤ ((qk S f : Nat) : Int)) then (some 0) else (some 1))) else (some 1))) : Option Int) = some 1 := by
            rw [gd_pos (by omega), gd_pos (by omega)]
            by_cases c1 : (qp S f = 0) ∧ (qo S f = ((-1)))
            · have : isM S f := by
                by_cases z : isM S f
                · exact z
                · exact absurd ⟨c1.1, c1.2, z⟩ ck
              rw [if_pos c1, gd_pos (by omega), if_neg (by omega)]
            · rw [if_neg c1]
          rw [e27, bind_some', gd_pos (by omega), if_neg (by omega)]
          exact put τ1 (TF.refl _ _) h1 nd
theorem m_putO_L (hS : SW S) (hO' : OD S od) (hX : TXT I n) (hPO : PO S I n od d rec) (hk : d + k = 7) (hm : m < S.1) {e : Nat} {T : TV (d + 1)} (g : objS S I n (d + 1) m p = some (e, T)) : ∀ (post pre : List Nat) (N : Nat) (τ : TT) (w : List UInt8), od m = pre ++ post → post.length < N → JH S I n τ → OW τ w → w.length + (post.flatMap (encF S (enc S od d) T)).length ≤ 4000 → ∃ τ', m_putObject_L7 rec (m : Int) (p : Int) N (oI post.head?) τ = some τ' ∧ MR τ w (post.flatMap (encF S (enc S od d) T)) τ'
  | post, pre, 0, τ, w, _, h, _, _, _ => by omega
  | [], pre, N + 1, τ, w, h, _, hJ, hO, _ => ⟨τ, by rw [m_putObject_L7, gd_pos (show rg (oI ([] : List Nat).head?) by exact ⟨by decide, by decide⟩), if_pos (show oI ([] : List Nat).head? = -1 from rfl)], MR.nil hO hJ.2.2⟩
  | f :: post, pre, N + 1, τ, w, h, hN, hJ, hO, hl => by
    have h50 := hS.1
    obtain ⟨q1, q2, q3⟩ := hO' m hm
    rw [h] at q1 q2
    have hf := (q1 f).mp (List.mem_append.mpr (Or.inr List.mem_cons_self))
    rw [List.flatMap_cons, List.length_append] at hl
    rw [List.flatMap_cons]
    obtain ⟨τ1, e1, g1⟩ := m_putO_1 hS hX hPO hk hf.1 hm g hJ hO (by omega)
    have hJ1 := hJ.trW g1.1 g1.2.1
    obtain ⟨τ2, e2, g2⟩ := m_putO_L hS hO' hX hPO hk hm g post (pre ++ [f]) N τ1 _ (by rw [h, List.append_assoc]; rfl) (by simp only [List.length_cons] at hN; omega) hJ1 g1.2.2 (by rw [List.length_append]; omega)
    have hq := (hS.2.2.2.2.1 f hf.1).2.2.1
    have t24 := (hJ1.1.2.2.2.2.1 f hf.1).2.1
    have ea := m_after_eq (τ := τ1) (u := qn S f) hS hO' hJ1.1 hm hq (pre := pre ++ [f]) (post := post) (by rw [h, List.append_assoc]; rfl) (fun x hx => by
      rcases List.mem_append.mp hx with u | u
      · exact Nat.le_of_lt ((List.pairwise_append.mp q2).2.2 x u f List.mem_cons_self)
      · rw [List.mem_singleton.mp u]; exact Nat.le_refl _) (fun x hx => (List.pairwise_cons.mp (List.pairwise_append.mp q2).2.1).1 x hx) (x := (m : Int)) rfl (y := ((qn S f : Nat) : Int)) rfl
    refine ⟨τ2, ?_, g1.tr g2⟩
    have eo : oI (f :: post).head? = (f : Int) := rfl
    rw [eo, m_putObject_L7, gd_pos (by omega), if_neg (by omega)]
    have key : ∀ X : Option TT, (Option.bind X fun v11 => some v11) = X := fun X => by cases X <;> rfl
    rw [show ∀ (A : Option (Int × TT)) (B : Int × TT → Option TT) (C : TT → Option TT), (A.bind fun y => (B y).bind C) = (A.bind fun y => (B y).bind fun v => some v).bind C from fun A B C => by cases A with | none => rfl | some y => (show (B y).bind C = ((B y).bind fun v => some v).bind C; rw [key]), e1, bind_some', gd_pos (by omega), Int.toNat_natCast, t24, ea, bind_some', e2]
theorem m_putObject_eq (hS : SW S) (hO : OD S od) (hX : TXT I n) : ∀ (d N : Nat), d ≤ 8 → d ≤ N → PO S I n od d (m_putObject N)
  | 0, N, _, _ => fun m p e T τ w _ _ _ _ h _ => by cases h
  | d + 1, N, hd, hN => fun m p e T τ w hm hp hJ hOW h hl => by
    obtain ⟨N, rfl⟩ : ∃ m, N = m + 1 := ⟨N - 1, by omega⟩
    have hPO := m_putObject_eq hS hO hX d N (by omega) (by omega)
    obtain ⟨q1, q2, q3⟩ := hO m hm
    have ea := m_after_eq (τ := τ) (u := 0) hS hO hJ.1 hm (by omega) (pre := []) (post := od m) rfl (fun x hx => by cases hx) (fun x hx => by
      have := (q1 x).mp hx
      have := (hS.2.2.2.2.1 x this.1).2.1
      omega) (x := (m : Int)) rfl (y := 0) rfl
    obtain ⟨τ', e1, g1⟩ := m_putO_L (k := 7 - d) hS hO hX hPO (by omega) hm h (od m) [] FU τ w rfl (FU_gt (by omega)) hJ hOW hl
    refine ⟨τ', ?_, g1⟩
    show m_putObjectb (m_putObject N) _ _ _ = _
    unfold m_putObjectb
    rw [ea, bind_some', e1]
end Po
