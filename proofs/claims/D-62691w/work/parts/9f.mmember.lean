set_option maxRecDepth 100000
/-! JSON: how the reference finds a field's member again -/
def mbT (u1 u2 : Int) (N : Nat) (v33 : Int × TT) : Option ((Int × TT) ⊕ (Int × TT)) := Option.bind (m_blanks v33.1 v33.2) fun y37 => Option.bind (m_look y37 v33.2) fun y38 => Option.bind (gd (rg y38) (if y38 = 44 then (Option.bind (m_blanks (y37 + 1) v33.2) fun y46 => some y46) else (some y37))) fun (v42 : Int) => m_member_L9 u1 u2 N v42 v33.2
section Mm
variable {S : SC} {I : Nat → Nat} {n d k : Nat}
theorem mbT_eq {τ : TT} (hJ : JH S I n τ) {e : Nat} (he : e ≤ n) (u1 u2 : Int) (N : Nat) : mbT u1 u2 N ((e : Int), τ) = if lk I n (bl I n e) = 44 then m_member_L9 u1 u2 N ((bl I n (bl I n e + 1) : Nat) : Int) τ else m_member_L9 u1 u2 N ((bl I n e : Nat) : Int) τ := by
  have hn := hJ.2.1.2.1
  have b1 := bl_ge' I n e
  have b2 := bl_le' I n e
  have hrg := lk_rg (n := n) hJ.2.1.2.2.2 (bl I n e)
  unfold mbT
  show Option.bind (m_blanks (e : Int) τ) _ = _
  rw [m_blanks_eq hJ.2.1 rfl (by omega), bind_some', m_look_eq hJ.2.1 rfl (by omega), bind_some', gd_pos (rg_byte hrg)]
  by_cases c : lk I n (bl I n e) = 44
  · have := lk_ne c (by decide)
    rw [if_pos c, if_pos c]
    show Option.bind (Option.bind (m_blanks (((bl I n e : Nat) : Int) + 1) τ) _) _ = _
    rw [m_blanks_eq (p := bl I n e + 1) hJ.2.1 (by omega) (by omega), bind_some', bind_some']
  · rw [if_neg c, if_neg c, bind_some']
theorem objRO (hS : SW S) (hX : TXT I n) (hk : d + k = 7) : RO S I n (m_object 12) (1 + 1) (objS S I n (d + k)) := fun m' p' τ' h1 h2 h3 => m_object_eq hS hX (d + k) 12 m' p' (1 + 1) τ' (by omega) (by omega) (by omega) h1 h2 h3
theorem m_memb_L (hS : SW S) (hX : TXT I n) (hk : d + k = 7) {f m : Nat} (hf : f < nF_ S) (hm : m < 100) : ∀ (c N p : Nat) (seen : List Nat) (T : TV (d + 1)) (e : Nat × TV (d + 1)) (τ : TT), memL S I n (objS S I n d) m c p seen T = some e → IS seen T → JH S I n τ → p ≤ n → c + 1 < N → f ∉ seen → ∃ τ', TF KJ τ τ' ∧ tI τ' 58 = 0 ∧ ((m_member_L9 (f : Int) (m : Int) N ((bl I n p : Nat) : Int) τ = some (Sum.inl (-1, τ')) ∧ Nth f e.2) ∨ ∃ q : Nat, q ≤ n ∧ m_member_L9 (f : Int) (m : Int) N ((bl I n p : Nat) : Int) τ = some (Sum.inr ((q : Int), τ')) ∧ ((lit I n q 5 ∧ Nth f e.2) ∨ (¬ lit I n q 5 ∧ Itm S I n (objS S I n d) f q e.2)))
  | 0, N, p, seen, T, e, τ, g, _, _, _, _, _ => by cases g
  | c + 1, N, p, seen, T, e, τ, g, hi, hJ, hp, hN, hfs => by
    obtain ⟨N, rfl⟩ : ∃ m, N = m + 1 := ⟨N - 1, by omega⟩
    have hn := hJ.2.1.2.1
    have hI := hJ.2.1.2.2.2
    have h50 := hS.1
    have b1 := bl_ge' I n p
    have b2 := bl_le' I n p
    rw [memL_1] at g
    cases e1 : mem1 S I n (objS S I n d) m p seen T with
    | none => rw [e1] at g; cases g
    | some x =>
      rw [e1] at g
      change (if lk I n (bl I n x.2.1) = 44 then memL S I n (objS S I n d) m c (bl I n x.2.1 + 1) (x.1 :: seen) x.2.2 else if lk I n (bl I n x.2.1) = 125 then some (bl I n x.2.1 + 1, x.2.2) else none) = _ at g
      obtain ⟨i1, i2, r, s1, s2, s3, s4, s5⟩ := mem1_tree hi e1
      obtain ⟨l1, l2, l3, l4, -⟩ := strX_bd s1
      have c34 : lk I n (bl I n p) = 34 := by
        unfold str at l4
        by_cases q : lk I n (bl I n p) = 34
        · exact q
        · rw [if_neg q] at l4; cases l4
      obtain ⟨τ1, f1, e1'⟩ := m_string_eq (p := bl I n p) hJ.2.1 rfl (by omega)
      have f1' : TF KJ τ τ1 := f1.mono (by decide)
      have h58a : tI τ1 58 = 0 := by rw [(f1 58 (by decide)).1]; exact hJ.2.2
      have hJ1 := hJ.tr f1' h58a
      rw [l4] at e1'
      obtain ⟨τ2, o, f2, e2, bo⟩ := m_fieldNamed_eq hS hJ1.1 e1'.2 (by omega) (x := (m : Int)) rfl hm
      have eo := BN.uniq hS bo (byN_ok S m r.2)
      rw [s2] at eo
      subst eo
      have hx1 : x.1 < nF_ S := bo.1
      have f2' : TF KJ τ τ2 := f1'.tr f2 (by decide)
      have h58b : tI τ2 58 = 0 := by rw [(f2 58 (by decide)).1]; exact h58a
      have hJ2 := hJ.tr f2' h58b
      have b3 := bl_ge' I n r.1
      have b4 := bl_le' I n r.1
      have l58 := lk_ne s4 (by decide)
      have b5 := bl_ge' I n (bl I n r.1 + 1)
      have b6 := bl_le' I n (bl I n r.1 + 1)
      obtain ⟨q, hq⟩ : ∃ q, q = bl I n (bl I n r.1 + 1) := ⟨_, rfl⟩
      rw [← hq] at s5 b5 b6
      have t29 : tA τ2 29 x.1 = qr S x.1 := (hJ2.1.2.2.2.2.1 x.1 hx1).2.2.2.2.1
      have r01 := (hS.2.2.2.2.1 x.1 hx1).2.2.2.2.2.2.1
      have eA : m_member_L9 (f : Int) (m : Int) (N + 1) ((bl I n p : Nat) : Int) τ = (if ((x.1 : Nat) : Int) = (f : Int) then (some (Sum.inr (((q : Nat) : Int), τ2))) else (Option.bind (m_literal ((q : Nat) : Int) 27 τ2) fun y27 => Option.bind (gd (rg y27) (if y27 = ((-1)) then (gd (ib ((x.1 : Nat) : Int) 50) (gd (rg (qr S x.1)) (if (qr S x.1) = 0 then (Option.bind (m_value (m_object 12) ((x.1 : Nat) : Int) ((q : Nat) : Int) 1 τ2) fun y55 => some ((y55.1, y55.2))) else (Option.bind (m_array (m_object 12) ((x.1 : Nat) : Int) ((q : Nat) : Int) 1 τ2) fun y56 => some ((y56.1, y56.2)))))) else (some ((y27, τ2))))) fun (v33 : Int × TT) => mbT (f : Int) (m : Int) N v33)) := by
        rw [m_member_L9, m_look_eq hJ.2.1 rfl (by omega), bind_some', c34, gd_pos (by omega), if_neg (by omega), e1'.1, bind_some']
        show Option.bind (m_fieldNamed (m : Int) τ1) _ = _
        rw [e2, bind_some']
        show Option.bind (m_blanks (r.1 : Int) τ2) _ = _
        rw [m_blanks_eq hJ2.2.1 rfl (by omega), bind_some', m_blanks_eq (p := bl I n r.1 + 1) hJ2.2.1 (by omega) (by omega), bind_some', ← hq]
        show gd (rg ((x.1 : Nat) : Int)) (gd (rg (f : Int)) _) = _
        rw [gd_pos (by omega), gd_pos (by omega), ← t29]
        rfl
      have keep : f ∈ x.1 :: seen → hdS f (t1 e.2) = hdS f (t1 x.2.2) ∧ rws f (t2 e.2) = rws f (t2 x.2.2) := fun w => by
        split at g
        · exact memL_keep c _ _ _ _ i1 g f w
        · split at g
          · cases g; exact ⟨rfl, rfl⟩
          · cases g
      rw [eA]
      by_cases cf : x.1 = f
      · rw [if_pos (by omega)]
        have kp := keep (by rw [cf]; exact List.mem_cons_self)
        refine ⟨τ2, f2', h58b, Or.inr ⟨q, by omega, rfl, ?_⟩⟩
        rw [cf] at s5
        rcases s5 with ⟨u1, u2, u3⟩ | ⟨u1, u2, u3⟩
        · exact Or.inl ⟨u1, by rw [kp.1]; exact u2.1, by rw [kp.2]; exact u2.2⟩
        · exact Or.inr ⟨u1, u2.keep kp.1 kp.2⟩
      · rw [if_neg (by omega)]
        have hfs' : f ∉ x.1 :: seen := fun w => by
          rcases List.mem_cons.mp w with w | w
          · exact cf w.symm
          · exact hfs w
        have l27 : lit I n q 27 ↔ lit I n q 5 := lit_sx (by decide +kernel)
        have s27 : slen 27 = 4 ∧ slen 5 = 4 := by decide +kernel
        -- the value is passed
        have fin : ∀ τ3 : TT, TF KJ τ2 τ3 → tI τ3 58 = 0 → x.2.1 ≤ n → ∃ τ', TF KJ τ τ' ∧ tI τ' 58 = 0 ∧ ((mbT (f : Int) (m : Int) N (((x.2.1 : Nat) : Int), τ3) = some (Sum.inl (-1, τ')) ∧ Nth f e.2) ∨ ∃ q : Nat, q ≤ n ∧ mbT (f : Int) (m : Int) N (((x.2.1 : Nat) : Int), τ3) = some (Sum.inr ((q : Int), τ')) ∧ ((lit I n q 5 ∧ Nth f e.2) ∨ (¬ lit I n q 5 ∧ Itm S I n (objS S I n d) f q e.2))) := fun τ3 f3 h3 hx2 => by
          have hJ3 := hJ2.tr f3 h3
          rw [mbT_eq hJ3 hx2]
          by_cases c44 : lk I n (bl I n x.2.1) = 44
          · rw [if_pos c44] at g
            have l44 := lk_ne c44 (by decide)
            rw [if_pos c44]
            obtain ⟨τ', f4, h4, q4⟩ := m_memb_L hS hX hk hf hm c N (bl I n x.2.1 + 1) (x.1 :: seen) x.2.2 e τ3 g i1 hJ3 (by omega) (by omega) hfs'
            exact ⟨τ', (f2'.tr f3 (fun _ w => w)).tr f4 (fun _ w => w), h4, q4⟩
          · rw [if_neg c44] at g
            rw [if_neg c44]
            by_cases c125 : lk I n (bl I n x.2.1) = 125
            · rw [if_pos c125] at g
              cases g
              have l125 := lk_ne c125 (by decide)
              obtain ⟨N, rfl⟩ : ∃ m, N = m + 1 := ⟨N - 1, by omega⟩
              refine ⟨τ3, f2'.tr f3 (fun _ w => w), h3, Or.inl ⟨?_, i1.nth hfs'⟩⟩
              rw [m_member_L9, m_look_eq hJ3.2.1 rfl (by omega), bind_some', c125, gd_pos (by omega), if_pos rfl]
            · rw [if_neg c125] at g; cases g
        rw [m_literal_eq (s := 27) hJ2.2.1 rfl (by omega) (by omega), bind_some']
        rcases s5 with ⟨u1, u2, u3⟩ | ⟨u1, u2, ss, u3⟩
        · have li := lit_in (by omega) u1
          rw [if_pos (l27.mpr u1), gd_pos (by omega), if_neg (by omega), bind_some', s27.1, ← s27.2, ← u3]
          exact fin τ2 (TF.refl _ _) h58b (by omega)
        · have hb := itmS_bd hI (objS_bd hI d) (by omega) u3
          rw [if_neg (fun w => u1 (l27.mp w)), gd_pos (by omega), if_pos rfl, gd_pos (by omega), gd_pos (by omega)]
          have hRO := objRO (d := d) (k := k) hS hX hk
          unfold itmS at u3
          by_cases cr : qr S x.1 = 1
          · rw [if_pos cr] at u3
            rw [if_neg (by omega)]
            obtain ⟨s', es'⟩ := arrS_to u3 k
            obtain ⟨τ3, f3, h3, e3⟩ := m_arr (p := q) hS hX hRO (objS_bd hI (d + k)) hx1 (by omega) hJ2
            rw [es'] at e3
            rw [e3, bind_some', bind_some']
            exact fin τ3 f3 h3 hb.2
          · rw [if_neg cr] at u3
            rw [if_pos (by omega)]
            cases ev : valS S I n (objS S I n d) x.1 q with
            | none => rw [ev] at u3; cases u3
            | some v =>
              rw [ev] at u3
              have u4 : v.1 = x.2.1 := congrArg Prod.fst (Option.some.inj u3)
              obtain ⟨s', es'⟩ := valS_to ev k
              obtain ⟨τ3, r3, f3, h3, e3, q3⟩ := m_val (p := q) hS hX hRO hx1 (by omega) hJ2
              rw [es'] at q3
              change r3 = ((v.1 : Nat) : Int) at q3
              rw [u4] at q3
              subst q3
              rw [e3, bind_some', bind_some']
              exact fin τ3 f3 h3 hb.2
/-- a field's member: the place of its value, or none -/
theorem m_member_eq (hS : SW S) (hX : TXT I n) (hk : d + k = 7) {f m p : Nat} (hf : f < nF_ S) (hm : m < 100) {e : Nat} {T : TV (d + 1)} {τ : TT} (g : objS S I n (d + 1) m p = some (e, T)) (hJ : JH S I n τ) : ∃ τ', TF KJ τ τ' ∧ tI τ' 58 = 0 ∧ ((m_member (f : Int) (m : Int) (p : Int) τ = some (-1, τ') ∧ Nth f T) ∨ ∃ q : Nat, q ≤ n ∧ m_member (f : Int) (m : Int) (p : Int) τ = some ((q : Int), τ') ∧ ¬ lit I n q 5 ∧ Itm S I n (objS S I n d) f q T) := by
  have hn := hJ.2.1.2.1
  rw [objS] at g
  by_cases c : lk I n p = 123
  · rw [if_pos c] at g
    have l := lk_ne c (by decide)
    have b1 := bl_ge' I n (p + 1)
    have b2 := bl_le' I n (p + 1)
    have fu := FU_gt (m := n + 5) (by omega)
    obtain ⟨N, hN⟩ : ∃ N, FU = N + 1 := ⟨FU - 1, by omega⟩
    unfold m_member
    rw [m_blanks_eq (p := p + 1) hJ.2.1 (by omega) (by omega), bind_some']
    by_cases c2 : lk I n (bl I n (p + 1)) = 125
    · rw [if_pos c2] at g
      cases g
      refine ⟨τ, TF.refl _ _, hJ.2.2, Or.inl ⟨?_, rfl, rfl⟩⟩
      rw [hN, m_member_L9, m_look_eq hJ.2.1 rfl (by omega), bind_some', c2, gd_pos (by omega), if_pos rfl, bind_some']
      rfl
    · rw [if_neg c2] at g
      obtain ⟨τ', f1, h1, q1⟩ := m_memb_L hS hX hk hf hm (n + 1) FU (p + 1) [] (emp (d + 1)) (e, T) τ g ⟨fun s hs => (by cases hs), fun s hs => (by cases hs)⟩ hJ (by omega) (by omega) (by simp)
      have hJ' := hJ.tr f1 h1
      have l27 : ∀ q, lit I n q 27 ↔ lit I n q 5 := fun q => lit_sx (by decide +kernel)
      have s27 : slen 27 = 4 := by decide +kernel
      refine ⟨τ', f1, h1, ?_⟩
      rcases q1 with ⟨w1, w2⟩ | ⟨q, w0, w1, w2⟩
      · exact Or.inl ⟨by rw [w1, bind_some']; rfl, w2⟩
      · have el : m_literal ((q : Int), τ').1 27 ((q : Int), τ').2 = some (if lit I n q 27 then ((q + slen 27 : Nat) : Int) else -1) := m_literal_eq (s := 27) hJ'.2.1 rfl (by omega) (by omega)
        rw [w1, bind_some', elim_r, el]
        rcases w2 with ⟨w2, w3⟩ | ⟨w2, w3⟩
        · refine Or.inl ⟨?_, w3⟩
          rw [bind_some', if_pos ((l27 q).mpr w2), gd_pos (by omega), if_neg (by omega)]
        · refine Or.inr ⟨q, w0, ?_, w2, w3⟩
          rw [bind_some', if_neg (fun w => w2 ((l27 q).mp w)), gd_pos (by omega), if_pos rfl]
  · rw [if_neg c] at g; cases g
end Mm
