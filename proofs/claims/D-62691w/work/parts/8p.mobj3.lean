set_option maxRecDepth 100000
/-! JSON: objects, as the reference reads them -/
section Mq
variable {S : SC} {I : Nat → Nat} {n : Nat} {d : Nat} {rec : Int → Int → Int → TT → Option (Int × TT)} {sp : Nat → Nat → Option (Nat × TV d)} {dp : Int}
def mO {d : Nat} (o : Option (Nat × TV (d + 1))) (τ' : TT) : (Int × TT) ⊕ (Int × TT) := match o with
  | some e => Sum.inr ((e.1 : Int) - 1, τ')
  | none => Sum.inl (-1, τ')
theorem m_obj_L (hS : SW S) (hX : TXT I n) (hR : RO S I n rec (dp + 1) sp) (hB : RB n sp) {m : Nat} (hm : m < 100) : ∀ (c N p b t : Nat) (seen : List Nat) (T : TV (d + 1)) (τ : TT), JH S I n τ → p ≤ n → n + 1 ≤ c + p → c < N → SB b seen → TB S t T → (∀ s ∈ t1 T, s.1 ∈ seen) → ∃ τ', TF KJ τ τ' ∧ tI τ' 58 = 0 ∧ m_object_L49 rec (m : Int) dp N (lN b) (t : Int) ((bl I n p : Nat) : Int) τ = some (mO (memL S I n sp m c p seen T) τ')
  | 0, N, p, b, t, seen, T, τ, hJ, hp, h1, h2, hSB, hTB, hsn => by omega
  | c + 1, N, p, b, t, seen, T, τ, hJ, hp, h1, h2, hSB, hTB, hsn => by
    obtain ⟨N, rfl⟩ : ∃ m, N = m + 1 := ⟨N - 1, by omega⟩
    have hn := hJ.2.1.2.1
    have hI := hJ.2.1.2.2.2
    have h50 := hS.1
    have b1 := bl_ge' I n p
    have b2 := bl_le' I n p
    have fin : ∀ (f e b' t' : Nat) (T' : TV (d + 1)) (τx : TT), TF KJ τ τx → JH S I n τx → p ≤ e → e ≤ n → SB b' (f :: seen) → TB S t' T' → (∀ s ∈ t1 T', s.1 ∈ f :: seen) → ∃ τ', TF KJ τ τ' ∧ tI τ' 58 = 0 ∧ oTail rec (m : Int) dp N (lN b') (t' : Int) ((e : Int), τx) = some (mO (if lk I n (bl I n e) = 44 then memL S I n sp m c (bl I n e + 1) (f :: seen) T' else if lk I n (bl I n e) = 125 then some (bl I n e + 1, T') else none) τ') := fun f e b' t' T' τx fx hJx he1 he2 hSB' hTB' hsn' => by
      have b3 := bl_ge' I n e
      have b4 := bl_le' I n e
      rw [oTail_eq hJx he2]
      by_cases c44 : lk I n (bl I n e) = 44
      · have l44 := lk_ne c44 (by decide)
        rw [if_pos c44, if_pos c44]
        obtain ⟨τ', f1, h58, e1⟩ := m_obj_L hS hX hR hB hm c N (bl I n e + 1) b' t' (f :: seen) T' τx hJx (by omega) (by omega) (by omega) hSB' hTB' hsn'
        exact ⟨τ', fx.tr f1 (fun _ q => q), h58, e1⟩
      · rw [if_neg c44, if_neg c44]
        by_cases c125 : lk I n (bl I n e) = 125
        · rw [if_pos c125, if_pos c125]
          refine ⟨τx, fx, hJx.2.2, ?_⟩
          show some _ = some (Sum.inr (((bl I n e + 1 : Nat) : Int) - 1, τx))
          rw [show ((bl I n e + 1 : Nat) : Int) - 1 = ((bl I n e : Nat) : Int) by omega]
        · rw [if_neg c125, if_neg c125]
          exact ⟨τx, fx, hJx.2.2, rfl⟩
    obtain ⟨τ1, f1, e1⟩ := m_string_eq (p := bl I n p) hJ.2.1 rfl (by omega)
    have f1' : TF KJ τ τ1 := f1.mono (by decide)
    have h58a : tI τ1 58 = 0 := by rw [(f1 58 (by decide)).1]; exact hJ.2.2
    have hJ1 := hJ.tr f1' h58a
    rw [memL, hX.eq]
    cases es : str I n (bl I n p) with
    | none =>
      rw [es] at e1
      refine ⟨τ1, f1', h58a, ?_⟩
      rw [m_object_L49, e1, bind_some']
      rfl
    | some r =>
      rw [es] at e1
      obtain ⟨l1, l2, l3, l4⟩ := str_len es
      obtain ⟨τ2, o, f2, e2, bo⟩ := m_fieldNamed_eq hS hJ1.1 e1.2 (by omega) (x := (m : Int)) rfl hm
      have eo := BN.uniq hS bo (byN_ok S m r.2)
      subst eo
      have f2' : TF KJ τ τ2 := f1'.tr f2 (by decide)
      have h58b : tI τ2 58 = 0 := by rw [(f2 58 (by decide)).1]; exact h58a
      have hJ2 := hJ.tr f2' h58b
      have b3 := bl_ge' I n r.1
      have b4 := bl_le' I n r.1
      have hrg := lk_rg (n := n) hI (bl I n r.1)
      have eA : m_object_L49 rec (m : Int) dp (N + 1) (lN b) (t : Int) ((bl I n p : Nat) : Int) τ = gd (rg (oI (byN S m r.2))) (gd (¬ ((oI (byN S m r.2) = ((-1))) ∨ (((lShr (lN b) (oI (byN S m r.2))) &&& 1) = 1)) → ok (m_look ((bl I n r.1 : Nat) : Int) τ2)) (gd (¬ ((oI (byN S m r.2) = ((-1))) ∨ (((lShr (lN b) (oI (byN S m r.2))) &&& 1) = 1)) → rg (vv (m_look ((bl I n r.1 : Nat) : Int) τ2))) (if ((oI (byN S m r.2) = ((-1))) ∨ (((lShr (lN b) (oI (byN S m r.2))) &&& 1) = 1)) ∨ (¬ ((vv (m_look ((bl I n r.1 : Nat) : Int) τ2)) = 58)) then (some (Sum.inl (((-1), τ2)))) else (nm (lN b ||| (lShl 1 (oI (byN S m r.2)))) fun x29 => Option.bind (m_blanks (((bl I n r.1 : Nat) : Int) + 1) τ2) fun y30 => Option.bind (m_literal y30 27 τ2) fun y31 => Option.bind (gd (rg y31) (gd (y31 = ((-1)) → ib (oI (byN S m r.2)) 50) (gd (y31 = ((-1)) → rg (tA τ2 27 (oI (byN S m r.2)).toNat)) (if (y31 = ((-1))) ∧ (¬ ((tA τ2 27 (oI (byN S m r.2)).toNat) = ((-1)))) then (gd (ib (oI (byN S m r.2)) 50) (if (iAnd (iShr (t : Int) (tA τ2 27 (oI (byN S m r.2)).toNat)) 1) = 1 then (some (Sum.inl (Sum.inl (((-1), τ2))))) else (nm (iOr (t : Int) (iShl 1 (tA τ2 27 (oI (byN S m r.2)).toNat))) fun x96 => some (Sum.inr x96)))) else (some (Sum.inr (t : Int))))))) (Sum.elim some fun (v38 : Int) => Option.bind (gd (rg y31) (if y31 = ((-1)) then (gd (ib (oI (byN S m r.2)) 50) (gd (rg (tA τ2 29 (oI (byN S m r.2)).toNat)) (if (tA τ2 29 (oI (byN S m r.2)).toNat) = 0 then (Option.bind (m_value rec (oI (byN S m r.2)) y30 dp τ2) fun y83 => some ((y83.1, y83.2))) else (Option.bind (m_array rec (oI (byN S m r.2)) y30 dp τ2) fun y84 => some ((y84.1, y84.2)))))) else (some ((y31, τ2))))) fun (v47 : Int × TT) => oTail rec (m : Int) dp N x29 v38 v47))))) := by
        rw [m_object_L49, e1.1, bind_some']
        show gd (rg (r.1 : Int)) (if (r.1 : Int) = -1 then _ else Option.bind (m_fieldNamed (m : Int) τ1) _) = _
        rw [gd_pos (by omega), if_neg (by omega), e2, bind_some']
        show Option.bind (m_blanks (r.1 : Int) τ2) _ = _
        rw [m_blanks_eq hJ2.2.1 rfl (by omega), bind_some']
        rfl
      have hoI : rg (oI (byN S m r.2)) := by
        cases eb : byN S m r.2 with
        | none => exact ⟨by decide, by decide⟩
        | some f =>
          rw [eb] at bo
          have := bo.1
          exact ⟨by show _ ≤ (f : Int); omega, by show (f : Int) < _; omega⟩
      rw [eA, m_look_eq hJ2.2.1 rfl (by omega), gd_pos hoI, gd_pos (by exact fun _ => rfl)]
      rw [vv_s]
      show ∃ τ', TF KJ τ τ' ∧ tI τ' 58 = 0 ∧ _ = some (mO ((byN S m r.2).bind fun f => if f ∈ seen ∨ lk I n (bl I n r.1) ≠ 58 then none else (if lit I n (bl I n (bl I n r.1 + 1)) 5 then some (bl I n (bl I n r.1 + 1) + slen 5, T) else if hasO S T f = true then none else (itmS S I n sp f (bl I n (bl I n r.1 + 1))).map fun q => (q.1, q.2.foldl (put S) T)).bind fun e => if lk I n (bl I n e.1) = 44 then memL S I n sp m c (bl I n e.1 + 1) (f :: seen) e.2 else if lk I n (bl I n e.1) = 125 then some (bl I n e.1 + 1, e.2) else none) τ')
      cases eb : byN S m r.2 with
      | none =>
        refine ⟨τ2, f2', h58b, ?_⟩
        rw [gd_pos (by exact fun _ => rg_byte hrg), if_pos (Or.inl (Or.inl (show oI none = -1 from rfl)))]
        rfl
      | some f =>
        rw [eb] at bo
        have hf : f < nF_ S := bo.1
        have hbit := bit64 (b := b) (k := f) (x := (f : Int)) (by have := hSB.1; omega) (by omega) rfl
        have hin := hSB.2 f (by omega)
        have eoI : oI (some f) = (f : Int) := rfl
        rw [eoI]
        show ∃ τ', TF KJ τ τ' ∧ tI τ' 58 = 0 ∧ _ = some (mO (if f ∈ seen ∨ lk I n (bl I n r.1) ≠ 58 then none else _) τ')
        rw [gd_pos (by exact fun _ => rg_byte hrg)]
        by_cases cf : f ∈ seen ∨ lk I n (bl I n r.1) ≠ 58
        · rw [if_pos cf, if_pos (by
            rcases cf with q | q
            · exact Or.inl (Or.inr (hbit.mpr (hin.mpr q)))
            · exact Or.inr q)]
          exact ⟨τ2, f2', h58b, rfl⟩
        · have cf1 : f ∉ seen := fun q => cf (Or.inl q)
          have cf2 : lk I n (bl I n r.1) = 58 := by
            by_cases q : lk I n (bl I n r.1) = 58
            · exact q
            · exact absurd (Or.inr q) cf
          have l58 := lk_ne cf2 (by decide)
          rw [if_neg cf, if_neg (by
            rintro ((q | q) | q)
            · omega
            · exact cf1 (hin.mp (hbit.mp q))
            · exact q cf2), nm_eq]
          have b5 := bl_ge' I n (bl I n r.1 + 1)
          have b6 := bl_le' I n (bl I n r.1 + 1)
          have ex29 : lN b ||| lShl 1 (f : Int) = lN (b ||| 2 ^ f) := by
            rw [lShl_1 (by omega) rfl, lN_or (by have := hSB.1; show _ < 18446744073709551616; omega) (by
              have : 2 ^ f < 2 ^ 50 := Nat.pow_lt_pow_right (by decide) (by omega)
              show _ < 18446744073709551616; omega)]
          have hSB' : SB (b ||| 2 ^ f) (f :: seen) := hSB.add (by omega)
          have l27 : lit I n (bl I n (bl I n r.1 + 1)) 27 ↔ lit I n (bl I n (bl I n r.1 + 1)) 5 := lit_sx (by decide +kernel)
          have s27 : slen 27 = 4 ∧ slen 5 = 4 := by decide +kernel
          have t27 : tA τ2 27 f = qo S f := (hJ2.1.2.2.2.2.1 f hf).2.2.2.1
          have t29 : tA τ2 29 f = qr S f := (hJ2.1.2.2.2.2.1 f hf).2.2.2.2.1
          obtain ⟨-, -, -, -, o1, o2, r01, -, -, rep⟩ := hS.2.2.2.2.1 f hf
          rw [ex29, m_blanks_eq (p := bl I n r.1 + 1) hJ2.2.1 (by omega) (by omega), bind_some', m_literal_eq (s := 27) hJ2.2.1 rfl (by omega) (by omega), bind_some', Int.toNat_natCast, t27, t29]
          by_cases cl : lit I n (bl I n (bl I n r.1 + 1)) 5
          · have li := lit_in (by omega) cl
            rw [if_pos cl, if_pos (l27.mpr cl), gd_pos (by omega), gd_pos (by omega), gd_pos (by omega), if_neg (by omega), bind_some', elim_r, gd_pos (by omega), if_neg (by omega), bind_some', s27.1]
            show ∃ τ', TF KJ τ τ' ∧ tI τ' 58 = 0 ∧ oTail rec (m : Int) dp N (lN (b ||| 2 ^ f)) (t : Int) (((bl I n (bl I n r.1 + 1) + 4 : Nat) : Int), τ2) = some (mO (if lk I n (bl I n (bl I n (bl I n r.1 + 1) + slen 5)) = 44 then _ else _) τ')
            rw [s27.2]
            exact fin f (bl I n (bl I n r.1 + 1) + 4) _ t T τ2 f2' hJ2 (by omega) (by omega) hSB' hTB (fun s hs => List.mem_cons_of_mem _ (hsn s hs))
          · rw [if_neg cl, if_neg (fun q => cl (l27.mp q)), gd_pos (by omega), gd_pos (by omega), gd_pos (by omega)]
            -- the item itself, then the tail
            have item : ∀ t' : Nat, (∀ q : Nat × List (SV d), itmS S I n sp f (bl I n (bl I n r.1 + 1)) = some q → TB S t' (q.2.foldl (put S) T)) → ∃ τ', TF KJ τ τ' ∧ tI τ' 58 = 0 ∧ (Option.bind (gd (rg (-1)) (if (-1 : Int) = -1 then (gd (ib (f : Int) 50) (gd (rg (qr S f)) (if qr S f = 0 then (Option.bind (m_value rec (f : Int) ((bl I n (bl I n r.1 + 1) : Nat) : Int) dp τ2) fun y83 => some ((y83.1, y83.2))) else (Option.bind (m_array rec (f : Int) ((bl I n (bl I n r.1 + 1) : Nat) : Int) dp τ2) fun y84 => some ((y84.1, y84.2)))))) else (some (((-1 : Int), τ2))))) fun (v47 : Int × TT) => oTail rec (m : Int) dp N (lN (b ||| 2 ^ f)) (t' : Int) v47) = some (mO (((itmS S I n sp f (bl I n (bl I n r.1 + 1))).map fun q => (q.1, q.2.foldl (put S) T)).bind fun e => if lk I n (bl I n e.1) = 44 then memL S I n sp m c (bl I n e.1 + 1) (f :: seen) e.2 else if lk I n (bl I n e.1) = 125 then some (bl I n e.1 + 1, e.2) else none) τ') := fun t' ht' => by
              have done : ∀ (x : Nat × List (SV d)) (τ3 : TT), itmS S I n sp f (bl I n (bl I n r.1 + 1)) = some x → TF KJ τ2 τ3 → tI τ3 58 = 0 → ∃ τ', TF KJ τ τ' ∧ tI τ' 58 = 0 ∧ oTail rec (m : Int) dp N (lN (b ||| 2 ^ f)) (t' : Int) ((x.1 : Int), τ3) = some (mO (((itmS S I n sp f (bl I n (bl I n r.1 + 1))).map fun q => (q.1, q.2.foldl (put S) T)).bind fun e => if lk I n (bl I n e.1) = 44 then memL S I n sp m c (bl I n e.1 + 1) (f :: seen) e.2 else if lk I n (bl I n e.1) = 125 then some (bl I n e.1 + 1, e.2) else none) τ') := fun x τ3 ex f3 h3 => by
                have hb := itmS_bd hI hB (by omega) ex
                have hf' := itmS_f ex
                rw [ex]
                refine fin f x.1 _ t' (x.2.foldl (put S) T) τ3 (f2'.tr f3 (fun _ q => q)) (hJ2.tr f3 h3) (by omega) hb.2 hSB' (ht' x ex) (fun s hs => ?_)
                by_cases cr : qr S f = 1
                · rw [fold_rep cr x.2 T hf'.1] at hs
                  exact List.mem_cons_of_mem _ (hsn s hs)
                · obtain ⟨s0, es0⟩ := hf'.2 cr
                  rw [es0] at hs
                  rcases put_in (S := S) (T := T) (s := s0) hs with q | q
                  · rw [q, hf'.1 s0 (by rw [es0]; exact List.mem_cons_self)]; exact List.mem_cons_self
                  · exact List.mem_cons_of_mem _ (hsn s q)
              rw [gd_pos (by omega), if_pos rfl, gd_pos (by omega), gd_pos (by omega)]
              by_cases cr : qr S f = 1
              · rw [if_neg (by omega)]
                obtain ⟨τ3, f3, h3, e3⟩ := m_arr (p := bl I n (bl I n r.1 + 1)) hS hX hR hB hf (by omega) hJ2
                have ei : itmS S I n sp f (bl I n (bl I n r.1 + 1)) = arrS S I n sp f (bl I n (bl I n r.1 + 1)) := by unfold itmS; rw [if_pos cr]
                rw [e3, bind_some', bind_some']
                cases ea : arrS S I n sp f (bl I n (bl I n r.1 + 1)) with
                | none =>
                  rw [ei, ea]
                  exact ⟨τ3, f2'.tr f3 (fun _ q => q), h3, oTail_m _ _ _ _⟩
                | some x => exact done x τ3 (by rw [ei, ea]) f3 h3
              · rw [if_pos (by omega)]
                obtain ⟨τ3, r', f3, h3, e3, q3⟩ := m_val (p := bl I n (bl I n r.1 + 1)) hS hX hR hf (by omega) hJ2
                have ei : itmS S I n sp f (bl I n (bl I n r.1 + 1)) = (valS S I n sp f (bl I n (bl I n r.1 + 1))).map fun r => (r.1, [r.2]) := by unfold itmS; rw [if_neg cr]
                rw [e3, bind_some', bind_some']
                cases ea : valS S I n sp f (bl I n (bl I n r.1 + 1)) with
                | none =>
                  rw [ea] at q3
                  rw [ei, ea]
                  rcases q3 with q | ⟨e', q1, q2, q4⟩
                  · subst q
                    exact ⟨τ3, f2'.tr f3 (fun _ q => q), h3, oTail_m _ _ _ _⟩
                  · subst q1
                    exact ⟨τ3, f2'.tr f3 (fun _ q => q), h3, oTail_ns (hJ2.tr f3 h3) q2 q4 _ _ _ _⟩
                | some x =>
                  rw [ea] at q3
                  subst q3
                  exact done (x.1, [x.2]) τ3 (by rw [ei, ea]; rfl) f3 h3
            by_cases co : qo S f = -1
            · have ho : hasO S T f = false := by unfold hasO; rw [co]; rfl
              rw [if_neg (show ¬ hasO S T f = true by rw [ho]; decide), if_neg (fun q => q.2 co), bind_some', elim_r]
              refine item t (fun q hq => ?_)
              have hf' := itmS_f hq
              by_cases cr : qr S f = 1
              · have := fold_rep cr q.2 T hf'.1
                exact ⟨hTB.1, fun o ho => by rw [this]; exact hTB.2 o ho⟩
              · obtain ⟨s0, es0⟩ := hf'.2 cr
                rw [es0]
                exact hTB.put0 (by rw [hf'.1 s0 (by rw [es0]; exact List.mem_cons_self)]; exact co)
            · obtain ⟨o, eo⟩ : ∃ o : Nat, qo S f = (o : Int) := ⟨(qo S f).toNat, by omega⟩
              have ho12 : o < 12 := by omega
              have hb32 := bit32 (t := t) (k := o) (x := (o : Int)) (by have := hTB.1; omega) (by omega) rfl
              have hhas := hasO_bit hTB hsn cf1 ho12 eo
              rw [eo, if_pos ⟨rfl, by omega⟩, gd_pos (by omega)]
              by_cases ch : hasO S T f = true
              · rw [if_pos ch, if_pos (hb32.mpr (hhas.mp ch)), bind_some', elim_l]
                exact ⟨τ2, f2', h58b, rfl⟩
              · rw [if_neg ch, if_neg (fun q => ch (hhas.mpr (hb32.mp q))), nm_eq, bind_some', elim_r]
                have e96 : iOr (t : Int) (iShl 1 (o : Int)) = ((t ||| 2 ^ o : Nat) : Int) := by
                  have hp2 : 2 ^ o < 2 ^ 12 := Nat.pow_lt_pow_right (by decide) ho12
                  have h12 := hTB.1
                  rw [iShl_n (x := 1) (a := 1) (k := o) rfl rfl (by omega) (by omega), Nat.one_mul, iOr_n rfl rfl (by omega) (by omega)]
                rw [e96]
                refine item (t ||| 2 ^ o) (fun q hq => ?_)
                have hf' := itmS_f hq
                have cr : qr S f ≠ 1 := fun w => by have := rep w; omega
                obtain ⟨s0, es0⟩ := hf'.2 cr
                have hs0 := hf'.1 s0 (by rw [es0]; exact List.mem_cons_self)
                rw [es0]
                exact hTB.put1 ho12 (by rw [hs0]; exact eo) (by rw [hs0]; omega)
theorem m_object_eq (hS : SW S) (hX : TXT I n) : ∀ (d N m p : Nat) (dp : Int) (τ : TT), d < N → d ≤ 8 → dp + (d : Int) = 9 → m < 100 → p ≤ n → JH S I n τ → ∃ τ', TF KJ τ τ' ∧ tI τ' 58 = 0 ∧ m_object N (m : Int) (p : Int) dp τ = some (oE (objS S I n d m p), τ')
  | 0, N, m, p, dp, τ, hN, hd8, hd, hm, hp, hJ => by
    obtain ⟨N, rfl⟩ : ∃ m, N = m + 1 := ⟨N - 1, by omega⟩
    refine ⟨τ, TF.refl _ _, hJ.2.2, ?_⟩
    show m_objectb (m_object N) _ _ _ _ = _
    unfold m_objectb
    rw [gd_pos (by omega), gd_pos (by exact fun q => absurd (by omega) q), gd_pos (by exact fun q => absurd (by omega) q), if_pos (Or.inl (by omega))]
    rfl
  | d + 1, N, m, p, dp, τ, hN, hd8, hd, hm, hp, hJ => by
    obtain ⟨N, rfl⟩ : ∃ m, N = m + 1 := ⟨N - 1, by omega⟩
    have hn := hJ.2.1.2.1
    have hI := hJ.2.1.2.2.2
    have hrg := lk_rg (n := n) hI p
    have hRO : RO S I n (m_object N) (dp + 1) (objS S I n d) := fun m' p' τ' h1 h2 h3 => m_object_eq hS hX d N m' p' (dp + 1) τ' (by omega) (by omega) (by omega) h1 h2 h3
    show ∃ τ', TF KJ τ τ' ∧ tI τ' 58 = 0 ∧ m_objectb (m_object N) _ _ _ _ = _
    unfold m_objectb
    rw [m_look_eq hJ.2.1 rfl (by omega), gd_pos (by omega), gd_pos (by exact fun _ => rfl), gd_pos (by exact fun _ => by rw [vv_s]; exact rg_byte hrg), vv_s, objS]
    by_cases c : lk I n p = 123
    · have l := lk_ne c (by decide)
      have b1 := bl_ge' I n (p + 1)
      have b2 := bl_le' I n (p + 1)
      have hrg2 := lk_rg (n := n) hI (bl I n (p + 1))
      rw [if_pos c, if_neg (by omega), m_blanks_eq (p := p + 1) hJ.2.1 (by omega) (by omega), bind_some', m_look_eq hJ.2.1 rfl (by omega), bind_some', gd_pos (rg_byte hrg2)]
      by_cases c2 : lk I n (bl I n (p + 1)) = 125
      · rw [if_pos c2, if_pos c2]
        exact ⟨τ, TF.refl _ _, hJ.2.2, rfl⟩
      · rw [if_neg c2, if_neg c2]
        obtain ⟨τ1, f1, h58, e1⟩ := m_obj_L hS hX hRO (objS_bd hI d) hm (n + 1) FU (p + 1) 0 0 [] (emp (d + 1)) τ hJ (by omega) (by omega) (FU_gt (by omega)) ⟨by decide, fun g _ => by simp⟩ ⟨by decide, fun o _ => ⟨fun q => by simp at q, fun ⟨s, hs, _⟩ => by cases hs⟩⟩ (fun s hs => by cases hs)
        refine ⟨τ1, f1, h58, ?_⟩
        have e1' : m_object_L49 (m_object N) (m : Int) dp FU 0 0 ((bl I n (p + 1) : Nat) : Int) τ = _ := e1
        rw [e1', bind_some']
        cases memL S I n (objS S I n d) m (n + 1) (p + 1) [] (emp (d + 1)) with
        | none => rfl
        | some e =>
          show some _ = some _
          rw [show ((e.1 : Int) - 1, τ1).1 + 1 = (e.1 : Int) by show (e.1 : Int) - 1 + 1 = _; omega]
          rfl
    · rw [if_neg c, if_pos (Or.inr c)]
      exact ⟨τ, TF.refl _ _, hJ.2.2, rfl⟩
end Mq
