set_option maxRecDepth 100000
/-! the reference: X4_letter, X4_takeVarint, X4_takeField, X4_fieldOf, X4_ownKind, X4_isPlain, X4_rightField, X4_isTail -/
def m_letter (a1 : Int) (a2 : Int) (τ : TT) : Option (Int × TT) := nm (uI τ 0 0) fun τ1 => gd (rg a1) (gd (¬ (a1 < 0) → rg (tI τ1 38)) (if (a1 < 0) ∨ (¬ (a1 < (tI τ1 38))) then (some (((-1), τ1))) else (Option.bind (m_jsonName a1 41 τ1) fun y7 => gd (rg a2) (gd (¬ (a2 < 0) → rg y7.1) (if (a2 < 0) ∨ (¬ (a2 < y7.1)) then (some (((-1), y7.2))) else (gd (ib a2 64) (some ((tA y7.2 41 a2.toNat, y7.2)))))))))
set_option maxHeartbeats 4000000 in
theorem m_letter_ok {g : GE} (G : GG g) {σ : ST} (d : Nat) (hd1 : 1 ≤ d) (a1 : Int) (a2 : Int)  (τ : TT) (Q : VQ) : Sm (V g mX4_letter d 0 [(0, vr (some (gw g))), (1, vi a1), (2, vi a2)] [] σ τ Q) (m_letter a1 a2 τ) (fun r => Q.1 (some (vi r.1)) σ r.2) := by
  unfold m_letter
  refine sm_top (fun K hRET => ?_)
  refine sm_b (l' := [(0, vr (some (gw g))), (1, vi a1), (2, vi a2)]) (st' := [vi 0, vr (some (gw g))]) (pc' := 2) [(.aload_n 0, vi 0, 1), (.iconst 0, vi 0, 2)] (by decide +kernel) rfl rfl ?_
  refine sm_tpi (k := 0) G.2.1 q1418 rfl rfl rfl (tp_0 g τ 0) (by decide +kernel) ?_
  refine sm_nmt (fun τ1 => ?_)
  refine sm_b (l' := [(0, vr (some (gw g))), (1, vi a1), (2, vi a2)]) (st' := [vi a1]) (pc' := 6) [(.iload_n 1, vi 0, 6)] (by decide +kernel) rfl rfl ?_
  refine sm_gd (fun h2 => ?_)
  refine sm_gd (fun h4 => ?_)
  refine sm_case (V g mX4_letter d 17 [(0, vr (some (gw g))), (1, vi a1), (2, vi a2)] [] σ τ1 Q) (V g mX4_letter d 19 [(0, vr (some (gw g))), (1, vi a1), (2, vi a2)] [] σ τ1 Q) ?_ ?_ (fun f20 p21 n22 => ?_)
  · refine sm_b (l' := [(0, vr (some (gw g))), (1, vi a1), (2, vi a2)]) (st' := [vi ((-1))]) (pc' := 18) [(.iconst (-1), vi (-1), 18)] (by decide +kernel) rfl rfl ?_
    exact sm_iret rfl (by decide +kernel) (fun h => hRET _ h)
  · refine sm_b (l' := [(0, vr (some (gw g))), (1, vi a1), (2, vi a2)]) (st' := [vr (some (gw g)), vi a1, vr (some (gw g))]) (pc' := 22) [(.aload_n 0, vi 0, 20), (.iload_n 1, vi 0, 21), (.aload_n 0, vi 0, 22)] (by decide +kernel) rfl rfl ?_
    refine sm_tg (k := 41) (x := vr (some (gT g 41))) G.2.1 q1459 rfl rfl (by decide +kernel) ?_
    refine sm_cv (N := mX4_jsonName) (d' := d - 1) (fun r => (some (vi r.1))) (fun _ => σ) (fun r => r.2) [vi a1, vr (some (gT g 41))] [] rfl (by decide +kernel) q1740 q1742 qs73 (Or.inl ⟨rfl, q1743⟩) (show okN yX4_jsonName 2 = true by decide +kernel) (fun H hR => hR.rvw G.1 G.2.1) rfl rfl (by omega) rfl (fun Q' => m_jsonName_ok G (d - 1) (by omega) a1 41 (by decide) rfl τ1 Q') (fun y7 => ?_)
    refine sm_b (l' := [(0, vr (some (gw g))), (1, vi a1), (2, vi a2), (3, vi y7.1)]) (st' := [vi a2]) (pc' := 30) [(.istore_n 3, vi 0, 29), (.iload_n 2, vi 0, 30)] (by decide +kernel) rfl rfl ?_
    refine sm_gd (fun h8 => ?_)
    refine sm_gd (fun h10 => ?_)
    refine sm_case (V g mX4_letter d 38 [(0, vr (some (gw g))), (1, vi a1), (2, vi a2), (3, vi y7.1)] [] σ y7.2 Q) (V g mX4_letter d 42 [(0, vr (some (gw g))), (1, vi a1), (2, vi a2), (3, vi y7.1)] [] σ y7.2 Q) ?_ ?_ (fun f15 p16 n17 => ?_)
    · refine sm_b (l' := [(0, vr (some (gw g))), (1, vi a1), (2, vi a2), (3, vi y7.1)]) (st' := [vi ((-1))]) (pc' := 48) [(.iconst (-1), vi (-1), 39), (.goto 9, vi 0, 48)] (by decide +kernel) rfl rfl ?_
      exact sm_iret rfl (by decide +kernel) (fun h => hRET _ h)
    · refine sm_b (l' := [(0, vr (some (gw g))), (1, vi a1), (2, vi a2), (3, vi y7.1)]) (st' := [vr (some (gw g))]) (pc' := 43) [(.aload_n 0, vi 0, 43)] (by decide +kernel) rfl rfl ?_
      refine sm_tg (k := 41) (x := vr (some (gT g 41))) G.2.1 q1459 rfl rfl (by decide +kernel) ?_
      refine sm_b (l' := [(0, vr (some (gw g))), (1, vi a1), (2, vi a2), (3, vi y7.1)]) (st' := [vi a2, vr (some (gT g 41))]) (pc' := 47) [(.iload_n 2, vi 0, 47)] (by decide +kernel) rfl rfl ?_
      refine sm_gd (fun h14 => ?_)
      refine sm_ial (k := 41) G.2.1 (by decide) rfl (ibt (k := 41) h14) h14 (by decide +kernel) ?_
      exact sm_iret rfl (by decide +kernel) (fun h => hRET _ h)
    refine sm_if_lt (off := 8) (tgt := 38) h8 (by decide +kernel) (fun c18 => ?_) (fun c18 => ?_)
    · exact p16 (Or.inl c18)
    · have w9 : ¬ (a2 < 0) := c18
      refine sm_b (l' := [(0, vr (some (gw g))), (1, vi a1), (2, vi a2), (3, vi y7.1)]) (st' := [vi y7.1, vi a2]) (pc' := 35) [(.iload_n 2, vi 0, 34), (.iload_n 3, vi 0, 35)] (by decide +kernel) rfl rfl ?_
      refine sm_icmp_lt (off := 7) (tgt := 42) h8 (h10 w9) (by decide +kernel) (fun c19 => ?_) (fun c19 => ?_)
      · exact n17 (fun q => q.elim c18 (fun q => q c19))
      · exact p16 (Or.inr c19)
  refine sm_if_lt (off := 11) (tgt := 17) h2 (by decide +kernel) (fun c23 => ?_) (fun c23 => ?_)
  · exact p21 (Or.inl c23)
  · have w3 : ¬ (a1 < 0) := c23
    refine sm_b (l' := [(0, vr (some (gw g))), (1, vi a1), (2, vi a2)]) (st' := [vr (some (gw g)), vi a1]) (pc' := 11) [(.iload_n 1, vi 0, 10), (.aload_n 0, vi 0, 11)] (by decide +kernel) rfl rfl ?_
    refine sm_tg (k := 38) (x := vi (tI τ1 38)) G.2.1 q1456 rfl rfl (by decide +kernel) ?_
    refine sm_icmp_lt (off := 5) (tgt := 19) h2 (h4 w3) (by decide +kernel) (fun c24 => ?_) (fun c24 => ?_)
    · exact n22 (fun q => q.elim c23 (fun q => q c24))
    · exact p21 (Or.inr c24)
def m_takeVarint_L7 (u1 : Int) : Nat → Int → TT → Option (Int × TT)
  | 0, _, _ => none
  | n + 1, w2, τ => gd (rg w2) (if 10 ≤ w2 then (some ((0, τ))) else (gd (rg (tI τ 46)) (gd (rg u1) (if (tI τ 46) < u1 then (gd (ib (tI τ 46) 1000) (nm (tA τ 2 (tI τ 46).toNat) fun x13 => nm (uI τ 46 ((tI τ 46) + 1)) fun τ14 => gd (w2 = 9 → rg x13) (if (w2 = 9) ∧ (¬ (x13 ≤ 1)) then (some ((0, τ14))) else (nm (uJ τ14 47 ((tJ τ14 47) ||| (lShl (iL (iAnd x13 127)) (7 * w2)))) fun τ19 => gd (rg x13) (if 128 ≤ x13 then (m_takeVarint_L7 u1 n (w2 + 1) τ19) else (some ((1, τ19)))))))) else (some ((0, τ)))))))
def m_takeVarint (a1 : Int) (τ : TT) : Option (Int × TT) := nm (uJ τ 47 0) fun τ1 => m_takeVarint_L7 a1 FU 0 τ1
set_option maxHeartbeats 4000000 in
theorem m_takeVarint_L7_ok {g : GE} (G : GG g) {σ : ST} {Q : VQ} (d : Nat) (hd1 : 0 ≤ d) (u1 : Int)  {K : Int × TT → Prop} (hRET : ∀ r : Int × TT, K (r) → Q.1 (some (vi r.1)) σ r.2) : ∀ (n : Nat) (w2 : Int) (τ : TT), Sm (V g mX4_takeVarint d 7 [(0, vr (some (gw g))), (1, vi u1), (2, vi w2)] [] σ τ Q) (m_takeVarint_L7 u1 n w2 τ) K := by
  intro n
  induction n with
  | zero => intro w2 τ; exact sm_none
  | succ n ih =>
    intro w2 τ
    rw [m_takeVarint_L7.eq_2]
    refine sm_b (l' := [(0, vr (some (gw g))), (1, vi u1), (2, vi w2)]) (st' := [vi 10, vi w2]) (pc' := 10) [(.iload_n 2, vi 0, 8), (.bipush 10, vi 10, 10)] (by decide +kernel) rfl rfl ?_
    refine sm_gd (fun h2 => ?_)
    refine sm_case (V g mX4_takeVarint d 90 [(0, vr (some (gw g))), (1, vi u1), (2, vi w2)] [] σ τ Q) (V g mX4_takeVarint d 13 [(0, vr (some (gw g))), (1, vi u1), (2, vi w2)] [] σ τ Q) ?_ ?_ (fun f36 p37 n38 => ?_)
    · refine sm_b (l' := [(0, vr (some (gw g))), (1, vi u1), (2, vi w2)]) (st' := [vi 0]) (pc' := 91) [(.iconst 0, vi 0, 91)] (by decide +kernel) rfl rfl ?_
      exact sm_zret rfl (by decide +kernel) (by decide) (fun h => hRET _ h)
    · refine sm_b (l' := [(0, vr (some (gw g))), (1, vi u1), (2, vi w2)]) (st' := [vr (some (gw g))]) (pc' := 14) [(.aload_n 0, vi 0, 14)] (by decide +kernel) rfl rfl ?_
      refine sm_tg (k := 46) (x := vi (tI τ 46)) G.2.1 q1464 rfl rfl (by decide +kernel) ?_
      refine sm_b (l' := [(0, vr (some (gw g))), (1, vi u1), (2, vi w2)]) (st' := [vi u1, vi (tI τ 46)]) (pc' := 18) [(.iload_n 1, vi 0, 18)] (by decide +kernel) rfl rfl ?_
      refine sm_gd (fun h7 => ?_)
      refine sm_gd (fun h8 => ?_)
      refine sm_case (V g mX4_takeVarint d 23 [(0, vr (some (gw g))), (1, vi u1), (2, vi w2)] [] σ τ Q) (V g mX4_takeVarint d 21 [(0, vr (some (gw g))), (1, vi u1), (2, vi w2)] [] σ τ Q) ?_ ?_ (fun f32 p33 n34 => ?_)
      · refine sm_b (l' := [(0, vr (some (gw g))), (1, vi u1), (2, vi w2)]) (st' := [vr (some (gw g))]) (pc' := 24) [(.aload_n 0, vi 0, 24)] (by decide +kernel) rfl rfl ?_
        refine sm_tg (k := 2) (x := vr (some (gT g 2))) G.2.1 q1420 rfl rfl (by decide +kernel) ?_
        refine sm_b (l' := [(0, vr (some (gw g))), (1, vi u1), (2, vi w2)]) (st' := [vr (some (gw g)), vr (some (gT g 2))]) (pc' := 28) [(.aload_n 0, vi 0, 28)] (by decide +kernel) rfl rfl ?_
        refine sm_tg (k := 46) (x := vi (tI τ 46)) G.2.1 q1464 rfl rfl (by decide +kernel) ?_
        refine sm_gd (fun h12 => ?_)
        refine sm_ial (k := 2) G.2.1 (by decide) rfl (ibt (k := 2) h12) h12 (by decide +kernel) ?_
        refine sm_nmi (fun x13 => ?_)
        refine sm_b (l' := [(0, vr (some (gw g))), (1, vi u1), (2, vi w2), (3, vi x13)]) (st' := [vr (some (gw g)), vr (some (gw g))]) (pc' := 35) [(.istore_n 3, vi 0, 33), (.aload_n 0, vi 0, 34), (.dup, vi 0, 35)] (by decide +kernel) rfl rfl ?_
        refine sm_tg (k := 46) (x := vi (tI τ 46)) G.2.1 q1464 rfl rfl (by decide +kernel) ?_
        refine sm_b (l' := [(0, vr (some (gw g))), (1, vi u1), (2, vi w2), (3, vi x13)]) (st' := [vi ((tI τ 46) + 1), vr (some (gw g))]) (pc' := 40) [(.iconst 1, vi 1, 39), (.iadd, vi 0, 40)] (by decide +kernel) rfl rfl ?_
        refine sm_tpi (k := 46) G.2.1 q1464 rfl rfl rfl (tp_46 g τ ((tI τ 46) + 1)) (by decide +kernel) ?_
        refine sm_nmt (fun τ14 => ?_)
        refine sm_b (l' := [(0, vr (some (gw g))), (1, vi u1), (2, vi w2), (3, vi x13)]) (st' := [vi 9, vi w2]) (pc' := 46) [(.iload_n 2, vi 0, 44), (.bipush 9, vi 9, 46)] (by decide +kernel) rfl rfl ?_
        refine sm_gd (fun h16 => ?_)
        refine sm_case (V g mX4_takeVarint d 54 [(0, vr (some (gw g))), (1, vi u1), (2, vi w2), (3, vi x13)] [] σ τ14 Q) (V g mX4_takeVarint d 56 [(0, vr (some (gw g))), (1, vi u1), (2, vi w2), (3, vi x13)] [] σ τ14 Q) ?_ ?_ (fun f27 p28 n29 => ?_)
        · refine sm_b (l' := [(0, vr (some (gw g))), (1, vi u1), (2, vi w2), (3, vi x13)]) (st' := [vi 0]) (pc' := 55) [(.iconst 0, vi 0, 55)] (by decide +kernel) rfl rfl ?_
          exact sm_zret rfl (by decide +kernel) (by decide) (fun h => hRET _ h)
        · refine sm_b (l' := [(0, vr (some (gw g))), (1, vi u1), (2, vi w2), (3, vi x13)]) (st' := [vr (some (gw g)), vr (some (gw g))]) (pc' := 58) [(.aload_n 0, vi 0, 57), (.dup, vi 0, 58)] (by decide +kernel) rfl rfl ?_
          refine sm_tg (k := 47) (x := vl (tJ τ14 47)) G.2.1 q1465 rfl rfl (by decide +kernel) ?_
          refine sm_b (l' := [(0, vr (some (gw g))), (1, vi u1), (2, vi w2), (3, vi x13)]) (st' := [vl ((tJ τ14 47) ||| (lShl (iL (iAnd x13 127)) (7 * w2))), vr (some (gw g))]) (pc' := 72) [(.iload_n 3, vi 0, 62), (.bipush 127, vi 127, 64), (.iand, vi 0, 65), (.i2l, vi 0, 66), (.bipush 7, vi 7, 68), (.iload_n 2, vi 0, 69), (.imul, vi 0, 70), (.lshl, vi 0, 71), (.lor, vi 0, 72)] (by decide +kernel) rfl rfl ?_
          refine sm_tpj (k := 47) G.2.1 q1465 rfl rfl rfl (tp_47 g τ14 ((tJ τ14 47) ||| (lShl (iL (iAnd x13 127)) (7 * w2)))) (by decide +kernel) ?_
          refine sm_nmt (fun τ19 => ?_)
          refine sm_b (l' := [(0, vr (some (gw g))), (1, vi u1), (2, vi w2), (3, vi x13)]) (st' := [vi 128, vi x13]) (pc' := 79) [(.iload_n 3, vi 0, 76), (.sipush 128, vi 128, 79)] (by decide +kernel) rfl rfl ?_
          refine sm_gd (fun h20 => ?_)
          refine sm_case (V g mX4_takeVarint d 84 [(0, vr (some (gw g))), (1, vi u1), (2, vi w2), (3, vi x13)] [] σ τ19 Q) (V g mX4_takeVarint d 82 [(0, vr (some (gw g))), (1, vi u1), (2, vi w2), (3, vi x13)] [] σ τ19 Q) ?_ ?_ (fun f23 p24 n25 => ?_)
          · refine sm_b (l' := [(0, vr (some (gw g))), (1, vi u1), (2, vi (w2 + 1)), (3, vi x13)]) (st' := []) (pc' := 7) [(.iinc 2 1, vi 1, 87), (.goto (-80), vi 0, 7)] (by decide +kernel) rfl rfl ?_
            refine sm_pick [0, 1, 2] (l' := [(0, vr (some (gw g))), (1, vi u1), (2, vi (w2 + 1))]) rfl ?_
            exact ih (w2 + 1) τ19
          · refine sm_b (l' := [(0, vr (some (gw g))), (1, vi u1), (2, vi w2), (3, vi x13)]) (st' := [vi 1]) (pc' := 83) [(.iconst 1, vi 1, 83)] (by decide +kernel) rfl rfl ?_
            exact sm_zret rfl (by decide +kernel) (by decide) (fun h => hRET _ h)
          refine sm_icmp_ge (off := 5) (tgt := 84) h20 (by decide) (by decide +kernel) (fun c26 => ?_) (fun c26 => ?_)
          · exact p24 c26
          · exact n25 c26
        refine sm_icmp_ne (off := 10) (tgt := 56) h2 (by decide) (by decide +kernel) (fun c30 => ?_) (fun c30 => ?_)
        · exact n29 (fun q => c30 q.1)
        · have w15 : w2 = 9 := c30
          refine sm_b (l' := [(0, vr (some (gw g))), (1, vi u1), (2, vi w2), (3, vi x13)]) (st' := [vi 1, vi x13]) (pc' := 51) [(.iload_n 3, vi 0, 50), (.iconst 1, vi 1, 51)] (by decide +kernel) rfl rfl ?_
          refine sm_icmp_le (off := 5) (tgt := 56) (h16 w15) (by decide) (by decide +kernel) (fun c31 => ?_) (fun c31 => ?_)
          · exact n29 (fun q => (fun q => q c31) q.2)
          · exact p28 ⟨c30, c31⟩
      · refine sm_b (l' := [(0, vr (some (gw g))), (1, vi u1), (2, vi w2)]) (st' := [vi 0]) (pc' := 22) [(.iconst 0, vi 0, 22)] (by decide +kernel) rfl rfl ?_
        exact sm_zret rfl (by decide +kernel) (by decide) (fun h => hRET _ h)
      refine sm_icmp_lt (off := 5) (tgt := 23) h7 h8 (by decide +kernel) (fun c35 => ?_) (fun c35 => ?_)
      · exact p33 c35
      · exact n34 c35
    refine sm_icmp_ge (off := 80) (tgt := 90) h2 (by decide) (by decide +kernel) (fun c39 => ?_) (fun c39 => ?_)
    · exact p37 c39
    · exact n38 c39
set_option maxHeartbeats 4000000 in
theorem m_takeVarint_ok {g : GE} (G : GG g) {σ : ST} (d : Nat) (hd1 : 0 ≤ d) (a1 : Int)  (τ : TT) (Q : VQ) : Sm (V g mX4_takeVarint d 0 [(0, vr (some (gw g))), (1, vi a1)] [] σ τ Q) (m_takeVarint a1 τ) (fun r => Q.1 (some (vi r.1)) σ r.2) := by
  unfold m_takeVarint
  refine sm_top (fun K hRET => ?_)
  refine sm_b (l' := [(0, vr (some (gw g))), (1, vi a1)]) (st' := [vl 0, vr (some (gw g))]) (pc' := 2) [(.aload_n 0, vi 0, 1), (.lconst 0, vl 0, 2)] (by decide +kernel) rfl rfl ?_
  refine sm_tpj (k := 47) G.2.1 q1465 rfl rfl rfl (tp_47 g τ 0) (by decide +kernel) ?_
  refine sm_nmt (fun τ1 => ?_)
  refine sm_b (l' := [(0, vr (some (gw g))), (1, vi a1), (2, vi 0)]) (st' := []) (pc' := 7) [(.iconst 0, vi 0, 6), (.istore_n 2, vi 0, 7)] (by decide +kernel) rfl rfl ?_
  exact m_takeVarint_L7_ok G d hd1 a1  (fun r h => hRET _ h) FU 0 τ1
def m_takeField (a1 : Int) (τ : TT) : Option (Int × TT) := Option.bind (m_takeVarint a1 τ) fun y1 => gd (rg y1.1) (if y1.1 = 0 then (some ((0, y1.2))) else (nm (lUsh (tJ y1.2 47) 3) fun x5 => nm (uI y1.2 49 (lI ((tJ y1.2 47) &&& 7))) fun τ6 => if (x5 = 0) ∨ (¬ (x5 ≤ 536870911)) then (some ((0, τ6))) else (nm (uI τ6 48 (lI x5)) fun τ10 => nm (uI τ10 50 (tI τ10 46)) fun τ11 => Option.bind (gd (rg (tI τ11 49)) (if (tI τ11 49) = 0 then (Option.bind (m_takeVarint a1 τ11) fun y20 => gd (rg y20.1) (if y20.1 = 0 then (some (Sum.inl ((0, y20.2)))) else (some (Sum.inr y20.2)))) else (if (tI τ11 49) = 2 then (Option.bind (m_takeVarint a1 τ11) fun y29 => gd (rg y29.1) (if ((y29.1 = 0) ∨ ((tJ y29.2 47) < 0)) ∨ (¬ ((tJ y29.2 47) ≤ (iL (a1 - (tI y29.2 46))))) then (some (Sum.inl ((0, y29.2)))) else (nm (uI y29.2 50 (tI y29.2 46)) fun τ35 => nm (uI τ35 46 ((tI τ35 46) + (lI (tJ τ35 47)))) fun τ36 => some (Sum.inr τ36)))) else (if ((tI τ11 49) = 1) ∨ ((tI τ11 49) = 5) then (Option.bind (if (tI τ11 49) = 1 then (some 8) else (some 4)) fun (v48 : Int) => gd (rg v48) (gd (rg (a1 - (tI τ11 46))) (if v48 ≤ (a1 - (tI τ11 46)) then (nm (uI τ11 46 ((tI τ11 46) + v48)) fun τ56 => some (Sum.inr τ56)) else (some (Sum.inl ((0, τ11))))))) else (some (Sum.inl ((0, τ11)))))))) (Sum.elim some fun (v15 : TT) => nm (uI v15 51 (tI v15 46)) fun τ19 => some ((1, τ19))))))
set_option maxHeartbeats 4000000 in
theorem m_takeField_ok {g : GE} (G : GG g) {σ : ST} (d : Nat) (hd1 : 1 ≤ d) (a1 : Int)  (τ : TT) (Q : VQ) : Sm (V g mX4_takeField d 0 [(0, vr (some (gw g))), (1, vi a1)] [] σ τ Q) (m_takeField a1 τ) (fun r => Q.1 (some (vi r.1)) σ r.2) := by
  unfold m_takeField
  refine sm_top (fun K hRET => ?_)
  refine sm_b (l' := [(0, vr (some (gw g))), (1, vi a1)]) (st' := [vi a1, vr (some (gw g))]) (pc' := 2) [(.aload_n 0, vi 0, 1), (.iload_n 1, vi 0, 2)] (by decide +kernel) rfl rfl ?_
  refine sm_cv (N := mX4_takeVarint) (d' := d - 1) (fun r => (some (vi r.1))) (fun _ => σ) (fun r => r.2) [vi a1] [] rfl (by decide +kernel) q1768 q1770 qs76 (Or.inl ⟨rfl, q1771⟩) (show okN yX4_takeVarint 1 = true by decide +kernel) (fun H hR => hR.rvw G.1 G.2.1) rfl rfl (by omega) rfl (fun Q' => m_takeVarint_ok G (d - 1) (by omega) a1 τ Q') (fun y1 => ?_)
  refine sm_gd (fun h2 => ?_)
  refine sm_case (V g mX4_takeField d 8 [(0, vr (some (gw g))), (1, vi a1)] [] σ y1.2 Q) (V g mX4_takeField d 10 [(0, vr (some (gw g))), (1, vi a1)] [] σ y1.2 Q) ?_ ?_ (fun f83 p84 n85 => ?_)
  · refine sm_b (l' := [(0, vr (some (gw g))), (1, vi a1)]) (st' := [vi 0]) (pc' := 9) [(.iconst 0, vi 0, 9)] (by decide +kernel) rfl rfl ?_
    exact sm_zret rfl (by decide +kernel) (by decide) (fun h => hRET _ h)
  · refine sm_b (l' := [(0, vr (some (gw g))), (1, vi a1)]) (st' := [vr (some (gw g))]) (pc' := 11) [(.aload_n 0, vi 0, 11)] (by decide +kernel) rfl rfl ?_
    refine sm_tg (k := 47) (x := vl (tJ y1.2 47)) G.2.1 q1465 rfl rfl (by decide +kernel) ?_
    refine sm_b (l' := [(0, vr (some (gw g))), (1, vi a1)]) (st' := [vl (lUsh (tJ y1.2 47) 3)]) (pc' := 16) [(.iconst 3, vi 3, 15), (.lushr, vi 0, 16)] (by decide +kernel) rfl rfl ?_
    refine sm_nml (fun x5 => ?_)
    refine sm_b (l' := [(0, vr (some (gw g))), (1, vi a1), (2, vl x5)]) (st' := [vr (some (gw g)), vr (some (gw g))]) (pc' := 19) [(.lstore_n 2, vi 0, 17), (.aload_n 0, vi 0, 18), (.aload_n 0, vi 0, 19)] (by decide +kernel) rfl rfl ?_
    refine sm_tg (k := 47) (x := vl (tJ y1.2 47)) G.2.1 q1465 rfl rfl (by decide +kernel) ?_
    refine sm_ldc2 (by decide +kernel) q1772 ?_
    refine sm_b (l' := [(0, vr (some (gw g))), (1, vi a1), (2, vl x5)]) (st' := [vi (lI ((tJ y1.2 47) &&& 7)), vr (some (gw g))]) (pc' := 27) [(.land, vi 0, 26), (.l2i, vi 0, 27)] (by decide +kernel) rfl rfl ?_
    refine sm_tpi (k := 49) G.2.1 q1467 rfl rfl rfl (tp_49 g y1.2 (lI ((tJ y1.2 47) &&& 7))) (by decide +kernel) ?_
    refine sm_nmt (fun τ6 => ?_)
    refine sm_b (l' := [(0, vr (some (gw g))), (1, vi a1), (2, vl x5)]) (st' := [vl 0, vl x5]) (pc' := 32) [(.lload_n 2, vi 0, 31), (.lconst 0, vl 0, 32)] (by decide +kernel) rfl rfl ?_
    refine sm_case (V g mX4_takeField d 44 [(0, vr (some (gw g))), (1, vi a1), (2, vl x5)] [] σ τ6 Q) (V g mX4_takeField d 46 [(0, vr (some (gw g))), (1, vi a1), (2, vl x5)] [] σ τ6 Q) ?_ ?_ (fun f78 p79 n80 => ?_)
    · refine sm_b (l' := [(0, vr (some (gw g))), (1, vi a1), (2, vl x5)]) (st' := [vi 0]) (pc' := 45) [(.iconst 0, vi 0, 45)] (by decide +kernel) rfl rfl ?_
      exact sm_zret rfl (by decide +kernel) (by decide) (fun h => hRET _ h)
    · refine sm_b (l' := [(0, vr (some (gw g))), (1, vi a1), (2, vl x5)]) (st' := [vi (lI x5), vr (some (gw g))]) (pc' := 49) [(.aload_n 0, vi 0, 47), (.lload_n 2, vi 0, 48), (.l2i, vi 0, 49)] (by decide +kernel) rfl rfl ?_
      refine sm_tpi (k := 48) G.2.1 q1466 rfl rfl rfl (tp_48 g τ6 (lI x5)) (by decide +kernel) ?_
      refine sm_nmt (fun τ10 => ?_)
      refine sm_b (l' := [(0, vr (some (gw g))), (1, vi a1), (2, vl x5)]) (st' := [vr (some (gw g)), vr (some (gw g))]) (pc' := 54) [(.aload_n 0, vi 0, 53), (.aload_n 0, vi 0, 54)] (by decide +kernel) rfl rfl ?_
      refine sm_tg (k := 46) (x := vi (tI τ10 46)) G.2.1 q1464 rfl rfl (by decide +kernel) ?_
      refine sm_tpi (k := 50) G.2.1 q1468 rfl rfl rfl (tp_50 g τ10 (tI τ10 46)) (by decide +kernel) ?_
      refine sm_nmt (fun τ11 => ?_)
      refine sm_b (l' := [(0, vr (some (gw g))), (1, vi a1), (2, vl x5)]) (st' := [vr (some (gw g))]) (pc' := 61) [(.aload_n 0, vi 0, 61)] (by decide +kernel) rfl rfl ?_
      refine sm_tg (k := 49) (x := vi (tI τ11 49)) G.2.1 q1467 rfl rfl (by decide +kernel) ?_
      refine sm_bindS (fun (v15 : TT) => V g mX4_takeField d 205 [(0, vr (some (gw g)))] [] σ v15 Q) (fun v15 => ?_) (fun K16 o18 j17 => ?_)
      · refine sm_b (l' := [(0, vr (some (gw g)))]) (st' := [vr (some (gw g)), vr (some (gw g))]) (pc' := 207) [(.aload_n 0, vi 0, 206), (.aload_n 0, vi 0, 207)] (by decide +kernel) rfl rfl ?_
        refine sm_tg (k := 46) (x := vi (tI v15 46)) G.2.1 q1464 rfl rfl (by decide +kernel) ?_
        refine sm_tpi (k := 51) G.2.1 q1469 rfl rfl rfl (tp_51 g v15 (tI v15 46)) (by decide +kernel) ?_
        refine sm_nmt (fun τ19 => ?_)
        refine sm_b (l' := [(0, vr (some (gw g)))]) (st' := [vi 1]) (pc' := 214) [(.iconst 1, vi 1, 214)] (by decide +kernel) rfl rfl ?_
        exact sm_zret rfl (by decide +kernel) (by decide) (fun h => hRET _ h)
      · refine sm_gd (fun h12 => ?_)
        refine sm_case (V g mX4_takeField d 67 [(0, vr (some (gw g))), (1, vi a1), (2, vl x5)] [] σ τ11 Q) (V g mX4_takeField d 77 [(0, vr (some (gw g))), (1, vi a1), (2, vl x5)] [] σ τ11 Q) ?_ ?_ (fun f74 p75 n76 => ?_)
        · refine sm_b (l' := [(0, vr (some (gw g))), (1, vi a1), (2, vl x5)]) (st' := [vi a1, vr (some (gw g))]) (pc' := 69) [(.aload_n 0, vi 0, 68), (.iload_n 1, vi 0, 69)] (by decide +kernel) rfl rfl ?_
          refine sm_cv (N := mX4_takeVarint) (d' := d - 1) (fun r => (some (vi r.1))) (fun _ => σ) (fun r => r.2) [vi a1] [] rfl (by decide +kernel) q1768 q1770 qs76 (Or.inl ⟨rfl, q1771⟩) (show okN yX4_takeVarint 1 = true by decide +kernel) (fun H hR => hR.rvw G.1 G.2.1) rfl rfl (by omega) rfl (fun Q' => m_takeVarint_ok G (d - 1) (by omega) a1 τ11 Q') (fun y20 => ?_)
          refine sm_gd (fun h21 => ?_)
          refine sm_case (V g mX4_takeField d 75 [(0, vr (some (gw g))), (1, vi a1), (2, vl x5)] [] σ y20.2 Q) (V g mX4_takeField d 205 [(0, vr (some (gw g))), (1, vi a1), (2, vl x5)] [] σ y20.2 Q) ?_ ?_ (fun f23 p24 n25 => ?_)
          · refine sm_b (l' := [(0, vr (some (gw g))), (1, vi a1), (2, vl x5)]) (st' := [vi 0]) (pc' := 76) [(.iconst 0, vi 0, 76)] (by decide +kernel) rfl rfl ?_
            exact sm_zret rfl (by decide +kernel) (by decide) (fun h => hRET _ (o18 _ h))
          · refine sm_pick [0] (l' := [(0, vr (some (gw g)))]) rfl ?_
            exact sm_leaf (fun h => j17 _ h)
          refine sm_if_ne (off := 133) (tgt := 205) h21 (by decide +kernel) (fun c26 => ?_) (fun c26 => ?_)
          · exact n25 c26
          · exact p24 c26
        · refine sm_b (l' := [(0, vr (some (gw g))), (1, vi a1), (2, vl x5)]) (st' := [vr (some (gw g))]) (pc' := 78) [(.aload_n 0, vi 0, 78)] (by decide +kernel) rfl rfl ?_
          refine sm_tg (k := 49) (x := vi (tI τ11 49)) G.2.1 q1467 rfl rfl (by decide +kernel) ?_
          refine sm_b (l' := [(0, vr (some (gw g))), (1, vi a1), (2, vl x5)]) (st' := [vi 2, vi (tI τ11 49)]) (pc' := 82) [(.iconst 2, vi 2, 82)] (by decide +kernel) rfl rfl ?_
          refine sm_case (V g mX4_takeField d 85 [(0, vr (some (gw g))), (1, vi a1), (2, vl x5)] [] σ τ11 Q) (V g mX4_takeField d 144 [(0, vr (some (gw g))), (1, vi a1), (2, vl x5)] [] σ τ11 Q) ?_ ?_ (fun f70 p71 n72 => ?_)
          · refine sm_b (l' := [(0, vr (some (gw g))), (1, vi a1), (2, vl x5)]) (st' := [vi a1, vr (some (gw g))]) (pc' := 87) [(.aload_n 0, vi 0, 86), (.iload_n 1, vi 0, 87)] (by decide +kernel) rfl rfl ?_
            refine sm_cv (N := mX4_takeVarint) (d' := d - 1) (fun r => (some (vi r.1))) (fun _ => σ) (fun r => r.2) [vi a1] [] rfl (by decide +kernel) q1768 q1770 qs76 (Or.inl ⟨rfl, q1771⟩) (show okN yX4_takeVarint 1 = true by decide +kernel) (fun H hR => hR.rvw G.1 G.2.1) rfl rfl (by omega) rfl (fun Q' => m_takeVarint_ok G (d - 1) (by omega) a1 τ11 Q') (fun y29 => ?_)
            refine sm_gd (fun h30 => ?_)
            refine sm_case (V g mX4_takeField d 117 [(0, vr (some (gw g))), (1, vi a1), (2, vl x5)] [] σ y29.2 Q) (V g mX4_takeField d 119 [(0, vr (some (gw g))), (1, vi a1), (2, vl x5)] [] σ y29.2 Q) ?_ ?_ (fun f37 p38 n39 => ?_)
            · refine sm_b (l' := [(0, vr (some (gw g))), (1, vi a1), (2, vl x5)]) (st' := [vi 0]) (pc' := 118) [(.iconst 0, vi 0, 118)] (by decide +kernel) rfl rfl ?_
              exact sm_zret rfl (by decide +kernel) (by decide) (fun h => hRET _ (o18 _ h))
            · refine sm_b (l' := [(0, vr (some (gw g))), (1, vi a1), (2, vl x5)]) (st' := [vr (some (gw g)), vr (some (gw g))]) (pc' := 121) [(.aload_n 0, vi 0, 120), (.aload_n 0, vi 0, 121)] (by decide +kernel) rfl rfl ?_
              refine sm_tg (k := 46) (x := vi (tI y29.2 46)) G.2.1 q1464 rfl rfl (by decide +kernel) ?_
              refine sm_tpi (k := 50) G.2.1 q1468 rfl rfl rfl (tp_50 g y29.2 (tI y29.2 46)) (by decide +kernel) ?_
              refine sm_nmt (fun τ35 => ?_)
              refine sm_b (l' := [(0, vr (some (gw g))), (1, vi a1), (2, vl x5)]) (st' := [vr (some (gw g)), vr (some (gw g))]) (pc' := 129) [(.aload_n 0, vi 0, 128), (.dup, vi 0, 129)] (by decide +kernel) rfl rfl ?_
              refine sm_tg (k := 46) (x := vi (tI τ35 46)) G.2.1 q1464 rfl rfl (by decide +kernel) ?_
              refine sm_b (l' := [(0, vr (some (gw g))), (1, vi a1), (2, vl x5)]) (st' := [vr (some (gw g)), vi (tI τ35 46), vr (some (gw g))]) (pc' := 133) [(.aload_n 0, vi 0, 133)] (by decide +kernel) rfl rfl ?_
              refine sm_tg (k := 47) (x := vl (tJ τ35 47)) G.2.1 q1465 rfl rfl (by decide +kernel) ?_
              refine sm_b (l' := [(0, vr (some (gw g))), (1, vi a1), (2, vl x5)]) (st' := [vi ((tI τ35 46) + (lI (tJ τ35 47))), vr (some (gw g))]) (pc' := 138) [(.l2i, vi 0, 137), (.iadd, vi 0, 138)] (by decide +kernel) rfl rfl ?_
              refine sm_tpi (k := 46) G.2.1 q1464 rfl rfl rfl (tp_46 g τ35 ((tI τ35 46) + (lI (tJ τ35 47)))) (by decide +kernel) ?_
              refine sm_nmt (fun τ36 => ?_)
              refine sm_b (l' := [(0, vr (some (gw g))), (1, vi a1), (2, vl x5)]) (st' := []) (pc' := 205) [(.goto 64, vi 0, 205)] (by decide +kernel) rfl rfl ?_
              refine sm_pick [0] (l' := [(0, vr (some (gw g)))]) rfl ?_
              exact sm_leaf (fun h => j17 _ h)
            refine sm_if_eq (off := 27) (tgt := 117) h30 (by decide +kernel) (fun c40 => ?_) (fun c40 => ?_)
            · exact p38 (Or.inl (Or.inl c40))
            · refine sm_b (l' := [(0, vr (some (gw g))), (1, vi a1), (2, vl x5)]) (st' := [vr (some (gw g))]) (pc' := 94) [(.aload_n 0, vi 0, 94)] (by decide +kernel) rfl rfl ?_
              refine sm_tg (k := 47) (x := vl (tJ y29.2 47)) G.2.1 q1465 rfl rfl (by decide +kernel) ?_
              refine sm_b (l' := [(0, vr (some (gw g))), (1, vi a1), (2, vl x5)]) (st' := [vl 0, vl (tJ y29.2 47)]) (pc' := 98) [(.lconst 0, vl 0, 98)] (by decide +kernel) rfl rfl ?_
              refine sm_lc_lt (off := 18) (tgt := 117) (by decide +kernel) (by decide +kernel) (fun c41 => ?_) (fun c41 => ?_)
              · exact p38 (Or.inl (Or.inr c41))
              · refine sm_b (l' := [(0, vr (some (gw g))), (1, vi a1), (2, vl x5)]) (st' := [vr (some (gw g))]) (pc' := 103) [(.aload_n 0, vi 0, 103)] (by decide +kernel) rfl rfl ?_
                refine sm_tg (k := 47) (x := vl (tJ y29.2 47)) G.2.1 q1465 rfl rfl (by decide +kernel) ?_
                refine sm_b (l' := [(0, vr (some (gw g))), (1, vi a1), (2, vl x5)]) (st' := [vr (some (gw g)), vi a1, vl (tJ y29.2 47)]) (pc' := 108) [(.iload_n 1, vi 0, 107), (.aload_n 0, vi 0, 108)] (by decide +kernel) rfl rfl ?_
                refine sm_tg (k := 46) (x := vi (tI y29.2 46)) G.2.1 q1464 rfl rfl (by decide +kernel) ?_
                refine sm_b (l' := [(0, vr (some (gw g))), (1, vi a1), (2, vl x5)]) (st' := [vl (iL (a1 - (tI y29.2 46))), vl (tJ y29.2 47)]) (pc' := 113) [(.isub, vi 0, 112), (.i2l, vi 0, 113)] (by decide +kernel) rfl rfl ?_
                refine sm_lc_le (off := 5) (tgt := 119) (by decide +kernel) (by decide +kernel) (fun c42 => ?_) (fun c42 => ?_)
                · exact n39 (fun q => q.elim (fun q => q.elim c40 c41) (fun q => q c42))
                · exact p38 (Or.inr c42)
          · refine sm_b (l' := [(0, vr (some (gw g))), (1, vi a1), (2, vl x5)]) (st' := [vr (some (gw g))]) (pc' := 145) [(.aload_n 0, vi 0, 145)] (by decide +kernel) rfl rfl ?_
            refine sm_tg (k := 49) (x := vi (tI τ11 49)) G.2.1 q1467 rfl rfl (by decide +kernel) ?_
            refine sm_b (l' := [(0, vr (some (gw g))), (1, vi a1), (2, vl x5)]) (st' := [vi 1, vi (tI τ11 49)]) (pc' := 149) [(.iconst 1, vi 1, 149)] (by decide +kernel) rfl rfl ?_
            refine sm_case (V g mX4_takeField d 160 [(0, vr (some (gw g))), (1, vi a1), (2, vl x5)] [] σ τ11 Q) (V g mX4_takeField d 203 [(0, vr (some (gw g))), (1, vi a1), (2, vl x5)] [] σ τ11 Q) ?_ ?_ (fun f65 p66 n67 => ?_)
            · refine sm_b (l' := [(0, vr (some (gw g))), (1, vi a1), (2, vl x5)]) (st' := [vr (some (gw g))]) (pc' := 161) [(.aload_n 0, vi 0, 161)] (by decide +kernel) rfl rfl ?_
              refine sm_tg (k := 49) (x := vi (tI τ11 49)) G.2.1 q1467 rfl rfl (by decide +kernel) ?_
              refine sm_b (l' := [(0, vr (some (gw g))), (1, vi a1), (2, vl x5)]) (st' := [vi 1, vi (tI τ11 49)]) (pc' := 165) [(.iconst 1, vi 1, 165)] (by decide +kernel) rfl rfl ?_
              refine sm_bind1 (fun (v48 : Int) => V g mX4_takeField d 174 [(0, vr (some (gw g))), (1, vi a1)] [vi v48] σ τ11 Q) (fun v48 => ?_) (fun K49 j50 => ?_)
              · refine sm_b (l' := [(0, vr (some (gw g))), (1, vi a1), (4, vi v48)]) (st' := [vr (some (gw g)), vi a1, vi v48]) (pc' := 180) [(.istore 4, vi 0, 176), (.iload 4, vi 0, 178), (.iload_n 1, vi 0, 179), (.aload_n 0, vi 0, 180)] (by decide +kernel) rfl rfl ?_
                refine sm_tg (k := 46) (x := vi (tI τ11 46)) G.2.1 q1464 rfl rfl (by decide +kernel) ?_
                refine sm_b (l' := [(0, vr (some (gw g))), (1, vi a1), (4, vi v48)]) (st' := [vi (a1 - (tI τ11 46)), vi v48]) (pc' := 184) [(.isub, vi 0, 184)] (by decide +kernel) rfl rfl ?_
                refine sm_gd (fun h52 => ?_)
                refine sm_gd (fun h53 => ?_)
                refine sm_case (V g mX4_takeField d 189 [(0, vr (some (gw g))), (1, vi a1), (4, vi v48)] [] σ τ11 Q) (V g mX4_takeField d 187 [(0, vr (some (gw g))), (1, vi a1), (4, vi v48)] [] σ τ11 Q) ?_ ?_ (fun f57 p58 n59 => ?_)
                · refine sm_b (l' := [(0, vr (some (gw g))), (1, vi a1), (4, vi v48)]) (st' := [vr (some (gw g)), vr (some (gw g))]) (pc' := 191) [(.aload_n 0, vi 0, 190), (.dup, vi 0, 191)] (by decide +kernel) rfl rfl ?_
                  refine sm_tg (k := 46) (x := vi (tI τ11 46)) G.2.1 q1464 rfl rfl (by decide +kernel) ?_
                  refine sm_b (l' := [(0, vr (some (gw g))), (1, vi a1), (4, vi v48)]) (st' := [vi ((tI τ11 46) + v48), vr (some (gw g))]) (pc' := 197) [(.iload 4, vi 0, 196), (.iadd, vi 0, 197)] (by decide +kernel) rfl rfl ?_
                  refine sm_tpi (k := 46) G.2.1 q1464 rfl rfl rfl (tp_46 g τ11 ((tI τ11 46) + v48)) (by decide +kernel) ?_
                  refine sm_nmt (fun τ56 => ?_)
                  refine sm_b (l' := [(0, vr (some (gw g))), (1, vi a1), (4, vi v48)]) (st' := []) (pc' := 205) [(.goto 5, vi 0, 205)] (by decide +kernel) rfl rfl ?_
                  refine sm_pick [0] (l' := [(0, vr (some (gw g)))]) rfl ?_
                  exact sm_leaf (fun h => j17 _ h)
                · refine sm_b (l' := [(0, vr (some (gw g))), (1, vi a1), (4, vi v48)]) (st' := [vi 0]) (pc' := 188) [(.iconst 0, vi 0, 188)] (by decide +kernel) rfl rfl ?_
                  exact sm_zret rfl (by decide +kernel) (by decide) (fun h => hRET _ (o18 _ h))
                refine sm_icmp_le (off := 5) (tgt := 189) h52 h53 (by decide +kernel) (fun c60 => ?_) (fun c60 => ?_)
                · exact p58 c60
                · exact n59 c60
              · refine sm_case (V g mX4_takeField d 168 [(0, vr (some (gw g))), (1, vi a1), (2, vl x5)] [] σ τ11 Q) (V g mX4_takeField d 173 [(0, vr (some (gw g))), (1, vi a1), (2, vl x5)] [] σ τ11 Q) ?_ ?_ (fun f61 p62 n63 => ?_)
                · refine sm_b (l' := [(0, vr (some (gw g))), (1, vi a1), (2, vl x5)]) (st' := [vi 8]) (pc' := 174) [(.bipush 8, vi 8, 170), (.goto 4, vi 0, 174)] (by decide +kernel) rfl rfl ?_
                  refine sm_pick [0, 1] (l' := [(0, vr (some (gw g))), (1, vi a1)]) rfl ?_
                  exact sm_leaf (fun h => j50 _ h)
                · refine sm_b (l' := [(0, vr (some (gw g))), (1, vi a1), (2, vl x5)]) (st' := [vi 4]) (pc' := 174) [(.iconst 4, vi 4, 174)] (by decide +kernel) rfl rfl ?_
                  refine sm_pick [0, 1] (l' := [(0, vr (some (gw g))), (1, vi a1)]) rfl ?_
                  exact sm_leaf (fun h => j50 _ h)
                refine sm_icmp_ne (off := 8) (tgt := 173) h12 (by decide) (by decide +kernel) (fun c64 => ?_) (fun c64 => ?_)
                · exact n63 c64
                · exact p62 c64
            · refine sm_b (l' := [(0, vr (some (gw g))), (1, vi a1), (2, vl x5)]) (st' := [vi 0]) (pc' := 204) [(.iconst 0, vi 0, 204)] (by decide +kernel) rfl rfl ?_
              exact sm_zret rfl (by decide +kernel) (by decide) (fun h => hRET _ (o18 _ h))
            refine sm_icmp_eq (off := 11) (tgt := 160) h12 (by decide) (by decide +kernel) (fun c68 => ?_) (fun c68 => ?_)
            · exact p66 (Or.inl c68)
            · refine sm_b (l' := [(0, vr (some (gw g))), (1, vi a1), (2, vl x5)]) (st' := [vr (some (gw g))]) (pc' := 153) [(.aload_n 0, vi 0, 153)] (by decide +kernel) rfl rfl ?_
              refine sm_tg (k := 49) (x := vi (tI τ11 49)) G.2.1 q1467 rfl rfl (by decide +kernel) ?_
              refine sm_b (l' := [(0, vr (some (gw g))), (1, vi a1), (2, vl x5)]) (st' := [vi 5, vi (tI τ11 49)]) (pc' := 157) [(.iconst 5, vi 5, 157)] (by decide +kernel) rfl rfl ?_
              refine sm_icmp_ne (off := 46) (tgt := 203) h12 (by decide) (by decide +kernel) (fun c69 => ?_) (fun c69 => ?_)
              · exact n67 (fun q => q.elim c68 c69)
              · exact p66 (Or.inr c69)
          refine sm_icmp_ne (off := 62) (tgt := 144) h12 (by decide) (by decide +kernel) (fun c73 => ?_) (fun c73 => ?_)
          · exact n72 c73
          · exact p71 c73
        refine sm_if_ne (off := 13) (tgt := 77) h12 (by decide +kernel) (fun c77 => ?_) (fun c77 => ?_)
        · exact n76 c77
        · exact p75 c77
    refine sm_lc_eq (off := 11) (tgt := 44) (by decide +kernel) (by decide +kernel) (fun c81 => ?_) (fun c81 => ?_)
    · exact p79 (Or.inl c81)
    · refine sm_b (l' := [(0, vr (some (gw g))), (1, vi a1), (2, vl x5)]) (st' := [vl x5]) (pc' := 37) [(.lload_n 2, vi 0, 37)] (by decide +kernel) rfl rfl ?_
      refine sm_ldc2 (by decide +kernel) q1773 ?_
      refine sm_lc_le (off := 5) (tgt := 46) (by decide +kernel) (by decide +kernel) (fun c82 => ?_) (fun c82 => ?_)
      · exact n80 (fun q => q.elim c81 (fun q => q c82))
      · exact p79 (Or.inr c82)
  refine sm_if_ne (off := 5) (tgt := 10) h2 (by decide +kernel) (fun c86 => ?_) (fun c86 => ?_)
  · exact n85 c86
  · exact p84 c86
def m_fieldOf_L2 (u1 : Int) (u2 : Int) (τ : TT) : Nat → Int → Option (Int)
  | 0, _ => none
  | n + 1, w3 => gd (rg w3) (gd (rg (tI τ 38)) (if (tI τ 38) ≤ w3 then (some (((-1)))) else (gd (ib w3 50) (gd (rg (tA τ 23 w3.toNat)) (gd (rg u1) (gd ((tA τ 23 w3.toNat) = u1 → rg (tA τ 24 w3.toNat)) (gd ((tA τ 23 w3.toNat) = u1 → rg u2) (if ((tA τ 23 w3.toNat) = u1) ∧ ((tA τ 24 w3.toNat) = u2) then (some w3) else (m_fieldOf_L2 u1 u2 τ n (w3 + 1))))))))))
def m_fieldOf (a1 : Int) (a2 : Int) (τ : TT) : Option (Int) := m_fieldOf_L2 a1 a2 τ FU 0
set_option maxHeartbeats 4000000 in
theorem m_fieldOf_L2_ok {g : GE} (G : GG g) {σ : ST} {Q : VQ} (d : Nat) (hd1 : 0 ≤ d) (u1 : Int) (u2 : Int) (τ : TT)  {K : Int → Prop} (hRET : ∀ r : Int, K (r) → Q.1 (some (vi r)) σ τ) : ∀ (n : Nat) (w3 : Int), Sm (V g mX4_fieldOf d 2 [(0, vr (some (gw g))), (1, vi u1), (2, vi u2), (3, vi w3)] [] σ τ Q) (m_fieldOf_L2 u1 u2 τ n w3) K := by
  intro n
  induction n with
  | zero => intro w3; exact sm_none
  | succ n ih =>
    intro w3
    rw [m_fieldOf_L2.eq_2]
    refine sm_b (l' := [(0, vr (some (gw g))), (1, vi u1), (2, vi u2), (3, vi w3)]) (st' := [vr (some (gw g)), vi w3]) (pc' := 4) [(.iload_n 3, vi 0, 3), (.aload_n 0, vi 0, 4)] (by decide +kernel) rfl rfl ?_
    refine sm_tg (k := 38) (x := vi (tI τ 38)) G.2.1 q1456 rfl rfl (by decide +kernel) ?_
    refine sm_gd (fun h1 => ?_)
    refine sm_gd (fun h2 => ?_)
    refine sm_case (V g mX4_fieldOf d 38 [(0, vr (some (gw g))), (1, vi u1), (2, vi u2), (3, vi w3)] [] σ τ Q) (V g mX4_fieldOf d 10 [(0, vr (some (gw g))), (1, vi u1), (2, vi u2), (3, vi w3)] [] σ τ Q) ?_ ?_ (fun f21 p22 n23 => ?_)
    · refine sm_b (l' := [(0, vr (some (gw g))), (1, vi u1), (2, vi u2), (3, vi w3)]) (st' := [vi ((-1))]) (pc' := 39) [(.iconst (-1), vi (-1), 39)] (by decide +kernel) rfl rfl ?_
      exact sm_iret rfl (by decide +kernel) (fun h => hRET _ h)
    · refine sm_b (l' := [(0, vr (some (gw g))), (1, vi u1), (2, vi u2), (3, vi w3)]) (st' := [vr (some (gw g))]) (pc' := 11) [(.aload_n 0, vi 0, 11)] (by decide +kernel) rfl rfl ?_
      refine sm_tg (k := 23) (x := vr (some (gT g 23))) G.2.1 q1441 rfl rfl (by decide +kernel) ?_
      refine sm_b (l' := [(0, vr (some (gw g))), (1, vi u1), (2, vi u2), (3, vi w3)]) (st' := [vi w3, vr (some (gT g 23))]) (pc' := 15) [(.iload_n 3, vi 0, 15)] (by decide +kernel) rfl rfl ?_
      refine sm_gd (fun h8 => ?_)
      refine sm_ial (k := 23) G.2.1 (by decide) rfl (ibt (k := 23) h8) h8 (by decide +kernel) ?_
      refine sm_b (l' := [(0, vr (some (gw g))), (1, vi u1), (2, vi u2), (3, vi w3)]) (st' := [vi u1, vi (tA τ 23 w3.toNat)]) (pc' := 17) [(.iload_n 1, vi 0, 17)] (by decide +kernel) rfl rfl ?_
      refine sm_gd (fun h9 => ?_)
      refine sm_gd (fun h10 => ?_)
      refine sm_gd (fun h12 => ?_)
      refine sm_gd (fun h13 => ?_)
      refine sm_case (V g mX4_fieldOf d 30 [(0, vr (some (gw g))), (1, vi u1), (2, vi u2), (3, vi w3)] [] σ τ Q) (V g mX4_fieldOf d 32 [(0, vr (some (gw g))), (1, vi u1), (2, vi u2), (3, vi w3)] [] σ τ Q) ?_ ?_ (fun f16 p17 n18 => ?_)
      · refine sm_b (l' := [(0, vr (some (gw g))), (1, vi u1), (2, vi u2), (3, vi w3)]) (st' := [vi w3]) (pc' := 31) [(.iload_n 3, vi 0, 31)] (by decide +kernel) rfl rfl ?_
        exact sm_iret rfl (by decide +kernel) (fun h => hRET _ h)
      · refine sm_b (l' := [(0, vr (some (gw g))), (1, vi u1), (2, vi u2), (3, vi (w3 + 1))]) (st' := []) (pc' := 2) [(.iinc 3 1, vi 1, 35), (.goto (-33), vi 0, 2)] (by decide +kernel) rfl rfl ?_
        exact ih (w3 + 1)
      refine sm_icmp_ne (off := 15) (tgt := 32) h9 h10 (by decide +kernel) (fun c19 => ?_) (fun c19 => ?_)
      · exact n18 (fun q => c19 q.1)
      · have w11 : (tA τ 23 w3.toNat) = u1 := c19
        refine sm_b (l' := [(0, vr (some (gw g))), (1, vi u1), (2, vi u2), (3, vi w3)]) (st' := [vr (some (gw g))]) (pc' := 21) [(.aload_n 0, vi 0, 21)] (by decide +kernel) rfl rfl ?_
        refine sm_tg (k := 24) (x := vr (some (gT g 24))) G.2.1 q1442 rfl rfl (by decide +kernel) ?_
        refine sm_b (l' := [(0, vr (some (gw g))), (1, vi u1), (2, vi u2), (3, vi w3)]) (st' := [vi w3, vr (some (gT g 24))]) (pc' := 25) [(.iload_n 3, vi 0, 25)] (by decide +kernel) rfl rfl ?_
        refine sm_ial (k := 24) G.2.1 (by decide) rfl (ibt (k := 24) h8) h8 (by decide +kernel) ?_
        refine sm_b (l' := [(0, vr (some (gw g))), (1, vi u1), (2, vi u2), (3, vi w3)]) (st' := [vi u2, vi (tA τ 24 w3.toNat)]) (pc' := 27) [(.iload_n 2, vi 0, 27)] (by decide +kernel) rfl rfl ?_
        refine sm_icmp_ne (off := 5) (tgt := 32) (h12 w11) (h13 w11) (by decide +kernel) (fun c20 => ?_) (fun c20 => ?_)
        · exact n18 (fun q => c20 q.2)
        · exact p17 ⟨c19, c20⟩
    refine sm_icmp_ge (off := 31) (tgt := 38) h1 h2 (by decide +kernel) (fun c24 => ?_) (fun c24 => ?_)
    · exact p22 c24
    · exact n23 c24
set_option maxHeartbeats 4000000 in
theorem m_fieldOf_ok {g : GE} (G : GG g) {σ : ST} (d : Nat) (hd1 : 0 ≤ d) (a1 : Int) (a2 : Int)  (τ : TT) (Q : VQ) : Sm (V g mX4_fieldOf d 0 [(0, vr (some (gw g))), (1, vi a1), (2, vi a2)] [] σ τ Q) (m_fieldOf a1 a2 τ) (fun r => Q.1 (some (vi r)) σ τ) := by
  unfold m_fieldOf
  refine sm_top (fun K hRET => ?_)
  refine sm_b (l' := [(0, vr (some (gw g))), (1, vi a1), (2, vi a2), (3, vi 0)]) (st' := []) (pc' := 2) [(.iconst 0, vi 0, 1), (.istore_n 3, vi 0, 2)] (by decide +kernel) rfl rfl ?_
  exact m_fieldOf_L2_ok G d hd1 a1 a2 τ  (fun r h => hRET _ h) FU 0
def m_ownKind (a1 : Int) (τ : TT) : Option (Int) := gd (ib a1 50) (nm (tA τ 28 a1.toNat) fun x2 => gd (rg x2) (if x2 = 6 then (some 5) else (if x2 = 7 then (some 1) else (if (x2 = 9) ∨ (x2 = 10) then (some 2) else (if (x2 < 16) ∨ (32 ≤ x2) then (some 0) else (some 2))))))
set_option maxHeartbeats 4000000 in
theorem m_ownKind_ok {g : GE} (G : GG g) {σ : ST} (d : Nat) (hd1 : 0 ≤ d) (a1 : Int)  (τ : TT) (Q : VQ) : Sm (V g mX4_ownKind d 0 [(0, vr (some (gw g))), (1, vi a1)] [] σ τ Q) (m_ownKind a1 τ) (fun r => Q.1 (some (vi r)) σ τ) := by
  unfold m_ownKind
  refine sm_top (fun K hRET => ?_)
  refine sm_b (l' := [(0, vr (some (gw g))), (1, vi a1)]) (st' := [vr (some (gw g))]) (pc' := 1) [(.aload_n 0, vi 0, 1)] (by decide +kernel) rfl rfl ?_
  refine sm_tg (k := 28) (x := vr (some (gT g 28))) G.2.1 q1446 rfl rfl (by decide +kernel) ?_
  refine sm_b (l' := [(0, vr (some (gw g))), (1, vi a1)]) (st' := [vi a1, vr (some (gT g 28))]) (pc' := 5) [(.iload_n 1, vi 0, 5)] (by decide +kernel) rfl rfl ?_
  refine sm_gd (fun h1 => ?_)
  refine sm_ial (k := 28) G.2.1 (by decide) rfl (ibt (k := 28) h1) h1 (by decide +kernel) ?_
  refine sm_nmi (fun x2 => ?_)
  refine sm_b (l' := [(0, vr (some (gw g))), (1, vi a1), (2, vi x2)]) (st' := [vi 6, vi x2]) (pc' := 10) [(.istore_n 2, vi 0, 7), (.iload_n 2, vi 0, 8), (.bipush 6, vi 6, 10)] (by decide +kernel) rfl rfl ?_
  refine sm_gd (fun h3 => ?_)
  refine sm_case (V g mX4_ownKind d 13 [(0, vr (some (gw g))), (1, vi a1), (2, vi x2)] [] σ τ Q) (V g mX4_ownKind d 17 [(0, vr (some (gw g))), (1, vi a1), (2, vi x2)] [] σ τ Q) ?_ ?_ (fun f26 p27 n28 => ?_)
  · refine sm_b (l' := [(0, vr (some (gw g))), (1, vi a1), (2, vi x2)]) (st' := [vi 5]) (pc' := 56) [(.iconst 5, vi 5, 14), (.goto 42, vi 0, 56)] (by decide +kernel) rfl rfl ?_
    exact sm_iret rfl (by decide +kernel) (fun h => hRET _ h)
  · refine sm_b (l' := [(0, vr (some (gw g))), (1, vi a1), (2, vi x2)]) (st' := [vi 7, vi x2]) (pc' := 20) [(.iload_n 2, vi 0, 18), (.bipush 7, vi 7, 20)] (by decide +kernel) rfl rfl ?_
    refine sm_case (V g mX4_ownKind d 23 [(0, vr (some (gw g))), (1, vi a1), (2, vi x2)] [] σ τ Q) (V g mX4_ownKind d 27 [(0, vr (some (gw g))), (1, vi a1), (2, vi x2)] [] σ τ Q) ?_ ?_ (fun f22 p23 n24 => ?_)
    · refine sm_b (l' := [(0, vr (some (gw g))), (1, vi a1), (2, vi x2)]) (st' := [vi 1]) (pc' := 56) [(.iconst 1, vi 1, 24), (.goto 32, vi 0, 56)] (by decide +kernel) rfl rfl ?_
      exact sm_iret rfl (by decide +kernel) (fun h => hRET _ h)
    · refine sm_b (l' := [(0, vr (some (gw g))), (1, vi a1), (2, vi x2)]) (st' := [vi 9, vi x2]) (pc' := 30) [(.iload_n 2, vi 0, 28), (.bipush 9, vi 9, 30)] (by decide +kernel) rfl rfl ?_
      refine sm_case (V g mX4_ownKind d 51 [(0, vr (some (gw g))), (1, vi a1), (2, vi x2)] [] σ τ Q) (V g mX4_ownKind d 39 [(0, vr (some (gw g))), (1, vi a1), (2, vi x2)] [] σ τ Q) ?_ ?_ (fun f17 p18 n19 => ?_)
      · refine sm_b (l' := [(0, vr (some (gw g))), (1, vi a1), (2, vi x2)]) (st' := [vi 2]) (pc' := 56) [(.iconst 2, vi 2, 52), (.goto 4, vi 0, 56)] (by decide +kernel) rfl rfl ?_
        exact sm_iret rfl (by decide +kernel) (fun h => hRET _ h)
      · refine sm_b (l' := [(0, vr (some (gw g))), (1, vi a1), (2, vi x2)]) (st' := [vi 16, vi x2]) (pc' := 42) [(.iload_n 2, vi 0, 40), (.bipush 16, vi 16, 42)] (by decide +kernel) rfl rfl ?_
        refine sm_case (V g mX4_ownKind d 55 [(0, vr (some (gw g))), (1, vi a1), (2, vi x2)] [] σ τ Q) (V g mX4_ownKind d 51 [(0, vr (some (gw g))), (1, vi a1), (2, vi x2)] [] σ τ Q) ?_ ?_ (fun f12 p13 n14 => ?_)
        · refine sm_b (l' := [(0, vr (some (gw g))), (1, vi a1), (2, vi x2)]) (st' := [vi 0]) (pc' := 56) [(.iconst 0, vi 0, 56)] (by decide +kernel) rfl rfl ?_
          exact sm_iret rfl (by decide +kernel) (fun h => hRET _ h)
        · refine sm_b (l' := [(0, vr (some (gw g))), (1, vi a1), (2, vi x2)]) (st' := [vi 2]) (pc' := 56) [(.iconst 2, vi 2, 52), (.goto 4, vi 0, 56)] (by decide +kernel) rfl rfl ?_
          exact sm_iret rfl (by decide +kernel) (fun h => hRET _ h)
        refine sm_icmp_lt (off := 13) (tgt := 55) h3 (by decide) (by decide +kernel) (fun c15 => ?_) (fun c15 => ?_)
        · exact p13 (Or.inl c15)
        · refine sm_b (l' := [(0, vr (some (gw g))), (1, vi a1), (2, vi x2)]) (st' := [vi 32, vi x2]) (pc' := 48) [(.iload_n 2, vi 0, 46), (.bipush 32, vi 32, 48)] (by decide +kernel) rfl rfl ?_
          refine sm_icmp_ge (off := 7) (tgt := 55) h3 (by decide) (by decide +kernel) (fun c16 => ?_) (fun c16 => ?_)
          · exact p13 (Or.inr c16)
          · exact n14 (fun q => q.elim c15 c16)
      refine sm_icmp_eq (off := 21) (tgt := 51) h3 (by decide) (by decide +kernel) (fun c20 => ?_) (fun c20 => ?_)
      · exact p18 (Or.inl c20)
      · refine sm_b (l' := [(0, vr (some (gw g))), (1, vi a1), (2, vi x2)]) (st' := [vi 10, vi x2]) (pc' := 36) [(.iload_n 2, vi 0, 34), (.bipush 10, vi 10, 36)] (by decide +kernel) rfl rfl ?_
        refine sm_icmp_eq (off := 15) (tgt := 51) h3 (by decide) (by decide +kernel) (fun c21 => ?_) (fun c21 => ?_)
        · exact p18 (Or.inr c21)
        · exact n19 (fun q => q.elim c20 c21)
    refine sm_icmp_ne (off := 7) (tgt := 27) h3 (by decide) (by decide +kernel) (fun c25 => ?_) (fun c25 => ?_)
    · exact n24 c25
    · exact p23 c25
  refine sm_icmp_ne (off := 7) (tgt := 17) h3 (by decide) (by decide +kernel) (fun c29 => ?_) (fun c29 => ?_)
  · exact n28 c29
  · exact p27 c29
def m_isPlain (a1 : Int) (τ : TT) : Option (Int) := Option.bind (m_ownKind a1 τ) fun y1 => gd (rg y1) (if y1 = 2 then (some 0) else (some 1))
set_option maxHeartbeats 4000000 in
theorem m_isPlain_ok {g : GE} (G : GG g) {σ : ST} (d : Nat) (hd1 : 1 ≤ d) (a1 : Int)  (τ : TT) (Q : VQ) : Sm (V g mX4_isPlain d 0 [(0, vr (some (gw g))), (1, vi a1)] [] σ τ Q) (m_isPlain a1 τ) (fun r => Q.1 (some (vi r)) σ τ) := by
  unfold m_isPlain
  refine sm_top (fun K hRET => ?_)
  refine sm_b (l' := [(0, vr (some (gw g))), (1, vi a1)]) (st' := [vi a1, vr (some (gw g))]) (pc' := 2) [(.aload_n 0, vi 0, 1), (.iload_n 1, vi 0, 2)] (by decide +kernel) rfl rfl ?_
  refine sm_cv (N := mX4_ownKind) (d' := d - 1) (fun r => (some (vi r))) (fun _ => σ) (fun _ => τ) [vi a1] [] rfl (by decide +kernel) q1782 q1784 qs79 (Or.inl ⟨rfl, q1785⟩) (show okN yX4_ownKind 1 = true by decide +kernel) (fun H hR => hR.rvw G.1 G.2.1) rfl rfl (by omega) rfl (fun Q' => m_ownKind_ok G (d - 1) (by omega) a1 τ Q') (fun y1 => ?_)
  refine sm_b (l' := [(0, vr (some (gw g))), (1, vi a1)]) (st' := [vi 2, vi y1]) (pc' := 6) [(.iconst 2, vi 2, 6)] (by decide +kernel) rfl rfl ?_
  refine sm_gd (fun h2 => ?_)
  refine sm_case (V g mX4_isPlain d 13 [(0, vr (some (gw g))), (1, vi a1)] [] σ τ Q) (V g mX4_isPlain d 9 [(0, vr (some (gw g))), (1, vi a1)] [] σ τ Q) ?_ ?_ (fun f5 p6 n7 => ?_)
  · refine sm_b (l' := [(0, vr (some (gw g))), (1, vi a1)]) (st' := [vi 0]) (pc' := 14) [(.iconst 0, vi 0, 14)] (by decide +kernel) rfl rfl ?_
    exact sm_zret rfl (by decide +kernel) (by decide) (fun h => hRET _ h)
  · refine sm_b (l' := [(0, vr (some (gw g))), (1, vi a1)]) (st' := [vi 1]) (pc' := 14) [(.iconst 1, vi 1, 10), (.goto 4, vi 0, 14)] (by decide +kernel) rfl rfl ?_
    exact sm_zret rfl (by decide +kernel) (by decide) (fun h => hRET _ h)
  refine sm_icmp_eq (off := 7) (tgt := 13) h2 (by decide) (by decide +kernel) (fun c8 => ?_) (fun c8 => ?_)
  · exact p6 c8
  · exact n7 c8
def m_rightField (a1 : Int) (τ : TT) : Option (Int) := Option.bind (m_fieldOf a1 (tI τ 48) τ) fun y1 => gd (rg y1) (gd (¬ (y1 = ((-1))) → ok (m_ownKind y1 τ)) (gd (¬ (y1 = ((-1))) → rg (tI τ 49)) (gd (¬ (y1 = ((-1))) → rg (vv (m_ownKind y1 τ))) (if (y1 = ((-1))) ∨ ((tI τ 49) = (vv (m_ownKind y1 τ))) then (some y1) else (gd (ib y1 50) (gd (rg (tA τ 29 y1.toNat)) (gd (¬ ((tA τ 29 y1.toNat) = 0) → ok (m_isPlain y1 τ)) (gd (¬ ((tA τ 29 y1.toNat) = 0) → rg (vv (m_isPlain y1 τ))) (gd (¬ (((tA τ 29 y1.toNat) = 0) ∨ ((vv (m_isPlain y1 τ)) = 0)) → rg (tI τ 49)) (if (((tA τ 29 y1.toNat) = 0) ∨ ((vv (m_isPlain y1 τ)) = 0)) ∨ (¬ ((tI τ 49) = 2)) then (some (((-1)))) else (some y1)))))))))))
set_option maxHeartbeats 4000000 in
theorem m_rightField_ok {g : GE} (G : GG g) {σ : ST} (d : Nat) (hd1 : 2 ≤ d) (a1 : Int)  (τ : TT) (Q : VQ) : Sm (V g mX4_rightField d 0 [(0, vr (some (gw g))), (1, vi a1)] [] σ τ Q) (m_rightField a1 τ) (fun r => Q.1 (some (vi r)) σ τ) := by
  unfold m_rightField
  refine sm_top (fun K hRET => ?_)
  refine sm_b (l' := [(0, vr (some (gw g))), (1, vi a1)]) (st' := [vr (some (gw g)), vi a1, vr (some (gw g))]) (pc' := 3) [(.aload_n 0, vi 0, 1), (.iload_n 1, vi 0, 2), (.aload_n 0, vi 0, 3)] (by decide +kernel) rfl rfl ?_
  refine sm_tg (k := 48) (x := vi (tI τ 48)) G.2.1 q1466 rfl rfl (by decide +kernel) ?_
  refine sm_cv (N := mX4_fieldOf) (d' := d - 1) (fun r => (some (vi r))) (fun _ => σ) (fun _ => τ) [vi a1, vi (tI τ 48)] [] rfl (by decide +kernel) q1778 q1780 qs78 (Or.inl ⟨rfl, q1781⟩) (show okN yX4_fieldOf 2 = true by decide +kernel) (fun H hR => hR.rvw G.1 G.2.1) rfl rfl (by omega) rfl (fun Q' => m_fieldOf_ok G (d - 1) (by omega) a1 (tI τ 48) τ Q') (fun y1 => ?_)
  refine sm_b (l' := [(0, vr (some (gw g))), (1, vi a1), (2, vi y1)]) (st' := [vi ((-1)), vi y1]) (pc' := 12) [(.istore_n 2, vi 0, 10), (.iload_n 2, vi 0, 11), (.iconst (-1), vi (-1), 12)] (by decide +kernel) rfl rfl ?_
  refine sm_gd (fun h2 => ?_)
  refine sm_gd (fun h4 => ?_)
  refine sm_gd (fun h5 => ?_)
  refine sm_gd (fun h6 => ?_)
  refine sm_case (V g mX4_rightField d 27 [(0, vr (some (gw g))), (1, vi a1), (2, vi y1)] [] σ τ Q) (V g mX4_rightField d 29 [(0, vr (some (gw g))), (1, vi a1), (2, vi y1)] [] σ τ Q) ?_ ?_ (fun f26 p27 n28 => ?_)
  · refine sm_b (l' := [(0, vr (some (gw g))), (1, vi a1), (2, vi y1)]) (st' := [vi y1]) (pc' := 28) [(.iload_n 2, vi 0, 28)] (by decide +kernel) rfl rfl ?_
    exact sm_iret rfl (by decide +kernel) (fun h => hRET _ h)
  · refine sm_b (l' := [(0, vr (some (gw g))), (1, vi a1), (2, vi y1)]) (st' := [vr (some (gw g))]) (pc' := 30) [(.aload_n 0, vi 0, 30)] (by decide +kernel) rfl rfl ?_
    refine sm_tg (k := 29) (x := vr (some (gT g 29))) G.2.1 q1447 rfl rfl (by decide +kernel) ?_
    refine sm_b (l' := [(0, vr (some (gw g))), (1, vi a1), (2, vi y1)]) (st' := [vi y1, vr (some (gT g 29))]) (pc' := 34) [(.iload_n 2, vi 0, 34)] (by decide +kernel) rfl rfl ?_
    refine sm_gd (fun h11 => ?_)
    refine sm_zal (k := 29) G.2.1 (by decide) rfl (ibt (k := 29) h11) h11 (by decide +kernel) ?_
    refine sm_gd (fun h12 => ?_)
    refine sm_gd (fun h14 => ?_)
    refine sm_gd (fun h15 => ?_)
    refine sm_gd (fun h17 => ?_)
    refine sm_case (V g mX4_rightField d 58 [(0, vr (some (gw g))), (1, vi a1), (2, vi y1)] [] σ τ Q) (V g mX4_rightField d 54 [(0, vr (some (gw g))), (1, vi a1), (2, vi y1)] [] σ τ Q) ?_ ?_ (fun f20 p21 n22 => ?_)
    · refine sm_b (l' := [(0, vr (some (gw g))), (1, vi a1), (2, vi y1)]) (st' := [vi ((-1))]) (pc' := 59) [(.iconst (-1), vi (-1), 59)] (by decide +kernel) rfl rfl ?_
      exact sm_iret rfl (by decide +kernel) (fun h => hRET _ h)
    · refine sm_b (l' := [(0, vr (some (gw g))), (1, vi a1), (2, vi y1)]) (st' := [vi y1]) (pc' := 59) [(.iload_n 2, vi 0, 55), (.goto 4, vi 0, 59)] (by decide +kernel) rfl rfl ?_
      exact sm_iret rfl (by decide +kernel) (fun h => hRET _ h)
    refine sm_if_eq (off := 23) (tgt := 58) h12 (by decide +kernel) (fun c23 => ?_) (fun c23 => ?_)
    · exact p21 (Or.inl (Or.inl c23))
    · have w13 : ¬ ((tA τ 29 y1.toNat) = 0) := c23
      refine sm_b (l' := [(0, vr (some (gw g))), (1, vi a1), (2, vi y1)]) (st' := [vi y1, vr (some (gw g))]) (pc' := 40) [(.aload_n 0, vi 0, 39), (.iload_n 2, vi 0, 40)] (by decide +kernel) rfl rfl ?_
      refine sm_cvp (N := mX4_isPlain) (d' := d - 1) (fun r => (some (vi r))) (some (vi (vv (m_isPlain y1 τ)))) (h14 w13) (fun y h => by rw [vv_some h]) [vi y1] [] rfl (by decide +kernel) q1786 q1788 qs80 (Or.inl ⟨rfl, q1789⟩) (show okN yX4_isPlain 1 = true by decide +kernel) (fun H hR => hR.rvw G.1 G.2.1) rfl rfl (by omega) rfl (fun Q' => m_isPlain_ok G (d - 1) (by omega) y1 τ Q') ?_
      refine sm_if_eq (off := 15) (tgt := 58) (h15 w13) (by decide +kernel) (fun c24 => ?_) (fun c24 => ?_)
      · exact p21 (Or.inl (Or.inr c24))
      · have w16 : ¬ (((tA τ 29 y1.toNat) = 0) ∨ ((vv (m_isPlain y1 τ)) = 0)) := (fun q => q.elim c23 c24)
        refine sm_b (l' := [(0, vr (some (gw g))), (1, vi a1), (2, vi y1)]) (st' := [vr (some (gw g))]) (pc' := 47) [(.aload_n 0, vi 0, 47)] (by decide +kernel) rfl rfl ?_
        refine sm_tg (k := 49) (x := vi (tI τ 49)) G.2.1 q1467 rfl rfl (by decide +kernel) ?_
        refine sm_b (l' := [(0, vr (some (gw g))), (1, vi a1), (2, vi y1)]) (st' := [vi 2, vi (tI τ 49)]) (pc' := 51) [(.iconst 2, vi 2, 51)] (by decide +kernel) rfl rfl ?_
        refine sm_icmp_ne (off := 7) (tgt := 58) (h17 w16) (by decide) (by decide +kernel) (fun c25 => ?_) (fun c25 => ?_)
        · exact p21 (Or.inr c25)
        · exact n22 (fun q => q.elim (fun q => q.elim c23 c24) (fun q => q c25))
  refine sm_icmp_eq (off := 15) (tgt := 27) h2 (by decide) (by decide +kernel) (fun c29 => ?_) (fun c29 => ?_)
  · exact p27 (Or.inl c29)
  · have w3 : ¬ (y1 = ((-1))) := c29
    refine sm_b (l' := [(0, vr (some (gw g))), (1, vi a1), (2, vi y1)]) (st' := [vr (some (gw g))]) (pc' := 16) [(.aload_n 0, vi 0, 16)] (by decide +kernel) rfl rfl ?_
    refine sm_tg (k := 49) (x := vi (tI τ 49)) G.2.1 q1467 rfl rfl (by decide +kernel) ?_
    refine sm_b (l' := [(0, vr (some (gw g))), (1, vi a1), (2, vi y1)]) (st' := [vi y1, vr (some (gw g)), vi (tI τ 49)]) (pc' := 21) [(.aload_n 0, vi 0, 20), (.iload_n 2, vi 0, 21)] (by decide +kernel) rfl rfl ?_
    refine sm_cvp (N := mX4_ownKind) (d' := d - 1) (fun r => (some (vi r))) (some (vi (vv (m_ownKind y1 τ)))) (h4 w3) (fun y h => by rw [vv_some h]) [vi y1] [vi (tI τ 49)] rfl (by decide +kernel) q1782 q1784 qs79 (Or.inl ⟨rfl, q1785⟩) (show okN yX4_ownKind 1 = true by decide +kernel) (fun H hR => hR.rvw G.1 G.2.1) rfl rfl (by omega) rfl (fun Q' => m_ownKind_ok G (d - 1) (by omega) y1 τ Q') ?_
    refine sm_icmp_ne (off := 5) (tgt := 29) (h5 w3) (h6 w3) (by decide +kernel) (fun c30 => ?_) (fun c30 => ?_)
    · exact n28 (fun q => q.elim c29 c30)
    · exact p27 (Or.inr c30)
def m_isTail (a1 : Int) : Option (Int) := if (iAnd a1 192) = 128 then (some 1) else (some 0)
set_option maxHeartbeats 4000000 in
theorem m_isTail_ok {g : GE} (G : GG g) {σ : ST} (d : Nat) (hd1 : 0 ≤ d) (a1 : Int)  (τ : TT) (Q : VQ) : Sm (V g mX4_isTail d 0 [(0, vi a1)] [] σ τ Q) (m_isTail a1) (fun r => Q.1 (some (vi r)) σ τ) := by
  unfold m_isTail
  refine sm_top (fun K hRET => ?_)
  refine sm_b (l' := [(0, vi a1)]) (st' := [vi 128, vi (iAnd a1 192)]) (pc' := 8) [(.iload_n 0, vi 0, 1), (.sipush 192, vi 192, 4), (.iand, vi 0, 5), (.sipush 128, vi 128, 8)] (by decide +kernel) rfl rfl ?_
  refine sm_case (V g mX4_isTail d 11 [(0, vi a1)] [] σ τ Q) (V g mX4_isTail d 15 [(0, vi a1)] [] σ τ Q) ?_ ?_ (fun f3 p4 n5 => ?_)
  · refine sm_b (l' := [(0, vi a1)]) (st' := [vi 1]) (pc' := 16) [(.iconst 1, vi 1, 12), (.goto 4, vi 0, 16)] (by decide +kernel) rfl rfl ?_
    exact sm_zret rfl (by decide +kernel) (by decide) (fun h => hRET _ h)
  · refine sm_b (l' := [(0, vi a1)]) (st' := [vi 0]) (pc' := 16) [(.iconst 0, vi 0, 16)] (by decide +kernel) rfl rfl ?_
    exact sm_zret rfl (by decide +kernel) (by decide) (fun h => hRET _ h)
  refine sm_icmp_ne (off := 7) (tgt := 15) (rg_in _) (by decide) (by decide +kernel) (fun c6 => ?_) (fun c6 => ?_)
  · exact n5 c6
  · exact p4 c6
