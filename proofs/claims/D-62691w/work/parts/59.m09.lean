set_option maxRecDepth 100000
/-! the reference: X4_putNumber, X4_find, X4_isDefault, X4_putPart, X4_putOne -/
def m_putNumber_L67 (u5 : Int) : Nat → Int → TT → Option (TT)
  | 0, _, _ => none
  | n + 1, w6, τ => gd (ib u5 40) (gd (ib (tA τ 19 u5.toNat) 1001) (gd (rg w6) (gd (rg (tA τ 11 (tA τ 19 u5.toNat).toNat)) (if (tA τ 11 (tA τ 19 u5.toNat).toNat) ≤ w6 then (some τ) else (gd (ib ((tA τ 10 (tA τ 19 u5.toNat).toNat) + w6) 1000) (Option.bind (m_put (tA τ 8 ((tA τ 10 (tA τ 19 u5.toNat).toNat) + w6).toNat) τ) fun y94 => m_putNumber_L67 u5 n (w6 + 1) y94))))))
def m_putNumber_L18 (u2 : Int64) (u4 : Int) (τ : TT) : Nat → Int → Option (((TT) ⊕ (Unit)) ⊕ (Int))
  | 0, _ => none
  | n + 1, w5 => gd (rg w5) (gd (rg (tI τ 37)) (if (tI τ 37) ≤ w5 then (some (Sum.inl (Sum.inr (())))) else (gd (ib w5 40) (Option.bind (gd (rg (tA τ 21 w5.toNat)) (gd (rg (u4 - 32)) (if (tA τ 21 w5.toNat) = (u4 - 32) then (if (iL (tA τ 20 w5.toNat)) = u2 then (some (Sum.inl (Sum.inr w5))) else (some (Sum.inr (())))) else (some (Sum.inr (())))))) (Sum.elim some fun (v111 : Unit) => m_putNumber_L18 u2 u4 τ n (w5 + 1))))))
def m_putNumber (a1 : Int) (a2 : Int64) (τ : TT) : Option (TT) := gd (ib a1 50) (nm (tA τ 28 a1.toNat) fun x2 => gd (rg x2) (if x2 < 32 then (if x2 = 8 then (Option.bind (if a2 = 0 then (some 26) else (some 25)) fun (v10 : Nat) => Option.bind (m_putAll v10 τ) fun y14 => some y14) else (Option.bind (if (((x2 = 1) ∨ (x2 = 3)) ∨ (x2 = 5)) ∨ (x2 = 7) then (some 1) else (some 0)) fun (v24 : Int) => Option.bind (gd (rg v24) (if v24 = 0 then (some τ) else (Option.bind (m_put 34 τ) fun y55 => some y55))) fun (v30 : TT) => Option.bind (if (x2 = 3) ∨ (x2 = 7) then (Option.bind (m_putUnsigned 24 a2 v30) fun y48 => some y48) else (Option.bind (m_putSigned a2 v30) fun y49 => some y49)) fun (v37 : TT) => gd (rg v24) (if v24 = 0 then (some v37) else (Option.bind (m_put 34 v37) fun y43 => some y43)))) else (Option.bind (Option.bind (m_putNumber_L18 a2 x2 τ FU 0) (Sum.elim some fun (v76 : Int) => Option.bind (m_put 34 τ) fun y80 => Option.bind (m_putNumber_L67 v76 FU 0 y80) fun (v81 : TT) => Option.bind (m_put 34 v81) fun y85 => some (Sum.inl y85))) (Sum.elim some fun (v71 : Unit) => Option.bind (m_putSigned a2 τ) fun y75 => some y75))))
set_option maxHeartbeats 4000000 in
theorem m_putNumber_L67_ok {g : GE} (G : GG g) {σ : ST} {Q : VQ} (d : Nat) (hd1 : 27 ≤ d) (u5 : Int)  {K : TT → Prop} (hE114 : ∀ v86 : TT, K (v86) → V g mX4_putNumber d 114 [(0, vr (some (gw g)))] [] σ v86 Q) : ∀ (n : Nat) (w6 : Int) (τ : TT), Sm (V g mX4_putNumber d 67 [(0, vr (some (gw g))), (5, vi u5), (6, vi w6)] [] σ τ Q) (m_putNumber_L67 u5 n w6 τ) K := by
  intro n
  induction n with
  | zero => intro w6 τ; exact sm_none
  | succ n ih =>
    intro w6 τ
    rw [m_putNumber_L67.eq_2]
    refine sm_b (l' := [(0, vr (some (gw g))), (5, vi u5), (6, vi w6)]) (st' := [vr (some (gw g)), vi w6]) (pc' := 70) [(.iload 6, vi 0, 69), (.aload_n 0, vi 0, 70)] (by decide +kernel) rfl rfl ?_
    refine sm_tg (k := 11) (x := vr (some (gT g 11))) G.2.1 q1429 rfl rfl (by decide +kernel) ?_
    refine sm_b (l' := [(0, vr (some (gw g))), (5, vi u5), (6, vi w6)]) (st' := [vr (some (gw g)), vr (some (gT g 11)), vi w6]) (pc' := 74) [(.aload_n 0, vi 0, 74)] (by decide +kernel) rfl rfl ?_
    refine sm_tg (k := 19) (x := vr (some (gT g 19))) G.2.1 q1437 rfl rfl (by decide +kernel) ?_
    refine sm_b (l' := [(0, vr (some (gw g))), (5, vi u5), (6, vi w6)]) (st' := [vi u5, vr (some (gT g 19)), vr (some (gT g 11)), vi w6]) (pc' := 79) [(.iload 5, vi 0, 79)] (by decide +kernel) rfl rfl ?_
    refine sm_gd (fun h87 => ?_)
    refine sm_ial (k := 19) G.2.1 (by decide) rfl (ibt (k := 19) h87) h87 (by decide +kernel) ?_
    refine sm_gd (fun h88 => ?_)
    refine sm_ial (k := 11) G.2.1 (by decide) rfl (ibt (k := 11) h88) h88 (by decide +kernel) ?_
    refine sm_gd (fun h89 => ?_)
    refine sm_gd (fun h90 => ?_)
    refine sm_case (V g mX4_putNumber d 114 [(0, vr (some (gw g))), (5, vi u5), (6, vi w6)] [] σ τ Q) (V g mX4_putNumber d 84 [(0, vr (some (gw g))), (5, vi u5), (6, vi w6)] [] σ τ Q) ?_ ?_ (fun f95 p96 n97 => ?_)
    · refine sm_pick [0] (l' := [(0, vr (some (gw g)))]) rfl ?_
      exact sm_leaf (fun h => hE114 _ h)
    · refine sm_b (l' := [(0, vr (some (gw g))), (5, vi u5), (6, vi w6)]) (st' := [vr (some (gw g)), vr (some (gw g))]) (pc' := 86) [(.aload_n 0, vi 0, 85), (.aload_n 0, vi 0, 86)] (by decide +kernel) rfl rfl ?_
      refine sm_tg (k := 8) (x := vr (some (gT g 8))) G.2.1 q1426 rfl rfl (by decide +kernel) ?_
      refine sm_b (l' := [(0, vr (some (gw g))), (5, vi u5), (6, vi w6)]) (st' := [vr (some (gw g)), vr (some (gT g 8)), vr (some (gw g))]) (pc' := 90) [(.aload_n 0, vi 0, 90)] (by decide +kernel) rfl rfl ?_
      refine sm_tg (k := 10) (x := vr (some (gT g 10))) G.2.1 q1428 rfl rfl (by decide +kernel) ?_
      refine sm_b (l' := [(0, vr (some (gw g))), (5, vi u5), (6, vi w6)]) (st' := [vr (some (gw g)), vr (some (gT g 10)), vr (some (gT g 8)), vr (some (gw g))]) (pc' := 94) [(.aload_n 0, vi 0, 94)] (by decide +kernel) rfl rfl ?_
      refine sm_tg (k := 19) (x := vr (some (gT g 19))) G.2.1 q1437 rfl rfl (by decide +kernel) ?_
      refine sm_b (l' := [(0, vr (some (gw g))), (5, vi u5), (6, vi w6)]) (st' := [vi u5, vr (some (gT g 19)), vr (some (gT g 10)), vr (some (gT g 8)), vr (some (gw g))]) (pc' := 99) [(.iload 5, vi 0, 99)] (by decide +kernel) rfl rfl ?_
      refine sm_ial (k := 19) G.2.1 (by decide) rfl (ibt (k := 19) h87) h87 (by decide +kernel) ?_
      refine sm_ial (k := 10) G.2.1 (by decide) rfl (ibt (k := 10) h88) h88 (by decide +kernel) ?_
      refine sm_b (l' := [(0, vr (some (gw g))), (5, vi u5), (6, vi w6)]) (st' := [vi ((tA τ 10 (tA τ 19 u5.toNat).toNat) + w6), vr (some (gT g 8)), vr (some (gw g))]) (pc' := 104) [(.iload 6, vi 0, 103), (.iadd, vi 0, 104)] (by decide +kernel) rfl rfl ?_
      refine sm_gd (fun h93 => ?_)
      refine sm_ial (k := 8) G.2.1 (by decide) rfl (ibt (k := 8) h93) h93 (by decide +kernel) ?_
      refine sm_cv (N := mX4_put) (d' := d - 1) (fun r => none) (fun _ => σ) (fun r => r) [vi (tA τ 8 ((tA τ 10 (tA τ 19 u5.toNat).toNat) + w6).toNat)] [] rfl (by decide +kernel) q1817 q1819 qs86 (Or.inl ⟨rfl, q1820⟩) (show okN yX4_put 1 = true by decide +kernel) (fun H hR => hR.rvw G.1 G.2.1) rfl rfl (by omega) rfl (fun Q' => m_put_ok G (d - 1) (by omega) (tA τ 8 ((tA τ 10 (tA τ 19 u5.toNat).toNat) + w6).toNat) τ Q') (fun y94 => ?_)
      refine sm_b (l' := [(0, vr (some (gw g))), (5, vi u5), (6, vi (w6 + 1))]) (st' := []) (pc' := 67) [(.iinc 6 1, vi 1, 111), (.goto (-44), vi 0, 67)] (by decide +kernel) rfl rfl ?_
      exact ih (w6 + 1) y94
    refine sm_icmp_ge (off := 33) (tgt := 114) h89 h90 (by decide +kernel) (fun c98 => ?_) (fun c98 => ?_)
    · exact p96 c98
    · exact n97 c98
set_option maxHeartbeats 4000000 in
theorem m_putNumber_L18_ok {g : GE} (G : GG g) {σ : ST} {Q : VQ} (d : Nat) (hd1 : 27 ≤ d) (u2 : Int64) (u4 : Int) (τ : TT)  {K : ((TT) ⊕ (Unit)) ⊕ (Int) → Prop} (hE127 : ∀ v99 : Unit, K (Sum.inl (Sum.inr v99)) → V g mX4_putNumber d 127 [(0, vr (some (gw g))), (2, vl u2)] [] σ τ Q) (hE58 : ∀ v100 : Int, K (Sum.inr v100) → V g mX4_putNumber d 58 [(0, vr (some (gw g))), (5, vi v100)] [] σ τ Q) : ∀ (n : Nat) (w5 : Int), Sm (V g mX4_putNumber d 18 [(0, vr (some (gw g))), (2, vl u2), (4, vi u4), (5, vi w5)] [] σ τ Q) (m_putNumber_L18 u2 u4 τ n w5) K := by
  intro n
  induction n with
  | zero => intro w5; exact sm_none
  | succ n ih =>
    intro w5
    rw [m_putNumber_L18.eq_2]
    refine sm_b (l' := [(0, vr (some (gw g))), (2, vl u2), (4, vi u4), (5, vi w5)]) (st' := [vr (some (gw g)), vi w5]) (pc' := 21) [(.iload 5, vi 0, 20), (.aload_n 0, vi 0, 21)] (by decide +kernel) rfl rfl ?_
    refine sm_tg (k := 37) (x := vi (tI τ 37)) G.2.1 q1455 rfl rfl (by decide +kernel) ?_
    refine sm_gd (fun h101 => ?_)
    refine sm_gd (fun h102 => ?_)
    refine sm_case (V g mX4_putNumber d 127 [(0, vr (some (gw g))), (2, vl u2), (4, vi u4), (5, vi w5)] [] σ τ Q) (V g mX4_putNumber d 27 [(0, vr (some (gw g))), (2, vl u2), (4, vi u4), (5, vi w5)] [] σ τ Q) ?_ ?_ (fun f124 p125 n126 => ?_)
    · refine sm_pick [0, 1] (l' := [(0, vr (some (gw g))), (2, vl u2)]) rfl ?_
      exact sm_leaf (fun h => hE127 _ h)
    · refine sm_b (l' := [(0, vr (some (gw g))), (2, vl u2), (4, vi u4), (5, vi w5)]) (st' := [vr (some (gw g))]) (pc' := 28) [(.aload_n 0, vi 0, 28)] (by decide +kernel) rfl rfl ?_
      refine sm_tg (k := 21) (x := vr (some (gT g 21))) G.2.1 q1439 rfl rfl (by decide +kernel) ?_
      refine sm_b (l' := [(0, vr (some (gw g))), (2, vl u2), (4, vi u4), (5, vi w5)]) (st' := [vi w5, vr (some (gT g 21))]) (pc' := 33) [(.iload 5, vi 0, 33)] (by decide +kernel) rfl rfl ?_
      refine sm_gd (fun h107 => ?_)
      refine sm_ial (k := 21) G.2.1 (by decide) rfl (ibt (k := 21) h107) h107 (by decide +kernel) ?_
      refine sm_b (l' := [(0, vr (some (gw g))), (2, vl u2), (4, vi u4), (5, vi w5)]) (st' := [vi (u4 - 32), vi (tA τ 21 w5.toNat)]) (pc' := 39) [(.iload 4, vi 0, 36), (.bipush 32, vi 32, 38), (.isub, vi 0, 39)] (by decide +kernel) rfl rfl ?_
      refine sm_bindS (fun (v111 : Unit) => V g mX4_putNumber d 121 [(0, vr (some (gw g))), (2, vl u2), (4, vi u4), (5, vi w5)] [] σ τ Q) (fun v111 => ?_) (fun K112 o114 j113 => ?_)
      · refine sm_b (l' := [(0, vr (some (gw g))), (2, vl u2), (4, vi u4), (5, vi (w5 + 1))]) (st' := []) (pc' := 18) [(.iinc 5 1, vi 1, 124), (.goto (-106), vi 0, 18)] (by decide +kernel) rfl rfl ?_
        exact ih (w5 + 1)
      · refine sm_gd (fun h108 => ?_)
        refine sm_gd (fun h109 => ?_)
        refine sm_case (V g mX4_putNumber d 42 [(0, vr (some (gw g))), (2, vl u2), (4, vi u4), (5, vi w5)] [] σ τ Q) (V g mX4_putNumber d 121 [(0, vr (some (gw g))), (2, vl u2), (4, vi u4), (5, vi w5)] [] σ τ Q) ?_ ?_ (fun f120 p121 n122 => ?_)
        · refine sm_b (l' := [(0, vr (some (gw g))), (2, vl u2), (4, vi u4), (5, vi w5)]) (st' := [vr (some (gw g))]) (pc' := 43) [(.aload_n 0, vi 0, 43)] (by decide +kernel) rfl rfl ?_
          refine sm_tg (k := 20) (x := vr (some (gT g 20))) G.2.1 q1438 rfl rfl (by decide +kernel) ?_
          refine sm_b (l' := [(0, vr (some (gw g))), (2, vl u2), (4, vi u4), (5, vi w5)]) (st' := [vi w5, vr (some (gT g 20))]) (pc' := 48) [(.iload 5, vi 0, 48)] (by decide +kernel) rfl rfl ?_
          refine sm_ial (k := 20) G.2.1 (by decide) rfl (ibt (k := 20) h107) h107 (by decide +kernel) ?_
          refine sm_b (l' := [(0, vr (some (gw g))), (2, vl u2), (4, vi u4), (5, vi w5)]) (st' := [vl u2, vl (iL (tA τ 20 w5.toNat))]) (pc' := 51) [(.i2l, vi 0, 50), (.lload_n 2, vi 0, 51)] (by decide +kernel) rfl rfl ?_
          refine sm_case (V g mX4_putNumber d 58 [(0, vr (some (gw g))), (2, vl u2), (4, vi u4), (5, vi w5)] [] σ τ Q) (V g mX4_putNumber d 55 [(0, vr (some (gw g))), (2, vl u2), (4, vi u4), (5, vi w5)] [] σ τ Q) ?_ ?_ (fun f116 p117 n118 => ?_)
          · refine sm_pick [0, 3] (l' := [(0, vr (some (gw g))), (5, vi w5)]) rfl ?_
            exact sm_leaf (fun h => hE58 _ (o114 _ h))
          · refine sm_b (l' := [(0, vr (some (gw g))), (2, vl u2), (4, vi u4), (5, vi w5)]) (st' := []) (pc' := 121) [(.goto 66, vi 0, 121)] (by decide +kernel) rfl rfl ?_
            exact sm_leaf (fun h => j113 _ h)
          refine sm_lc_eq (off := 6) (tgt := 58) (by decide +kernel) (by decide +kernel) (fun c119 => ?_) (fun c119 => ?_)
          · exact p117 c119
          · exact n118 c119
        · exact sm_leaf (fun h => j113 _ h)
        refine sm_icmp_ne (off := 82) (tgt := 121) h108 h109 (by decide +kernel) (fun c123 => ?_) (fun c123 => ?_)
        · exact n122 c123
        · exact p121 c123
    refine sm_icmp_ge (off := 103) (tgt := 127) h101 h102 (by decide +kernel) (fun c127 => ?_) (fun c127 => ?_)
    · exact p125 c127
    · exact n126 c127
set_option maxHeartbeats 4000000 in
theorem m_putNumber_ok {g : GE} (G : GG g) {σ : ST} (d : Nat) (hd1 : 27 ≤ d) (a1 : Int) (a2 : Int64)  (τ : TT) (Q : VQ) : Sm (V g mX4_putNumber d 0 [(0, vr (some (gw g))), (1, vi a1), (2, vl a2)] [] σ τ Q) (m_putNumber a1 a2 τ) (fun r => Q.1 none σ r) := by
  unfold m_putNumber
  refine sm_top (fun K hRET => ?_)
  refine sm_b (l' := [(0, vr (some (gw g))), (1, vi a1), (2, vl a2)]) (st' := [vr (some (gw g))]) (pc' := 1) [(.aload_n 0, vi 0, 1)] (by decide +kernel) rfl rfl ?_
  refine sm_tg (k := 28) (x := vr (some (gT g 28))) G.2.1 q1446 rfl rfl (by decide +kernel) ?_
  refine sm_b (l' := [(0, vr (some (gw g))), (1, vi a1), (2, vl a2)]) (st' := [vi a1, vr (some (gT g 28))]) (pc' := 5) [(.iload_n 1, vi 0, 5)] (by decide +kernel) rfl rfl ?_
  refine sm_gd (fun h1 => ?_)
  refine sm_ial (k := 28) G.2.1 (by decide) rfl (ibt (k := 28) h1) h1 (by decide +kernel) ?_
  refine sm_nmi (fun x2 => ?_)
  refine sm_b (l' := [(0, vr (some (gw g))), (1, vi a1), (2, vl a2), (4, vi x2)]) (st' := [vi 32, vi x2]) (pc' := 12) [(.istore 4, vi 0, 8), (.iload 4, vi 0, 10), (.bipush 32, vi 32, 12)] (by decide +kernel) rfl rfl ?_
  refine sm_gd (fun h3 => ?_)
  refine sm_case (V g mX4_putNumber d 135 [(0, vr (some (gw g))), (1, vi a1), (2, vl a2), (4, vi x2)] [] σ τ Q) (V g mX4_putNumber d 15 [(0, vr (some (gw g))), (1, vi a1), (2, vl a2), (4, vi x2)] [] σ τ Q) ?_ ?_ (fun f128 p129 n130 => ?_)
  · refine sm_b (l' := [(0, vr (some (gw g))), (1, vi a1), (2, vl a2), (4, vi x2)]) (st' := [vi 8, vi x2]) (pc' := 139) [(.iload 4, vi 0, 137), (.bipush 8, vi 8, 139)] (by decide +kernel) rfl rfl ?_
    refine sm_case (V g mX4_putNumber d 142 [(0, vr (some (gw g))), (1, vi a1), (2, vl a2), (4, vi x2)] [] σ τ Q) (V g mX4_putNumber d 164 [(0, vr (some (gw g))), (1, vi a1), (2, vl a2), (4, vi x2)] [] σ τ Q) ?_ ?_ (fun f67 p68 n69 => ?_)
    · refine sm_b (l' := [(0, vr (some (gw g))), (1, vi a1), (2, vl a2), (4, vi x2)]) (st' := [vl 0, vl a2, vr (some (gw g))]) (pc' := 145) [(.aload_n 0, vi 0, 143), (.lload_n 2, vi 0, 144), (.lconst 0, vl 0, 145)] (by decide +kernel) rfl rfl ?_
      refine sm_bind1 (fun (v10 : Nat) => V g mX4_putNumber d 158 [] [vr (some (gK g v10)), vr (some (gw g))] σ τ Q) (fun v10 => ?_) (fun K11 j12 => ?_)
      · refine sm_cv (N := mX4_putAll) (d' := d - 1) (fun r => none) (fun _ => σ) (fun r => r) [vr (some (gK g v10))] [] rfl (by decide +kernel) q1846 q1848 qs93 (Or.inl ⟨rfl, q1849⟩) (show okN yX4_putAll 1 = true by decide +kernel) (fun H hR => hR.rvw G.1 G.2.1) rfl rfl (by omega) rfl (fun Q' => m_putAll_ok G (d - 1) (by omega) v10 τ Q') (fun y14 => ?_)
        refine sm_b (l' := []) (st' := []) (pc' := 244) [(.goto 83, vi 0, 244)] (by decide +kernel) rfl rfl ?_
        exact sm_vret rfl (by decide +kernel) (fun h => hRET _ h)
      · refine sm_case (V g mX4_putNumber d 155 [(0, vr (some (gw g))), (1, vi a1), (2, vl a2), (4, vi x2)] [vr (some (gw g))] σ τ Q) (V g mX4_putNumber d 149 [(0, vr (some (gw g))), (1, vi a1), (2, vl a2), (4, vi x2)] [vr (some (gw g))] σ τ Q) ?_ ?_ (fun f15 p16 n17 => ?_)
        · refine sm_strw (k := 26) G rfl (by decide +kernel) ?_
          refine sm_pick [] (l' := []) rfl ?_
          exact sm_leaf (fun h => j12 _ h)
        · refine sm_strw (k := 25) G rfl (by decide +kernel) ?_
          refine sm_b (l' := [(0, vr (some (gw g))), (1, vi a1), (2, vl a2), (4, vi x2)]) (st' := [vr (some (gK g 25)), vr (some (gw g))]) (pc' := 158) [(.goto 6, vi 0, 158)] (by decide +kernel) rfl rfl ?_
          refine sm_pick [] (l' := []) rfl ?_
          exact sm_leaf (fun h => j12 _ h)
        refine sm_lc_eq (off := 9) (tgt := 155) (by decide +kernel) (by decide +kernel) (fun c18 => ?_) (fun c18 => ?_)
        · exact p16 c18
        · exact n17 c18
    · refine sm_b (l' := [(0, vr (some (gw g))), (1, vi a1), (2, vl a2), (4, vi x2)]) (st' := [vi 1, vi x2]) (pc' := 167) [(.iload 4, vi 0, 166), (.iconst 1, vi 1, 167)] (by decide +kernel) rfl rfl ?_
      refine sm_bind1 (fun (v24 : Int) => V g mX4_putNumber d 194 [(0, vr (some (gw g))), (2, vl a2), (4, vi x2)] [vi v24] σ τ Q) (fun v24 => ?_) (fun K25 j26 => ?_)
      · refine sm_b (l' := [(0, vr (some (gw g))), (2, vl a2), (4, vi x2), (5, vi v24)]) (st' := [vi v24]) (pc' := 198) [(.istore 5, vi 0, 196), (.iload 5, vi 0, 198)] (by decide +kernel) rfl rfl ?_
        refine sm_bind1 (fun (v30 : TT) => V g mX4_putNumber d 207 [(0, vr (some (gw g))), (2, vl a2), (4, vi x2), (5, vi v24)] [] σ v30 Q) (fun v30 => ?_) (fun K31 j32 => ?_)
        · refine sm_b (l' := [(0, vr (some (gw g))), (2, vl a2), (4, vi x2), (5, vi v24)]) (st' := [vi 3, vi x2]) (pc' := 210) [(.iload 4, vi 0, 209), (.iconst 3, vi 3, 210)] (by decide +kernel) rfl rfl ?_
          refine sm_bind1 (fun (v37 : TT) => V g mX4_putNumber d 233 [(0, vr (some (gw g))), (5, vi v24)] [] σ v37 Q) (fun v37 => ?_) (fun K38 j39 => ?_)
          · refine sm_b (l' := [(0, vr (some (gw g))), (5, vi v24)]) (st' := [vi v24]) (pc' := 235) [(.iload 5, vi 0, 235)] (by decide +kernel) rfl rfl ?_
            refine sm_gd (fun h41 => ?_)
            refine sm_case (V g mX4_putNumber d 244 [(0, vr (some (gw g))), (5, vi v24)] [] σ v37 Q) (V g mX4_putNumber d 238 [(0, vr (some (gw g))), (5, vi v24)] [] σ v37 Q) ?_ ?_ (fun f44 p45 n46 => ?_)
            · exact sm_vret rfl (by decide +kernel) (fun h => hRET _ h)
            · refine sm_b (l' := [(0, vr (some (gw g))), (5, vi v24)]) (st' := [vi 34, vr (some (gw g))]) (pc' := 241) [(.aload_n 0, vi 0, 239), (.bipush 34, vi 34, 241)] (by decide +kernel) rfl rfl ?_
              refine sm_cv (N := mX4_put) (d' := d - 1) (fun r => none) (fun _ => σ) (fun r => r) [vi 34] [] rfl (by decide +kernel) q1817 q1819 qs86 (Or.inl ⟨rfl, q1820⟩) (show okN yX4_put 1 = true by decide +kernel) (fun H hR => hR.rvw G.1 G.2.1) rfl rfl (by omega) rfl (fun Q' => m_put_ok G (d - 1) (by omega) 34 v37 Q') (fun y43 => ?_)
              exact sm_vret rfl (by decide +kernel) (fun h => hRET _ h)
            refine sm_if_eq (off := 9) (tgt := 244) h41 (by decide +kernel) (fun c47 => ?_) (fun c47 => ?_)
            · exact p45 c47
            · exact n46 c47
          · refine sm_case (V g mX4_putNumber d 220 [(0, vr (some (gw g))), (2, vl a2), (4, vi x2), (5, vi v24)] [] σ v30 Q) (V g mX4_putNumber d 228 [(0, vr (some (gw g))), (2, vl a2), (4, vi x2), (5, vi v24)] [] σ v30 Q) ?_ ?_ (fun f50 p51 n52 => ?_)
            · refine sm_b (l' := [(0, vr (some (gw g))), (2, vl a2), (4, vi x2), (5, vi v24)]) (st' := [vl a2, vr (some (gw g))]) (pc' := 222) [(.aload_n 0, vi 0, 221), (.lload_n 2, vi 0, 222)] (by decide +kernel) rfl rfl ?_
              refine sm_cv (N := mX4_putUnsigned) (d' := d - 1) (fun r => none) (fun _ => σ) (fun r => r) [vl a2] [] rfl (by decide +kernel) q1870 q1872 qs98 (Or.inl ⟨rfl, q1873⟩) (show okN yX4_putUnsigned 1 = true by decide +kernel) (fun H hR => hR.rvw G.1 G.2.1) rfl rfl (by omega) rfl (fun Q' => m_putUnsigned_ok G 24 (d - 1) (by omega) a2 v30 Q') (fun y48 => ?_)
              refine sm_b (l' := [(0, vr (some (gw g))), (2, vl a2), (4, vi x2), (5, vi v24)]) (st' := []) (pc' := 233) [(.goto 8, vi 0, 233)] (by decide +kernel) rfl rfl ?_
              refine sm_pick [0, 3] (l' := [(0, vr (some (gw g))), (5, vi v24)]) rfl ?_
              exact sm_leaf (fun h => j39 _ h)
            · refine sm_b (l' := [(0, vr (some (gw g))), (2, vl a2), (4, vi x2), (5, vi v24)]) (st' := [vl a2, vr (some (gw g))]) (pc' := 230) [(.aload_n 0, vi 0, 229), (.lload_n 2, vi 0, 230)] (by decide +kernel) rfl rfl ?_
              refine sm_cv (N := mX4_putSigned) (d' := d - 1) (fun r => none) (fun _ => σ) (fun r => r) [vl a2] [] rfl (by decide +kernel) q1866 q1868 qs97 (Or.inl ⟨rfl, q1869⟩) (show okN yX4_putSigned 1 = true by decide +kernel) (fun H hR => hR.rvw G.1 G.2.1) rfl rfl (by omega) rfl (fun Q' => m_putSigned_ok G (d - 1) (by omega) a2 v30 Q') (fun y49 => ?_)
              refine sm_pick [0, 3] (l' := [(0, vr (some (gw g))), (5, vi v24)]) rfl ?_
              exact sm_leaf (fun h => j39 _ h)
            refine sm_icmp_eq (off := 10) (tgt := 220) h3 (by decide) (by decide +kernel) (fun c53 => ?_) (fun c53 => ?_)
            · exact p51 (Or.inl c53)
            · refine sm_b (l' := [(0, vr (some (gw g))), (2, vl a2), (4, vi x2), (5, vi v24)]) (st' := [vi 7, vi x2]) (pc' := 217) [(.iload 4, vi 0, 215), (.bipush 7, vi 7, 217)] (by decide +kernel) rfl rfl ?_
              refine sm_icmp_ne (off := 11) (tgt := 228) h3 (by decide) (by decide +kernel) (fun c54 => ?_) (fun c54 => ?_)
              · exact n52 (fun q => q.elim c53 c54)
              · exact p51 (Or.inr c54)
        · refine sm_gd (fun h28 => ?_)
          refine sm_case (V g mX4_putNumber d 207 [(0, vr (some (gw g))), (2, vl a2), (4, vi x2), (5, vi v24)] [] σ τ Q) (V g mX4_putNumber d 201 [(0, vr (some (gw g))), (2, vl a2), (4, vi x2), (5, vi v24)] [] σ τ Q) ?_ ?_ (fun f56 p57 n58 => ?_)
          · exact sm_leaf (fun h => j32 _ h)
          · refine sm_b (l' := [(0, vr (some (gw g))), (2, vl a2), (4, vi x2), (5, vi v24)]) (st' := [vi 34, vr (some (gw g))]) (pc' := 204) [(.aload_n 0, vi 0, 202), (.bipush 34, vi 34, 204)] (by decide +kernel) rfl rfl ?_
            refine sm_cv (N := mX4_put) (d' := d - 1) (fun r => none) (fun _ => σ) (fun r => r) [vi 34] [] rfl (by decide +kernel) q1817 q1819 qs86 (Or.inl ⟨rfl, q1820⟩) (show okN yX4_put 1 = true by decide +kernel) (fun H hR => hR.rvw G.1 G.2.1) rfl rfl (by omega) rfl (fun Q' => m_put_ok G (d - 1) (by omega) 34 τ Q') (fun y55 => ?_)
            exact sm_leaf (fun h => j32 _ h)
          refine sm_if_eq (off := 9) (tgt := 207) h28 (by decide +kernel) (fun c59 => ?_) (fun c59 => ?_)
          · exact p57 c59
          · exact n58 c59
      · refine sm_case (V g mX4_putNumber d 189 [(0, vr (some (gw g))), (1, vi a1), (2, vl a2), (4, vi x2)] [] σ τ Q) (V g mX4_putNumber d 193 [(0, vr (some (gw g))), (1, vi a1), (2, vl a2), (4, vi x2)] [] σ τ Q) ?_ ?_ (fun f60 p61 n62 => ?_)
        · refine sm_b (l' := [(0, vr (some (gw g))), (1, vi a1), (2, vl a2), (4, vi x2)]) (st' := [vi 1]) (pc' := 194) [(.iconst 1, vi 1, 190), (.goto 4, vi 0, 194)] (by decide +kernel) rfl rfl ?_
          refine sm_pick [0, 2, 3] (l' := [(0, vr (some (gw g))), (2, vl a2), (4, vi x2)]) rfl ?_
          exact sm_leaf (fun h => j26 _ h)
        · refine sm_b (l' := [(0, vr (some (gw g))), (1, vi a1), (2, vl a2), (4, vi x2)]) (st' := [vi 0]) (pc' := 194) [(.iconst 0, vi 0, 194)] (by decide +kernel) rfl rfl ?_
          refine sm_pick [0, 2, 3] (l' := [(0, vr (some (gw g))), (2, vl a2), (4, vi x2)]) rfl ?_
          exact sm_leaf (fun h => j26 _ h)
        refine sm_icmp_eq (off := 22) (tgt := 189) h3 (by decide) (by decide +kernel) (fun c63 => ?_) (fun c63 => ?_)
        · exact p61 (Or.inl (Or.inl (Or.inl c63)))
        · refine sm_b (l' := [(0, vr (some (gw g))), (1, vi a1), (2, vl a2), (4, vi x2)]) (st' := [vi 3, vi x2]) (pc' := 173) [(.iload 4, vi 0, 172), (.iconst 3, vi 3, 173)] (by decide +kernel) rfl rfl ?_
          refine sm_icmp_eq (off := 16) (tgt := 189) h3 (by decide) (by decide +kernel) (fun c64 => ?_) (fun c64 => ?_)
          · exact p61 (Or.inl (Or.inl (Or.inr c64)))
          · refine sm_b (l' := [(0, vr (some (gw g))), (1, vi a1), (2, vl a2), (4, vi x2)]) (st' := [vi 5, vi x2]) (pc' := 179) [(.iload 4, vi 0, 178), (.iconst 5, vi 5, 179)] (by decide +kernel) rfl rfl ?_
            refine sm_icmp_eq (off := 10) (tgt := 189) h3 (by decide) (by decide +kernel) (fun c65 => ?_) (fun c65 => ?_)
            · exact p61 (Or.inl (Or.inr c65))
            · refine sm_b (l' := [(0, vr (some (gw g))), (1, vi a1), (2, vl a2), (4, vi x2)]) (st' := [vi 7, vi x2]) (pc' := 186) [(.iload 4, vi 0, 184), (.bipush 7, vi 7, 186)] (by decide +kernel) rfl rfl ?_
              refine sm_icmp_ne (off := 7) (tgt := 193) h3 (by decide) (by decide +kernel) (fun c66 => ?_) (fun c66 => ?_)
              · exact n62 (fun q => q.elim (fun q => q.elim (fun q => q.elim c63 c64) c65) c66)
              · exact p61 (Or.inr c66)
    refine sm_icmp_ne (off := 25) (tgt := 164) h3 (by decide) (by decide +kernel) (fun c70 => ?_) (fun c70 => ?_)
    · exact n69 c70
    · exact p68 c70
  · refine sm_b (l' := [(0, vr (some (gw g))), (1, vi a1), (2, vl a2), (4, vi x2), (5, vi 0)]) (st' := []) (pc' := 18) [(.iconst 0, vi 0, 16), (.istore 5, vi 0, 18)] (by decide +kernel) rfl rfl ?_
    refine sm_bindS (fun (v71 : Unit) => V g mX4_putNumber d 127 [(0, vr (some (gw g))), (2, vl a2)] [] σ τ Q) (fun v71 => ?_) (fun K72 o74 j73 => ?_)
    · refine sm_b (l' := [(0, vr (some (gw g))), (2, vl a2)]) (st' := [vl a2, vr (some (gw g))]) (pc' := 129) [(.aload_n 0, vi 0, 128), (.lload_n 2, vi 0, 129)] (by decide +kernel) rfl rfl ?_
      refine sm_cv (N := mX4_putSigned) (d' := d - 1) (fun r => none) (fun _ => σ) (fun r => r) [vl a2] [] rfl (by decide +kernel) q1866 q1868 qs97 (Or.inl ⟨rfl, q1869⟩) (show okN yX4_putSigned 1 = true by decide +kernel) (fun H hR => hR.rvw G.1 G.2.1) rfl rfl (by omega) rfl (fun Q' => m_putSigned_ok G (d - 1) (by omega) a2 τ Q') (fun y75 => ?_)
      refine sm_b (l' := [(0, vr (some (gw g))), (2, vl a2)]) (st' := []) (pc' := 244) [(.goto 112, vi 0, 244)] (by decide +kernel) rfl rfl ?_
      exact sm_vret rfl (by decide +kernel) (fun h => hRET _ h)
    · refine sm_bindS (fun (v76 : Int) => V g mX4_putNumber d 58 [(0, vr (some (gw g))), (5, vi v76)] [] σ τ Q) (fun v76 => ?_) (fun K77 o79 j78 => ?_)
      · refine sm_b (l' := [(0, vr (some (gw g))), (5, vi v76)]) (st' := [vi 34, vr (some (gw g))]) (pc' := 61) [(.aload_n 0, vi 0, 59), (.bipush 34, vi 34, 61)] (by decide +kernel) rfl rfl ?_
        refine sm_cv (N := mX4_put) (d' := d - 1) (fun r => none) (fun _ => σ) (fun r => r) [vi 34] [] rfl (by decide +kernel) q1817 q1819 qs86 (Or.inl ⟨rfl, q1820⟩) (show okN yX4_put 1 = true by decide +kernel) (fun H hR => hR.rvw G.1 G.2.1) rfl rfl (by omega) rfl (fun Q' => m_put_ok G (d - 1) (by omega) 34 τ Q') (fun y80 => ?_)
        refine sm_b (l' := [(0, vr (some (gw g))), (5, vi v76), (6, vi 0)]) (st' := []) (pc' := 67) [(.iconst 0, vi 0, 65), (.istore 6, vi 0, 67)] (by decide +kernel) rfl rfl ?_
        refine sm_bind1 (fun (v81 : TT) => V g mX4_putNumber d 114 [(0, vr (some (gw g)))] [] σ v81 Q) (fun v81 => ?_) (fun K82 j83 => ?_)
        · refine sm_b (l' := [(0, vr (some (gw g)))]) (st' := [vi 34, vr (some (gw g))]) (pc' := 117) [(.aload_n 0, vi 0, 115), (.bipush 34, vi 34, 117)] (by decide +kernel) rfl rfl ?_
          refine sm_cv (N := mX4_put) (d' := d - 1) (fun r => none) (fun _ => σ) (fun r => r) [vi 34] [] rfl (by decide +kernel) q1817 q1819 qs86 (Or.inl ⟨rfl, q1820⟩) (show okN yX4_put 1 = true by decide +kernel) (fun H hR => hR.rvw G.1 G.2.1) rfl rfl (by omega) rfl (fun Q' => m_put_ok G (d - 1) (by omega) 34 v81 Q') (fun y85 => ?_)
          exact sm_vret rfl (by decide +kernel) (fun h => hRET _ (o74 _ h))
        · exact m_putNumber_L67_ok G d hd1 v76  (fun _ h => j83 _ h) FU 0 y80
      · refine sm_pick [0, 2, 3, 4] (l' := [(0, vr (some (gw g))), (2, vl a2), (4, vi x2), (5, vi 0)]) rfl ?_
        exact m_putNumber_L18_ok G d hd1 a2 x2 τ  (fun _ h => j73 _ (o79 _ h)) (fun _ h => j78 _ h) FU 0
  refine sm_icmp_lt (off := 123) (tgt := 135) h3 (by decide) (by decide +kernel) (fun c131 => ?_) (fun c131 => ?_)
  · exact p129 c131
  · exact n130 c131
def m_find_L32 (u1 : Int) (u2 : Int) (u4 : Int) (u5 : Int) (u6 : Int) : Nat → TT → Option (TT)
  | 0, _ => none
  | n + 1, τ => gd (ib u6 9000) (gd (rg (tI τ 46)) (gd (rg (tA τ 44 u6.toNat)) (if (tA τ 44 u6.toNat) ≤ (tI τ 46) then (some τ) else (Option.bind (m_takeField (tA τ 44 u6.toNat) τ) fun y38 => Option.bind (m_rightField u2 y38.2) fun y39 => Option.bind (gd (rg y39) (gd (¬ (y39 = ((-1))) → rg u1) (gd (¬ ((y39 = ((-1))) ∨ (y39 = u1)) → ib u1 50) (gd (¬ ((y39 = ((-1))) ∨ (y39 = u1)) → rg (tA y38.2 27 u1.toNat)) (gd (¬ (((y39 = ((-1))) ∨ (y39 = u1)) ∨ ((tA y38.2 27 u1.toNat) = ((-1)))) → ib y39 50) (gd (¬ (((y39 = ((-1))) ∨ (y39 = u1)) ∨ ((tA y38.2 27 u1.toNat) = ((-1)))) → ib u1 50) (gd (¬ (((y39 = ((-1))) ∨ (y39 = u1)) ∨ ((tA y38.2 27 u1.toNat) = ((-1)))) → rg (tA y38.2 27 y39.toNat)) (gd (¬ (((y39 = ((-1))) ∨ (y39 = u1)) ∨ ((tA y38.2 27 u1.toNat) = ((-1)))) → rg (tA y38.2 27 u1.toNat)) (if (((y39 = ((-1))) ∨ (y39 = u1)) ∨ ((tA y38.2 27 u1.toNat) = ((-1)))) ∨ (¬ ((tA y38.2 27 y39.toNat) = (tA y38.2 27 u1.toNat))) then (some y38.2) else (nm (uI y38.2 52 0) fun τ90 => nm (uI τ90 45 u5) fun τ91 => some τ91)))))))))) fun (v52 : TT) => gd (rg y39) (gd (rg u1) (if y39 = u1 then (nm (uI v52 52 1) fun τ60 => nm (uI τ60 53 (tI τ60 50)) fun τ61 => nm (uI τ61 54 (tI τ61 51)) fun τ62 => Option.bind (m_isPlain u1 τ62) fun y63 => Option.bind (gd (rg y63) (if y63 = 0 then (gd (ib (tI τ62 45) 9000) (nm (uA τ62 43 (tI τ62 45).toNat (tI τ62 50)) fun τ72 => gd (ib (tI τ72 45) 9000) (nm (uA τ72 44 (tI τ72 45).toNat (tI τ72 51)) fun τ74 => nm (uI τ74 45 ((tI τ74 45) + 1)) fun τ75 => some τ75))) else (nm (tI τ62 46) fun x76 => nm (uI τ62 46 (tI τ62 50)) fun τ77 => Option.bind (m_takeNumber u1 x76 τ77) fun y78 => nm (uI y78.2 46 x76) fun τ79 => Option.bind (m_meant u1 (tJ τ79 47) τ79) fun y80 => nm (uJ τ79 55 y80) fun τ81 => some τ81))) fun (v67 : TT) => m_find_L32 u1 u2 u4 u5 u6 n v67) else (m_find_L32 u1 u2 u4 u5 u6 n v52)))))))
def m_find_L14 (u1 : Int) (u2 : Int) (u4 : Int) (u5 : Int) : Nat → Int → TT → Option (TT)
  | 0, _, _ => none
  | n + 1, w6, τ => gd (rg w6) (gd (rg u4) (if u4 ≤ w6 then (some τ) else (gd (ib w6 9000) (nm (uI τ 46 (tA τ 43 w6.toNat)) fun τ28 => Option.bind (m_find_L32 u1 u2 u4 u5 w6 FU τ28) fun (v29 : TT) => m_find_L14 u1 u2 u4 u5 n (w6 + 1) v29))))
def m_find (a1 : Int) (a2 : Int) (a3 : Int) (a4 : Int) (τ : TT) : Option (TT) := nm (tI τ 45) fun x1 => nm (uI τ 52 0) fun τ2 => Option.bind (m_find_L14 a1 a2 a4 x1 FU a3 τ2) fun (v3 : TT) => gd (rg (tI v3 52)) (gd (¬ ((tI v3 52) = 0) → ok (m_isPlain a1 v3)) (gd (¬ ((tI v3 52) = 0) → rg (vv (m_isPlain a1 v3))) (gd (¬ (((tI v3 52) = 0) ∨ (¬ ((vv (m_isPlain a1 v3)) = 0))) → ib a1 50) (gd (¬ (((tI v3 52) = 0) ∨ (¬ ((vv (m_isPlain a1 v3)) = 0))) → rg (tA v3 28 a1.toNat)) (if (((tI v3 52) = 0) ∨ (¬ ((vv (m_isPlain a1 v3)) = 0))) ∨ (¬ (16 ≤ (tA v3 28 a1.toNat))) then (nm (uI v3 45 x1) fun τ15 => some τ15) else (some v3))))))
set_option maxHeartbeats 4000000 in
theorem m_find_L32_ok {g : GE} (G : GG g) {σ : ST} {Q : VQ} (d : Nat) (hd1 : 3 ≤ d) (u1 : Int) (u2 : Int) (u4 : Int) (u5 : Int) (u6 : Int)  {K : TT → Prop} (hE235 : ∀ v33 : TT, K (v33) → V g mX4_find d 235 [(0, vr (some (gw g))), (1, vi u1), (2, vi u2), (4, vi u4), (5, vi u5), (6, vi u6)] [] σ v33 Q) : ∀ (n : Nat) (τ : TT), Sm (V g mX4_find d 32 [(0, vr (some (gw g))), (1, vi u1), (2, vi u2), (4, vi u4), (5, vi u5), (6, vi u6)] [] σ τ Q) (m_find_L32 u1 u2 u4 u5 u6 n τ) K := by
  intro n
  induction n with
  | zero => intro τ; exact sm_none
  | succ n ih =>
    intro τ
    rw [m_find_L32.eq_2]
    refine sm_b (l' := [(0, vr (some (gw g))), (1, vi u1), (2, vi u2), (4, vi u4), (5, vi u5), (6, vi u6)]) (st' := [vr (some (gw g))]) (pc' := 33) [(.aload_n 0, vi 0, 33)] (by decide +kernel) rfl rfl ?_
    refine sm_tg (k := 46) (x := vi (tI τ 46)) G.2.1 q1464 rfl rfl (by decide +kernel) ?_
    refine sm_b (l' := [(0, vr (some (gw g))), (1, vi u1), (2, vi u2), (4, vi u4), (5, vi u5), (6, vi u6)]) (st' := [vr (some (gw g)), vi (tI τ 46)]) (pc' := 37) [(.aload_n 0, vi 0, 37)] (by decide +kernel) rfl rfl ?_
    refine sm_tg (k := 44) (x := vr (some (gT g 44))) G.2.1 q1462 rfl rfl (by decide +kernel) ?_
    refine sm_b (l' := [(0, vr (some (gw g))), (1, vi u1), (2, vi u2), (4, vi u4), (5, vi u5), (6, vi u6)]) (st' := [vi u6, vr (some (gT g 44)), vi (tI τ 46)]) (pc' := 42) [(.iload 6, vi 0, 42)] (by decide +kernel) rfl rfl ?_
    refine sm_gd (fun h34 => ?_)
    refine sm_ial (k := 44) G.2.1 (by decide) rfl (ibt (k := 44) h34) h34 (by decide +kernel) ?_
    refine sm_gd (fun h35 => ?_)
    refine sm_gd (fun h36 => ?_)
    refine sm_case (V g mX4_find d 235 [(0, vr (some (gw g))), (1, vi u1), (2, vi u2), (4, vi u4), (5, vi u5), (6, vi u6)] [] σ τ Q) (V g mX4_find d 46 [(0, vr (some (gw g))), (1, vi u1), (2, vi u2), (4, vi u4), (5, vi u5), (6, vi u6)] [] σ τ Q) ?_ ?_ (fun f99 p100 n101 => ?_)
    · exact sm_leaf (fun h => hE235 _ h)
    · refine sm_b (l' := [(0, vr (some (gw g))), (1, vi u1), (2, vi u2), (4, vi u4), (5, vi u5), (6, vi u6)]) (st' := [vr (some (gw g)), vr (some (gw g))]) (pc' := 48) [(.aload_n 0, vi 0, 47), (.aload_n 0, vi 0, 48)] (by decide +kernel) rfl rfl ?_
      refine sm_tg (k := 44) (x := vr (some (gT g 44))) G.2.1 q1462 rfl rfl (by decide +kernel) ?_
      refine sm_b (l' := [(0, vr (some (gw g))), (1, vi u1), (2, vi u2), (4, vi u4), (5, vi u5), (6, vi u6)]) (st' := [vi u6, vr (some (gT g 44)), vr (some (gw g))]) (pc' := 53) [(.iload 6, vi 0, 53)] (by decide +kernel) rfl rfl ?_
      refine sm_ial (k := 44) G.2.1 (by decide) rfl (ibt (k := 44) h34) h34 (by decide +kernel) ?_
      refine sm_cv (N := mX4_takeField) (d' := d - 1) (fun r => (some (vi r.1))) (fun _ => σ) (fun r => r.2) [vi (tA τ 44 u6.toNat)] [] rfl (by decide +kernel) q1764 q1766 qs75 (Or.inl ⟨rfl, q1767⟩) (show okN yX4_takeField 1 = true by decide +kernel) (fun H hR => hR.rvw G.1 G.2.1) rfl rfl (by omega) rfl (fun Q' => m_takeField_ok G (d - 1) (by omega) (tA τ 44 u6.toNat) τ Q') (fun y38 => ?_)
      refine sm_b (l' := [(0, vr (some (gw g))), (1, vi u1), (2, vi u2), (4, vi u4), (5, vi u5), (6, vi u6)]) (st' := [vi u2, vr (some (gw g))]) (pc' := 60) [(.pop, vi 0, 58), (.aload_n 0, vi 0, 59), (.iload_n 2, vi 0, 60)] (by decide +kernel) rfl rfl ?_
      refine sm_cv (N := mX4_rightField) (d' := d - 1) (fun r => (some (vi r))) (fun _ => σ) (fun _ => y38.2) [vi u2] [] rfl (by decide +kernel) q1774 q1776 qs77 (Or.inl ⟨rfl, q1777⟩) (show okN yX4_rightField 1 = true by decide +kernel) (fun H hR => hR.rvw G.1 G.2.1) rfl rfl (by omega) rfl (fun Q' => m_rightField_ok G (d - 1) (by omega) u2 y38.2 Q') (fun y39 => ?_)
      refine sm_b (l' := [(0, vr (some (gw g))), (1, vi u1), (2, vi u2), (4, vi u4), (5, vi u5), (6, vi u6), (7, vi y39)]) (st' := [vi ((-1)), vi y39]) (pc' := 68) [(.istore 7, vi 0, 65), (.iload 7, vi 0, 67), (.iconst (-1), vi (-1), 68)] (by decide +kernel) rfl rfl ?_
      refine sm_bind1 (fun (v52 : TT) => V g mX4_find d 114 [(0, vr (some (gw g))), (1, vi u1), (2, vi u2), (4, vi u4), (5, vi u5), (6, vi u6), (7, vi y39)] [] σ v52 Q) (fun v52 => ?_) (fun K53 j54 => ?_)
      · refine sm_b (l' := [(0, vr (some (gw g))), (1, vi u1), (2, vi u2), (4, vi u4), (5, vi u5), (6, vi u6), (7, vi y39)]) (st' := [vi u1, vi y39]) (pc' := 117) [(.iload 7, vi 0, 116), (.iload_n 1, vi 0, 117)] (by decide +kernel) rfl rfl ?_
        refine sm_gd (fun h56 => ?_)
        refine sm_gd (fun h57 => ?_)
        refine sm_case (V g mX4_find d 123 [(0, vr (some (gw g))), (1, vi u1), (2, vi u2), (4, vi u4), (5, vi u5), (6, vi u6), (7, vi y39)] [] σ v52 Q) (V g mX4_find d 120 [(0, vr (some (gw g))), (1, vi u1), (2, vi u2), (4, vi u4), (5, vi u5), (6, vi u6), (7, vi y39)] [] σ v52 Q) ?_ ?_ (fun f86 p87 n88 => ?_)
        · refine sm_b (l' := [(0, vr (some (gw g))), (1, vi u1), (2, vi u2), (4, vi u4), (5, vi u5), (6, vi u6), (7, vi y39)]) (st' := [vi 1, vr (some (gw g))]) (pc' := 125) [(.aload_n 0, vi 0, 124), (.iconst 1, vi 1, 125)] (by decide +kernel) rfl rfl ?_
          refine sm_tpz (k := 52) G.2.1 q1470 rfl rfl rfl (tp_52 g v52 1) (by decide) (by decide +kernel) ?_
          refine sm_nmt (fun τ60 => ?_)
          refine sm_b (l' := [(0, vr (some (gw g))), (1, vi u1), (2, vi u2), (4, vi u4), (5, vi u5), (6, vi u6), (7, vi y39)]) (st' := [vr (some (gw g)), vr (some (gw g))]) (pc' := 130) [(.aload_n 0, vi 0, 129), (.aload_n 0, vi 0, 130)] (by decide +kernel) rfl rfl ?_
          refine sm_tg (k := 50) (x := vi (tI τ60 50)) G.2.1 q1468 rfl rfl (by decide +kernel) ?_
          refine sm_tpi (k := 53) G.2.1 q1471 rfl rfl rfl (tp_53 g τ60 (tI τ60 50)) (by decide +kernel) ?_
          refine sm_nmt (fun τ61 => ?_)
          refine sm_b (l' := [(0, vr (some (gw g))), (1, vi u1), (2, vi u2), (4, vi u4), (5, vi u5), (6, vi u6), (7, vi y39)]) (st' := [vr (some (gw g)), vr (some (gw g))]) (pc' := 138) [(.aload_n 0, vi 0, 137), (.aload_n 0, vi 0, 138)] (by decide +kernel) rfl rfl ?_
          refine sm_tg (k := 51) (x := vi (tI τ61 51)) G.2.1 q1469 rfl rfl (by decide +kernel) ?_
          refine sm_tpi (k := 54) G.2.1 q1472 rfl rfl rfl (tp_54 g τ61 (tI τ61 51)) (by decide +kernel) ?_
          refine sm_nmt (fun τ62 => ?_)
          refine sm_b (l' := [(0, vr (some (gw g))), (1, vi u1), (2, vi u2), (4, vi u4), (5, vi u5), (6, vi u6), (7, vi y39)]) (st' := [vi u1, vr (some (gw g))]) (pc' := 146) [(.aload_n 0, vi 0, 145), (.iload_n 1, vi 0, 146)] (by decide +kernel) rfl rfl ?_
          refine sm_cv (N := mX4_isPlain) (d' := d - 1) (fun r => (some (vi r))) (fun _ => σ) (fun _ => τ62) [vi u1] [] rfl (by decide +kernel) q1786 q1788 qs80 (Or.inl ⟨rfl, q1789⟩) (show okN yX4_isPlain 1 = true by decide +kernel) (fun H hR => hR.rvw G.1 G.2.1) rfl rfl (by omega) rfl (fun Q' => m_isPlain_ok G (d - 1) (by omega) u1 τ62 Q') (fun y63 => ?_)
          refine sm_bind1 (fun (v67 : TT) => V g mX4_find d 232 [(0, vr (some (gw g))), (1, vi u1), (2, vi u2), (4, vi u4), (5, vi u5), (6, vi u6)] [] σ v67 Q) (fun v67 => ?_) (fun K68 j69 => ?_)
          · refine sm_b (l' := [(0, vr (some (gw g))), (1, vi u1), (2, vi u2), (4, vi u4), (5, vi u5), (6, vi u6)]) (st' := []) (pc' := 32) [(.goto (-200), vi 0, 32)] (by decide +kernel) rfl rfl ?_
            exact ih v67
          · refine sm_gd (fun h64 => ?_)
            refine sm_case (V g mX4_find d 196 [(0, vr (some (gw g))), (1, vi u1), (2, vi u2), (4, vi u4), (5, vi u5), (6, vi u6), (7, vi y39)] [] σ τ62 Q) (V g mX4_find d 152 [(0, vr (some (gw g))), (1, vi u1), (2, vi u2), (4, vi u4), (5, vi u5), (6, vi u6), (7, vi y39)] [] σ τ62 Q) ?_ ?_ (fun f82 p83 n84 => ?_)
            · refine sm_b (l' := [(0, vr (some (gw g))), (1, vi u1), (2, vi u2), (4, vi u4), (5, vi u5), (6, vi u6), (7, vi y39)]) (st' := [vr (some (gw g))]) (pc' := 197) [(.aload_n 0, vi 0, 197)] (by decide +kernel) rfl rfl ?_
              refine sm_tg (k := 43) (x := vr (some (gT g 43))) G.2.1 q1461 rfl rfl (by decide +kernel) ?_
              refine sm_b (l' := [(0, vr (some (gw g))), (1, vi u1), (2, vi u2), (4, vi u4), (5, vi u5), (6, vi u6), (7, vi y39)]) (st' := [vr (some (gw g)), vr (some (gT g 43))]) (pc' := 201) [(.aload_n 0, vi 0, 201)] (by decide +kernel) rfl rfl ?_
              refine sm_tg (k := 45) (x := vi (tI τ62 45)) G.2.1 q1463 rfl rfl (by decide +kernel) ?_
              refine sm_b (l' := [(0, vr (some (gw g))), (1, vi u1), (2, vi u2), (4, vi u4), (5, vi u5), (6, vi u6), (7, vi y39)]) (st' := [vr (some (gw g)), vi (tI τ62 45), vr (some (gT g 43))]) (pc' := 205) [(.aload_n 0, vi 0, 205)] (by decide +kernel) rfl rfl ?_
              refine sm_tg (k := 50) (x := vi (tI τ62 50)) G.2.1 q1468 rfl rfl (by decide +kernel) ?_
              refine sm_gd (fun h71 => ?_)
              refine sm_ias (k := 43) G.2.1 (by decide) rfl (ibt (k := 43) h71) h71 (by decide +kernel) ?_
              refine sm_nmt (fun τ72 => ?_)
              refine sm_b (l' := [(0, vr (some (gw g))), (1, vi u1), (2, vi u2), (4, vi u4), (5, vi u5), (6, vi u6), (7, vi y39)]) (st' := [vr (some (gw g))]) (pc' := 210) [(.aload_n 0, vi 0, 210)] (by decide +kernel) rfl rfl ?_
              refine sm_tg (k := 44) (x := vr (some (gT g 44))) G.2.1 q1462 rfl rfl (by decide +kernel) ?_
              refine sm_b (l' := [(0, vr (some (gw g))), (1, vi u1), (2, vi u2), (4, vi u4), (5, vi u5), (6, vi u6), (7, vi y39)]) (st' := [vr (some (gw g)), vr (some (gT g 44))]) (pc' := 214) [(.aload_n 0, vi 0, 214)] (by decide +kernel) rfl rfl ?_
              refine sm_tg (k := 45) (x := vi (tI τ72 45)) G.2.1 q1463 rfl rfl (by decide +kernel) ?_
              refine sm_b (l' := [(0, vr (some (gw g))), (1, vi u1), (2, vi u2), (4, vi u4), (5, vi u5), (6, vi u6), (7, vi y39)]) (st' := [vr (some (gw g)), vi (tI τ72 45), vr (some (gT g 44))]) (pc' := 218) [(.aload_n 0, vi 0, 218)] (by decide +kernel) rfl rfl ?_
              refine sm_tg (k := 51) (x := vi (tI τ72 51)) G.2.1 q1469 rfl rfl (by decide +kernel) ?_
              refine sm_gd (fun h73 => ?_)
              refine sm_ias (k := 44) G.2.1 (by decide) rfl (ibt (k := 44) h73) h73 (by decide +kernel) ?_
              refine sm_nmt (fun τ74 => ?_)
              refine sm_b (l' := [(0, vr (some (gw g))), (1, vi u1), (2, vi u2), (4, vi u4), (5, vi u5), (6, vi u6), (7, vi y39)]) (st' := [vr (some (gw g)), vr (some (gw g))]) (pc' := 224) [(.aload_n 0, vi 0, 223), (.dup, vi 0, 224)] (by decide +kernel) rfl rfl ?_
              refine sm_tg (k := 45) (x := vi (tI τ74 45)) G.2.1 q1463 rfl rfl (by decide +kernel) ?_
              refine sm_b (l' := [(0, vr (some (gw g))), (1, vi u1), (2, vi u2), (4, vi u4), (5, vi u5), (6, vi u6), (7, vi y39)]) (st' := [vi ((tI τ74 45) + 1), vr (some (gw g))]) (pc' := 229) [(.iconst 1, vi 1, 228), (.iadd, vi 0, 229)] (by decide +kernel) rfl rfl ?_
              refine sm_tpi (k := 45) G.2.1 q1463 rfl rfl rfl (tp_45 g τ74 ((tI τ74 45) + 1)) (by decide +kernel) ?_
              refine sm_nmt (fun τ75 => ?_)
              refine sm_pick [0, 1, 2, 3, 4, 5] (l' := [(0, vr (some (gw g))), (1, vi u1), (2, vi u2), (4, vi u4), (5, vi u5), (6, vi u6)]) rfl ?_
              exact sm_leaf (fun h => j69 _ h)
            · refine sm_b (l' := [(0, vr (some (gw g))), (1, vi u1), (2, vi u2), (4, vi u4), (5, vi u5), (6, vi u6), (7, vi y39)]) (st' := [vr (some (gw g))]) (pc' := 153) [(.aload_n 0, vi 0, 153)] (by decide +kernel) rfl rfl ?_
              refine sm_tg (k := 46) (x := vi (tI τ62 46)) G.2.1 q1464 rfl rfl (by decide +kernel) ?_
              refine sm_nmi (fun x76 => ?_)
              refine sm_b (l' := [(0, vr (some (gw g))), (1, vi u1), (2, vi u2), (4, vi u4), (5, vi u5), (6, vi u6), (7, vi y39), (8, vi x76)]) (st' := [vr (some (gw g)), vr (some (gw g))]) (pc' := 160) [(.istore 8, vi 0, 158), (.aload_n 0, vi 0, 159), (.aload_n 0, vi 0, 160)] (by decide +kernel) rfl rfl ?_
              refine sm_tg (k := 50) (x := vi (tI τ62 50)) G.2.1 q1468 rfl rfl (by decide +kernel) ?_
              refine sm_tpi (k := 46) G.2.1 q1464 rfl rfl rfl (tp_46 g τ62 (tI τ62 50)) (by decide +kernel) ?_
              refine sm_nmt (fun τ77 => ?_)
              refine sm_b (l' := [(0, vr (some (gw g))), (1, vi u1), (2, vi u2), (4, vi u4), (5, vi u5), (6, vi u6), (7, vi y39), (8, vi x76)]) (st' := [vi x76, vi u1, vr (some (gw g))]) (pc' := 170) [(.aload_n 0, vi 0, 167), (.iload_n 1, vi 0, 168), (.iload 8, vi 0, 170)] (by decide +kernel) rfl rfl ?_
              refine sm_cv (N := mX4_takeNumber) (d' := d - 1) (fun r => (some (vi r.1))) (fun _ => σ) (fun r => r.2) [vi u1, vi x76] [] rfl (by decide +kernel) q1805 q1807 qs83 (Or.inl ⟨rfl, q1808⟩) (show okN yX4_takeNumber 2 = true by decide +kernel) (fun H hR => hR.rvw G.1 G.2.1) rfl rfl (by omega) rfl (fun Q' => m_takeNumber_ok G (d - 1) (by omega) u1 x76 τ77 Q') (fun y78 => ?_)
              refine sm_b (l' := [(0, vr (some (gw g))), (1, vi u1), (2, vi u2), (4, vi u4), (5, vi u5), (6, vi u6), (7, vi y39), (8, vi x76)]) (st' := [vi x76, vr (some (gw g))]) (pc' := 177) [(.pop, vi 0, 174), (.aload_n 0, vi 0, 175), (.iload 8, vi 0, 177)] (by decide +kernel) rfl rfl ?_
              refine sm_tpi (k := 46) G.2.1 q1464 rfl rfl rfl (tp_46 g y78.2 x76) (by decide +kernel) ?_
              refine sm_nmt (fun τ79 => ?_)
              refine sm_b (l' := [(0, vr (some (gw g))), (1, vi u1), (2, vi u2), (4, vi u4), (5, vi u5), (6, vi u6), (7, vi y39), (8, vi x76)]) (st' := [vr (some (gw g)), vi u1, vr (some (gw g)), vr (some (gw g))]) (pc' := 184) [(.aload_n 0, vi 0, 181), (.aload_n 0, vi 0, 182), (.iload_n 1, vi 0, 183), (.aload_n 0, vi 0, 184)] (by decide +kernel) rfl rfl ?_
              refine sm_tg (k := 47) (x := vl (tJ τ79 47)) G.2.1 q1465 rfl rfl (by decide +kernel) ?_
              refine sm_cv (N := mX4_meant) (d' := d - 1) (fun r => (some (vl r))) (fun _ => σ) (fun _ => τ79) [vi u1, vl (tJ τ79 47)] [vr (some (gw g))] rfl (by decide +kernel) q1857 q1859 qs95 (Or.inl ⟨rfl, q1860⟩) (show okN yX4_meant 2 = true by decide +kernel) (fun H hR => hR.rvw G.1 G.2.1) rfl rfl (by omega) rfl (fun Q' => m_meant_ok G (d - 1) (by omega) u1 (tJ τ79 47) τ79 Q') (fun y80 => ?_)
              refine sm_tpj (k := 55) G.2.1 q1473 rfl rfl rfl (tp_55 g τ79 y80) (by decide +kernel) ?_
              refine sm_nmt (fun τ81 => ?_)
              refine sm_b (l' := [(0, vr (some (gw g))), (1, vi u1), (2, vi u2), (4, vi u4), (5, vi u5), (6, vi u6), (7, vi y39), (8, vi x76)]) (st' := []) (pc' := 232) [(.goto 39, vi 0, 232)] (by decide +kernel) rfl rfl ?_
              refine sm_pick [0, 1, 2, 3, 4, 5] (l' := [(0, vr (some (gw g))), (1, vi u1), (2, vi u2), (4, vi u4), (5, vi u5), (6, vi u6)]) rfl ?_
              exact sm_leaf (fun h => j69 _ h)
            refine sm_if_eq (off := 47) (tgt := 196) h64 (by decide +kernel) (fun c85 => ?_) (fun c85 => ?_)
            · exact p83 c85
            · exact n84 c85
        · refine sm_b (l' := [(0, vr (some (gw g))), (1, vi u1), (2, vi u2), (4, vi u4), (5, vi u5), (6, vi u6), (7, vi y39)]) (st' := []) (pc' := 32) [(.goto (-88), vi 0, 32)] (by decide +kernel) rfl rfl ?_
          refine sm_pick [0, 1, 2, 3, 4, 5] (l' := [(0, vr (some (gw g))), (1, vi u1), (2, vi u2), (4, vi u4), (5, vi u5), (6, vi u6)]) rfl ?_
          exact ih v52
        refine sm_icmp_eq (off := 6) (tgt := 123) h56 h57 (by decide +kernel) (fun c89 => ?_) (fun c89 => ?_)
        · exact p87 c89
        · exact n88 c89
      · refine sm_gd (fun h40 => ?_)
        refine sm_gd (fun h42 => ?_)
        refine sm_gd (fun h44 => ?_)
        refine sm_gd (fun h45 => ?_)
        refine sm_gd (fun h47 => ?_)
        refine sm_gd (fun h48 => ?_)
        refine sm_gd (fun h49 => ?_)
        refine sm_gd (fun h50 => ?_)
        refine sm_case (V g mX4_find d 114 [(0, vr (some (gw g))), (1, vi u1), (2, vi u2), (4, vi u4), (5, vi u5), (6, vi u6), (7, vi y39)] [] σ y38.2 Q) (V g mX4_find d 103 [(0, vr (some (gw g))), (1, vi u1), (2, vi u2), (4, vi u4), (5, vi u5), (6, vi u6), (7, vi y39)] [] σ y38.2 Q) ?_ ?_ (fun f92 p93 n94 => ?_)
        · exact sm_leaf (fun h => j54 _ h)
        · refine sm_b (l' := [(0, vr (some (gw g))), (1, vi u1), (2, vi u2), (4, vi u4), (5, vi u5), (6, vi u6), (7, vi y39)]) (st' := [vi 0, vr (some (gw g))]) (pc' := 105) [(.aload_n 0, vi 0, 104), (.iconst 0, vi 0, 105)] (by decide +kernel) rfl rfl ?_
          refine sm_tpz (k := 52) G.2.1 q1470 rfl rfl rfl (tp_52 g y38.2 0) (by decide) (by decide +kernel) ?_
          refine sm_nmt (fun τ90 => ?_)
          refine sm_b (l' := [(0, vr (some (gw g))), (1, vi u1), (2, vi u2), (4, vi u4), (5, vi u5), (6, vi u6), (7, vi y39)]) (st' := [vi u5, vr (some (gw g))]) (pc' := 111) [(.aload_n 0, vi 0, 109), (.iload 5, vi 0, 111)] (by decide +kernel) rfl rfl ?_
          refine sm_tpi (k := 45) G.2.1 q1463 rfl rfl rfl (tp_45 g τ90 u5) (by decide +kernel) ?_
          refine sm_nmt (fun τ91 => ?_)
          exact sm_leaf (fun h => j54 _ h)
        refine sm_icmp_eq (off := 46) (tgt := 114) h40 (by decide) (by decide +kernel) (fun c95 => ?_) (fun c95 => ?_)
        · exact p93 (Or.inl (Or.inl (Or.inl c95)))
        · have w41 : ¬ (y39 = ((-1))) := c95
          refine sm_b (l' := [(0, vr (some (gw g))), (1, vi u1), (2, vi u2), (4, vi u4), (5, vi u5), (6, vi u6), (7, vi y39)]) (st' := [vi u1, vi y39]) (pc' := 74) [(.iload 7, vi 0, 73), (.iload_n 1, vi 0, 74)] (by decide +kernel) rfl rfl ?_
          refine sm_icmp_eq (off := 40) (tgt := 114) h40 (h42 w41) (by decide +kernel) (fun c96 => ?_) (fun c96 => ?_)
          · exact p93 (Or.inl (Or.inl (Or.inr c96)))
          · have w43 : ¬ ((y39 = ((-1))) ∨ (y39 = u1)) := (fun q => q.elim c95 c96)
            refine sm_b (l' := [(0, vr (some (gw g))), (1, vi u1), (2, vi u2), (4, vi u4), (5, vi u5), (6, vi u6), (7, vi y39)]) (st' := [vr (some (gw g))]) (pc' := 78) [(.aload_n 0, vi 0, 78)] (by decide +kernel) rfl rfl ?_
            refine sm_tg (k := 27) (x := vr (some (gT g 27))) G.2.1 q1445 rfl rfl (by decide +kernel) ?_
            refine sm_b (l' := [(0, vr (some (gw g))), (1, vi u1), (2, vi u2), (4, vi u4), (5, vi u5), (6, vi u6), (7, vi y39)]) (st' := [vi u1, vr (some (gT g 27))]) (pc' := 82) [(.iload_n 1, vi 0, 82)] (by decide +kernel) rfl rfl ?_
            refine sm_ial (k := 27) G.2.1 (by decide) rfl (ibt (k := 27) (h44 w43)) (h44 w43) (by decide +kernel) ?_
            refine sm_b (l' := [(0, vr (some (gw g))), (1, vi u1), (2, vi u2), (4, vi u4), (5, vi u5), (6, vi u6), (7, vi y39)]) (st' := [vi ((-1)), vi (tA y38.2 27 u1.toNat)]) (pc' := 84) [(.iconst (-1), vi (-1), 84)] (by decide +kernel) rfl rfl ?_
            refine sm_icmp_eq (off := 30) (tgt := 114) (h45 w43) (by decide) (by decide +kernel) (fun c97 => ?_) (fun c97 => ?_)
            · exact p93 (Or.inl (Or.inr c97))
            · have w46 : ¬ (((y39 = ((-1))) ∨ (y39 = u1)) ∨ ((tA y38.2 27 u1.toNat) = ((-1)))) := (fun q => q.elim (fun q => q.elim c95 c96) c97)
              refine sm_b (l' := [(0, vr (some (gw g))), (1, vi u1), (2, vi u2), (4, vi u4), (5, vi u5), (6, vi u6), (7, vi y39)]) (st' := [vr (some (gw g))]) (pc' := 88) [(.aload_n 0, vi 0, 88)] (by decide +kernel) rfl rfl ?_
              refine sm_tg (k := 27) (x := vr (some (gT g 27))) G.2.1 q1445 rfl rfl (by decide +kernel) ?_
              refine sm_b (l' := [(0, vr (some (gw g))), (1, vi u1), (2, vi u2), (4, vi u4), (5, vi u5), (6, vi u6), (7, vi y39)]) (st' := [vi y39, vr (some (gT g 27))]) (pc' := 93) [(.iload 7, vi 0, 93)] (by decide +kernel) rfl rfl ?_
              refine sm_ial (k := 27) G.2.1 (by decide) rfl (ibt (k := 27) (h47 w46)) (h47 w46) (by decide +kernel) ?_
              refine sm_b (l' := [(0, vr (some (gw g))), (1, vi u1), (2, vi u2), (4, vi u4), (5, vi u5), (6, vi u6), (7, vi y39)]) (st' := [vr (some (gw g)), vi (tA y38.2 27 y39.toNat)]) (pc' := 95) [(.aload_n 0, vi 0, 95)] (by decide +kernel) rfl rfl ?_
              refine sm_tg (k := 27) (x := vr (some (gT g 27))) G.2.1 q1445 rfl rfl (by decide +kernel) ?_
              refine sm_b (l' := [(0, vr (some (gw g))), (1, vi u1), (2, vi u2), (4, vi u4), (5, vi u5), (6, vi u6), (7, vi y39)]) (st' := [vi u1, vr (some (gT g 27)), vi (tA y38.2 27 y39.toNat)]) (pc' := 99) [(.iload_n 1, vi 0, 99)] (by decide +kernel) rfl rfl ?_
              refine sm_ial (k := 27) G.2.1 (by decide) rfl (ibt (k := 27) (h48 w46)) (h48 w46) (by decide +kernel) ?_
              refine sm_icmp_ne (off := 14) (tgt := 114) (h49 w46) (h50 w46) (by decide +kernel) (fun c98 => ?_) (fun c98 => ?_)
              · exact p93 (Or.inr c98)
              · exact n94 (fun q => q.elim (fun q => q.elim (fun q => q.elim c95 c96) c97) (fun q => q c98))
    refine sm_icmp_ge (off := 192) (tgt := 235) h35 h36 (by decide +kernel) (fun c102 => ?_) (fun c102 => ?_)
    · exact p100 c102
    · exact n101 c102
set_option maxHeartbeats 4000000 in
theorem m_find_L14_ok {g : GE} (G : GG g) {σ : ST} {Q : VQ} (d : Nat) (hd1 : 3 ≤ d) (u1 : Int) (u2 : Int) (u4 : Int) (u5 : Int)  {K : TT → Prop} (hE241 : ∀ v22 : TT, K (v22) → V g mX4_find d 241 [(0, vr (some (gw g))), (1, vi u1), (5, vi u5)] [] σ v22 Q) : ∀ (n : Nat) (w6 : Int) (τ : TT), Sm (V g mX4_find d 14 [(0, vr (some (gw g))), (1, vi u1), (2, vi u2), (4, vi u4), (5, vi u5), (6, vi w6)] [] σ τ Q) (m_find_L14 u1 u2 u4 u5 n w6 τ) K := by
  intro n
  induction n with
  | zero => intro w6 τ; exact sm_none
  | succ n ih =>
    intro w6 τ
    rw [m_find_L14.eq_2]
    refine sm_b (l' := [(0, vr (some (gw g))), (1, vi u1), (2, vi u2), (4, vi u4), (5, vi u5), (6, vi w6)]) (st' := [vi u4, vi w6]) (pc' := 18) [(.iload 6, vi 0, 16), (.iload 4, vi 0, 18)] (by decide +kernel) rfl rfl ?_
    refine sm_gd (fun h23 => ?_)
    refine sm_gd (fun h24 => ?_)
    refine sm_case (V g mX4_find d 241 [(0, vr (some (gw g))), (1, vi u1), (2, vi u2), (4, vi u4), (5, vi u5), (6, vi w6)] [] σ τ Q) (V g mX4_find d 21 [(0, vr (some (gw g))), (1, vi u1), (2, vi u2), (4, vi u4), (5, vi u5), (6, vi w6)] [] σ τ Q) ?_ ?_ (fun f103 p104 n105 => ?_)
    · refine sm_pick [0, 1, 4] (l' := [(0, vr (some (gw g))), (1, vi u1), (5, vi u5)]) rfl ?_
      exact sm_leaf (fun h => hE241 _ h)
    · refine sm_b (l' := [(0, vr (some (gw g))), (1, vi u1), (2, vi u2), (4, vi u4), (5, vi u5), (6, vi w6)]) (st' := [vr (some (gw g)), vr (some (gw g))]) (pc' := 23) [(.aload_n 0, vi 0, 22), (.aload_n 0, vi 0, 23)] (by decide +kernel) rfl rfl ?_
      refine sm_tg (k := 43) (x := vr (some (gT g 43))) G.2.1 q1461 rfl rfl (by decide +kernel) ?_
      refine sm_b (l' := [(0, vr (some (gw g))), (1, vi u1), (2, vi u2), (4, vi u4), (5, vi u5), (6, vi w6)]) (st' := [vi w6, vr (some (gT g 43)), vr (some (gw g))]) (pc' := 28) [(.iload 6, vi 0, 28)] (by decide +kernel) rfl rfl ?_
      refine sm_gd (fun h27 => ?_)
      refine sm_ial (k := 43) G.2.1 (by decide) rfl (ibt (k := 43) h27) h27 (by decide +kernel) ?_
      refine sm_tpi (k := 46) G.2.1 q1464 rfl rfl rfl (tp_46 g τ (tA τ 43 w6.toNat)) (by decide +kernel) ?_
      refine sm_nmt (fun τ28 => ?_)
      refine sm_bind1 (fun (v29 : TT) => V g mX4_find d 235 [(0, vr (some (gw g))), (1, vi u1), (2, vi u2), (4, vi u4), (5, vi u5), (6, vi w6)] [] σ v29 Q) (fun v29 => ?_) (fun K30 j31 => ?_)
      · refine sm_b (l' := [(0, vr (some (gw g))), (1, vi u1), (2, vi u2), (4, vi u4), (5, vi u5), (6, vi (w6 + 1))]) (st' := []) (pc' := 14) [(.iinc 6 1, vi 1, 238), (.goto (-224), vi 0, 14)] (by decide +kernel) rfl rfl ?_
        exact ih (w6 + 1) v29
      · exact m_find_L32_ok G d hd1 u1 u2 u4 u5 w6  (fun _ h => j31 _ h) FU τ28
    refine sm_icmp_ge (off := 223) (tgt := 241) h23 h24 (by decide +kernel) (fun c106 => ?_) (fun c106 => ?_)
    · exact p104 c106
    · exact n105 c106
set_option maxHeartbeats 4000000 in
theorem m_find_ok {g : GE} (G : GG g) {σ : ST} (d : Nat) (hd1 : 3 ≤ d) (a1 : Int) (a2 : Int) (a3 : Int) (a4 : Int)  (τ : TT) (Q : VQ) : Sm (V g mX4_find d 0 [(0, vr (some (gw g))), (1, vi a1), (2, vi a2), (3, vi a3), (4, vi a4)] [] σ τ Q) (m_find a1 a2 a3 a4 τ) (fun r => Q.1 none σ r) := by
  unfold m_find
  refine sm_top (fun K hRET => ?_)
  refine sm_b (l' := [(0, vr (some (gw g))), (1, vi a1), (2, vi a2), (3, vi a3), (4, vi a4)]) (st' := [vr (some (gw g))]) (pc' := 1) [(.aload_n 0, vi 0, 1)] (by decide +kernel) rfl rfl ?_
  refine sm_tg (k := 45) (x := vi (tI τ 45)) G.2.1 q1463 rfl rfl (by decide +kernel) ?_
  refine sm_nmi (fun x1 => ?_)
  refine sm_b (l' := [(0, vr (some (gw g))), (1, vi a1), (2, vi a2), (3, vi a3), (4, vi a4), (5, vi x1)]) (st' := [vi 0, vr (some (gw g))]) (pc' := 8) [(.istore 5, vi 0, 6), (.aload_n 0, vi 0, 7), (.iconst 0, vi 0, 8)] (by decide +kernel) rfl rfl ?_
  refine sm_tpz (k := 52) G.2.1 q1470 rfl rfl rfl (tp_52 g τ 0) (by decide) (by decide +kernel) ?_
  refine sm_nmt (fun τ2 => ?_)
  refine sm_b (l' := [(0, vr (some (gw g))), (1, vi a1), (2, vi a2), (3, vi a3), (4, vi a4), (5, vi x1), (6, vi a3)]) (st' := []) (pc' := 14) [(.iload_n 3, vi 0, 12), (.istore 6, vi 0, 14)] (by decide +kernel) rfl rfl ?_
  refine sm_bind1 (fun (v3 : TT) => V g mX4_find d 241 [(0, vr (some (gw g))), (1, vi a1), (5, vi x1)] [] σ v3 Q) (fun v3 => ?_) (fun K4 j5 => ?_)
  · refine sm_b (l' := [(0, vr (some (gw g))), (1, vi a1), (5, vi x1)]) (st' := [vr (some (gw g))]) (pc' := 242) [(.aload_n 0, vi 0, 242)] (by decide +kernel) rfl rfl ?_
    refine sm_tg (k := 52) (x := vi (tI v3 52)) G.2.1 q1470 rfl rfl (by decide +kernel) ?_
    refine sm_gd (fun h7 => ?_)
    refine sm_gd (fun h9 => ?_)
    refine sm_gd (fun h10 => ?_)
    refine sm_gd (fun h12 => ?_)
    refine sm_gd (fun h13 => ?_)
    refine sm_case (V g mX4_find d 267 [(0, vr (some (gw g))), (1, vi a1), (5, vi x1)] [] σ v3 Q) (V g mX4_find d 273 [(0, vr (some (gw g))), (1, vi a1), (5, vi x1)] [] σ v3 Q) ?_ ?_ (fun f16 p17 n18 => ?_)
    · refine sm_b (l' := [(0, vr (some (gw g))), (1, vi a1), (5, vi x1)]) (st' := [vi x1, vr (some (gw g))]) (pc' := 270) [(.aload_n 0, vi 0, 268), (.iload 5, vi 0, 270)] (by decide +kernel) rfl rfl ?_
      refine sm_tpi (k := 45) G.2.1 q1463 rfl rfl rfl (tp_45 g v3 x1) (by decide +kernel) ?_
      refine sm_nmt (fun τ15 => ?_)
      exact sm_vret rfl (by decide +kernel) (fun h => hRET _ h)
    · exact sm_vret rfl (by decide +kernel) (fun h => hRET _ h)
    refine sm_if_eq (off := 22) (tgt := 267) h7 (by decide +kernel) (fun c19 => ?_) (fun c19 => ?_)
    · exact p17 (Or.inl (Or.inl c19))
    · have w8 : ¬ ((tI v3 52) = 0) := c19
      refine sm_b (l' := [(0, vr (some (gw g))), (1, vi a1), (5, vi x1)]) (st' := [vi a1, vr (some (gw g))]) (pc' := 250) [(.aload_n 0, vi 0, 249), (.iload_n 1, vi 0, 250)] (by decide +kernel) rfl rfl ?_
      refine sm_cvp (N := mX4_isPlain) (d' := d - 1) (fun r => (some (vi r))) (some (vi (vv (m_isPlain a1 v3)))) (h9 w8) (fun y h => by rw [vv_some h]) [vi a1] [] rfl (by decide +kernel) q1786 q1788 qs80 (Or.inl ⟨rfl, q1789⟩) (show okN yX4_isPlain 1 = true by decide +kernel) (fun H hR => hR.rvw G.1 G.2.1) rfl rfl (by omega) rfl (fun Q' => m_isPlain_ok G (d - 1) (by omega) a1 v3 Q') ?_
      refine sm_if_ne (off := 14) (tgt := 267) (h10 w8) (by decide +kernel) (fun c20 => ?_) (fun c20 => ?_)
      · exact p17 (Or.inl (Or.inr c20))
      · have w11 : ¬ (((tI v3 52) = 0) ∨ (¬ ((vv (m_isPlain a1 v3)) = 0))) := (fun q => q.elim c19 (fun q => q c20))
        refine sm_b (l' := [(0, vr (some (gw g))), (1, vi a1), (5, vi x1)]) (st' := [vr (some (gw g))]) (pc' := 257) [(.aload_n 0, vi 0, 257)] (by decide +kernel) rfl rfl ?_
        refine sm_tg (k := 28) (x := vr (some (gT g 28))) G.2.1 q1446 rfl rfl (by decide +kernel) ?_
        refine sm_b (l' := [(0, vr (some (gw g))), (1, vi a1), (5, vi x1)]) (st' := [vi a1, vr (some (gT g 28))]) (pc' := 261) [(.iload_n 1, vi 0, 261)] (by decide +kernel) rfl rfl ?_
        refine sm_ial (k := 28) G.2.1 (by decide) rfl (ibt (k := 28) (h12 w11)) (h12 w11) (by decide +kernel) ?_
        refine sm_b (l' := [(0, vr (some (gw g))), (1, vi a1), (5, vi x1)]) (st' := [vi 16, vi (tA v3 28 a1.toNat)]) (pc' := 264) [(.bipush 16, vi 16, 264)] (by decide +kernel) rfl rfl ?_
        refine sm_icmp_ge (off := 9) (tgt := 273) (h13 w11) (by decide) (by decide +kernel) (fun c21 => ?_) (fun c21 => ?_)
        · exact n18 (fun q => q.elim (fun q => q.elim c19 (fun q => q c20)) (fun q => q c21))
        · exact p17 (Or.inr c21)
  · refine sm_pick [0, 1, 2, 4, 5, 6] (l' := [(0, vr (some (gw g))), (1, vi a1), (2, vi a2), (4, vi a4), (5, vi x1), (6, vi a3)]) rfl ?_
    exact m_find_L14_ok G d hd1 a1 a2 a4 x1  (fun _ h => j5 _ h) FU a3 τ2
def m_isDefault (a1 : Int) (τ : TT) : Option (Int) := gd (ib a1 50) (gd (rg (tA τ 30 a1.toNat)) (gd ((tA τ 30 a1.toNat) = 0 → rg (tA τ 27 a1.toNat)) (if ((tA τ 30 a1.toNat) = 0) ∧ ((tA τ 27 a1.toNat) = ((-1))) then (gd (rg (tA τ 28 a1.toNat)) (if ((tA τ 28 a1.toNat) < 16) ∨ (32 ≤ (tA τ 28 a1.toNat)) then (Option.bind (m_isPlain a1 τ) fun y12 => gd (rg y12) (if y12 = 0 then (gd (rg (tI τ 53)) (gd (rg (tI τ 54)) (if (tI τ 53) = (tI τ 54) then (some 1) else (some 0)))) else (if (tJ τ 55) = 0 then (some 1) else (some 0)))) else (some 0))) else (some 0))))
set_option maxHeartbeats 4000000 in
theorem m_isDefault_ok {g : GE} (G : GG g) {σ : ST} (d : Nat) (hd1 : 2 ≤ d) (a1 : Int)  (τ : TT) (Q : VQ) : Sm (V g mX4_isDefault d 0 [(0, vr (some (gw g))), (1, vi a1)] [] σ τ Q) (m_isDefault a1 τ) (fun r => Q.1 (some (vi r)) σ τ) := by
  unfold m_isDefault
  refine sm_top (fun K hRET => ?_)
  refine sm_b (l' := [(0, vr (some (gw g))), (1, vi a1)]) (st' := [vr (some (gw g))]) (pc' := 1) [(.aload_n 0, vi 0, 1)] (by decide +kernel) rfl rfl ?_
  refine sm_tg (k := 30) (x := vr (some (gT g 30))) G.2.1 q1448 rfl rfl (by decide +kernel) ?_
  refine sm_b (l' := [(0, vr (some (gw g))), (1, vi a1)]) (st' := [vi a1, vr (some (gT g 30))]) (pc' := 5) [(.iload_n 1, vi 0, 5)] (by decide +kernel) rfl rfl ?_
  refine sm_gd (fun h1 => ?_)
  refine sm_zal (k := 30) G.2.1 (by decide) rfl (ibt (k := 30) h1) h1 (by decide +kernel) ?_
  refine sm_gd (fun h2 => ?_)
  refine sm_gd (fun h4 => ?_)
  refine sm_case (V g mX4_isDefault d 19 [(0, vr (some (gw g))), (1, vi a1)] [] σ τ Q) (V g mX4_isDefault d 41 [(0, vr (some (gw g))), (1, vi a1)] [] σ τ Q) ?_ ?_ (fun f41 p42 n43 => ?_)
  · refine sm_b (l' := [(0, vr (some (gw g))), (1, vi a1)]) (st' := [vr (some (gw g))]) (pc' := 20) [(.aload_n 0, vi 0, 20)] (by decide +kernel) rfl rfl ?_
    refine sm_tg (k := 28) (x := vr (some (gT g 28))) G.2.1 q1446 rfl rfl (by decide +kernel) ?_
    refine sm_b (l' := [(0, vr (some (gw g))), (1, vi a1)]) (st' := [vi a1, vr (some (gT g 28))]) (pc' := 24) [(.iload_n 1, vi 0, 24)] (by decide +kernel) rfl rfl ?_
    refine sm_ial (k := 28) G.2.1 (by decide) rfl (ibt (k := 28) h1) h1 (by decide +kernel) ?_
    refine sm_b (l' := [(0, vr (some (gw g))), (1, vi a1)]) (st' := [vi 16, vi (tA τ 28 a1.toNat)]) (pc' := 27) [(.bipush 16, vi 16, 27)] (by decide +kernel) rfl rfl ?_
    refine sm_gd (fun h7 => ?_)
    refine sm_case (V g mX4_isDefault d 43 [(0, vr (some (gw g))), (1, vi a1)] [] σ τ Q) (V g mX4_isDefault d 41 [(0, vr (some (gw g))), (1, vi a1)] [] σ τ Q) ?_ ?_ (fun f36 p37 n38 => ?_)
    · refine sm_b (l' := [(0, vr (some (gw g))), (1, vi a1)]) (st' := [vi a1, vr (some (gw g))]) (pc' := 45) [(.aload_n 0, vi 0, 44), (.iload_n 1, vi 0, 45)] (by decide +kernel) rfl rfl ?_
      refine sm_cv (N := mX4_isPlain) (d' := d - 1) (fun r => (some (vi r))) (fun _ => σ) (fun _ => τ) [vi a1] [] rfl (by decide +kernel) q1786 q1788 qs80 (Or.inl ⟨rfl, q1789⟩) (show okN yX4_isPlain 1 = true by decide +kernel) (fun H hR => hR.rvw G.1 G.2.1) rfl rfl (by omega) rfl (fun Q' => m_isPlain_ok G (d - 1) (by omega) a1 τ Q') (fun y12 => ?_)
      refine sm_gd (fun h13 => ?_)
      refine sm_case (V g mX4_isDefault d 68 [(0, vr (some (gw g))), (1, vi a1)] [] σ τ Q) (V g mX4_isDefault d 51 [(0, vr (some (gw g))), (1, vi a1)] [] σ τ Q) ?_ ?_ (fun f32 p33 n34 => ?_)
      · refine sm_b (l' := [(0, vr (some (gw g))), (1, vi a1)]) (st' := [vr (some (gw g))]) (pc' := 69) [(.aload_n 0, vi 0, 69)] (by decide +kernel) rfl rfl ?_
        refine sm_tg (k := 53) (x := vi (tI τ 53)) G.2.1 q1471 rfl rfl (by decide +kernel) ?_
        refine sm_b (l' := [(0, vr (some (gw g))), (1, vi a1)]) (st' := [vr (some (gw g)), vi (tI τ 53)]) (pc' := 73) [(.aload_n 0, vi 0, 73)] (by decide +kernel) rfl rfl ?_
        refine sm_tg (k := 54) (x := vi (tI τ 54)) G.2.1 q1472 rfl rfl (by decide +kernel) ?_
        refine sm_gd (fun h18 => ?_)
        refine sm_gd (fun h19 => ?_)
        refine sm_case (V g mX4_isDefault d 79 [(0, vr (some (gw g))), (1, vi a1)] [] σ τ Q) (V g mX4_isDefault d 83 [(0, vr (some (gw g))), (1, vi a1)] [] σ τ Q) ?_ ?_ (fun f22 p23 n24 => ?_)
        · refine sm_b (l' := [(0, vr (some (gw g))), (1, vi a1)]) (st' := [vi 1]) (pc' := 84) [(.iconst 1, vi 1, 80), (.goto 4, vi 0, 84)] (by decide +kernel) rfl rfl ?_
          exact sm_zret rfl (by decide +kernel) (by decide) (fun h => hRET _ h)
        · refine sm_b (l' := [(0, vr (some (gw g))), (1, vi a1)]) (st' := [vi 0]) (pc' := 84) [(.iconst 0, vi 0, 84)] (by decide +kernel) rfl rfl ?_
          exact sm_zret rfl (by decide +kernel) (by decide) (fun h => hRET _ h)
        refine sm_icmp_ne (off := 7) (tgt := 83) h18 h19 (by decide +kernel) (fun c25 => ?_) (fun c25 => ?_)
        · exact n24 c25
        · exact p23 c25
      · refine sm_b (l' := [(0, vr (some (gw g))), (1, vi a1)]) (st' := [vr (some (gw g))]) (pc' := 52) [(.aload_n 0, vi 0, 52)] (by decide +kernel) rfl rfl ?_
        refine sm_tg (k := 55) (x := vl (tJ τ 55)) G.2.1 q1473 rfl rfl (by decide +kernel) ?_
        refine sm_b (l' := [(0, vr (some (gw g))), (1, vi a1)]) (st' := [vl 0, vl (tJ τ 55)]) (pc' := 56) [(.lconst 0, vl 0, 56)] (by decide +kernel) rfl rfl ?_
        refine sm_case (V g mX4_isDefault d 60 [(0, vr (some (gw g))), (1, vi a1)] [] σ τ Q) (V g mX4_isDefault d 64 [(0, vr (some (gw g))), (1, vi a1)] [] σ τ Q) ?_ ?_ (fun f28 p29 n30 => ?_)
        · refine sm_b (l' := [(0, vr (some (gw g))), (1, vi a1)]) (st' := [vi 1]) (pc' := 84) [(.iconst 1, vi 1, 61), (.goto 23, vi 0, 84)] (by decide +kernel) rfl rfl ?_
          exact sm_zret rfl (by decide +kernel) (by decide) (fun h => hRET _ h)
        · refine sm_b (l' := [(0, vr (some (gw g))), (1, vi a1)]) (st' := [vi 0]) (pc' := 84) [(.iconst 0, vi 0, 65), (.goto 19, vi 0, 84)] (by decide +kernel) rfl rfl ?_
          exact sm_zret rfl (by decide +kernel) (by decide) (fun h => hRET _ h)
        refine sm_lc_ne (off := 7) (tgt := 64) (by decide +kernel) (by decide +kernel) (fun c31 => ?_) (fun c31 => ?_)
        · exact n30 c31
        · exact p29 c31
      refine sm_if_eq (off := 20) (tgt := 68) h13 (by decide +kernel) (fun c35 => ?_) (fun c35 => ?_)
      · exact p33 c35
      · exact n34 c35
    · refine sm_b (l' := [(0, vr (some (gw g))), (1, vi a1)]) (st' := [vi 0]) (pc' := 42) [(.iconst 0, vi 0, 42)] (by decide +kernel) rfl rfl ?_
      exact sm_zret rfl (by decide +kernel) (by decide) (fun h => hRET _ h)
    refine sm_icmp_lt (off := 16) (tgt := 43) h7 (by decide) (by decide +kernel) (fun c39 => ?_) (fun c39 => ?_)
    · exact p37 (Or.inl c39)
    · refine sm_b (l' := [(0, vr (some (gw g))), (1, vi a1)]) (st' := [vr (some (gw g))]) (pc' := 31) [(.aload_n 0, vi 0, 31)] (by decide +kernel) rfl rfl ?_
      refine sm_tg (k := 28) (x := vr (some (gT g 28))) G.2.1 q1446 rfl rfl (by decide +kernel) ?_
      refine sm_b (l' := [(0, vr (some (gw g))), (1, vi a1)]) (st' := [vi a1, vr (some (gT g 28))]) (pc' := 35) [(.iload_n 1, vi 0, 35)] (by decide +kernel) rfl rfl ?_
      refine sm_ial (k := 28) G.2.1 (by decide) rfl (ibt (k := 28) h1) h1 (by decide +kernel) ?_
      refine sm_b (l' := [(0, vr (some (gw g))), (1, vi a1)]) (st' := [vi 32, vi (tA τ 28 a1.toNat)]) (pc' := 38) [(.bipush 32, vi 32, 38)] (by decide +kernel) rfl rfl ?_
      refine sm_icmp_ge (off := 5) (tgt := 43) h7 (by decide) (by decide +kernel) (fun c40 => ?_) (fun c40 => ?_)
      · exact p37 (Or.inr c40)
      · exact n38 (fun q => q.elim c39 c40)
  · refine sm_b (l' := [(0, vr (some (gw g))), (1, vi a1)]) (st' := [vi 0]) (pc' := 42) [(.iconst 0, vi 0, 42)] (by decide +kernel) rfl rfl ?_
    exact sm_zret rfl (by decide +kernel) (by decide) (fun h => hRET _ h)
  refine sm_if_ne (off := 35) (tgt := 41) h2 (by decide +kernel) (fun c44 => ?_) (fun c44 => ?_)
  · exact n43 (fun q => c44 q.1)
  · have w3 : (tA τ 30 a1.toNat) = 0 := c44
    refine sm_b (l' := [(0, vr (some (gw g))), (1, vi a1)]) (st' := [vr (some (gw g))]) (pc' := 10) [(.aload_n 0, vi 0, 10)] (by decide +kernel) rfl rfl ?_
    refine sm_tg (k := 27) (x := vr (some (gT g 27))) G.2.1 q1445 rfl rfl (by decide +kernel) ?_
    refine sm_b (l' := [(0, vr (some (gw g))), (1, vi a1)]) (st' := [vi a1, vr (some (gT g 27))]) (pc' := 14) [(.iload_n 1, vi 0, 14)] (by decide +kernel) rfl rfl ?_
    refine sm_ial (k := 27) G.2.1 (by decide) rfl (ibt (k := 27) h1) h1 (by decide +kernel) ?_
    refine sm_b (l' := [(0, vr (some (gw g))), (1, vi a1)]) (st' := [vi ((-1)), vi (tA τ 27 a1.toNat)]) (pc' := 16) [(.iconst (-1), vi (-1), 16)] (by decide +kernel) rfl rfl ?_
    refine sm_icmp_ne (off := 25) (tgt := 41) (h4 w3) (by decide) (by decide +kernel) (fun c45 => ?_) (fun c45 => ?_)
    · exact n43 (fun q => c45 q.2)
    · exact p42 ⟨c44, c45⟩
def m_putPart (rec : Int → Int → Int → TT → Option (TT)) (a1 : Int) (a2 : Int) (a3 : Int) (τ : TT) : Option (TT) := nm (tI τ 45) fun x1 => gd (ib (tI τ 45) 9000) (nm (uA τ 43 (tI τ 45).toNat a2) fun τ3 => gd (ib (tI τ3 45) 9000) (nm (uA τ3 44 (tI τ3 45).toNat a3) fun τ5 => nm (uI τ5 45 ((tI τ5 45) + 1)) fun τ6 => Option.bind (rec a1 x1 (x1 + 1) τ6) fun y7 => nm (uI y7 45 x1) fun τ8 => some τ8))
set_option maxHeartbeats 4000000 in
theorem m_putPart_ok {g : GE} (G : GG g) {D : Nat} (rec : Int → Int → Int → TT → Option (TT)) (hrec : ∀ (d : Nat), D ≤ d → ∀ {σ : ST} (a1 : Int) (a2 : Int) (a3 : Int) (τ : TT) (Q' : VQ), Sm (V g mX4_putMessage d 0 [(0, vr (some (gw g))), (1, vi a1), (2, vi a2), (3, vi a3)] [] σ τ Q') (rec a1 a2 a3 τ) (fun r => Q'.1 none σ r)) {σ : ST} (d : Nat) (hd1 : D + 1 ≤ d) (hd2 : 0 ≤ d) (a1 : Int) (a2 : Int) (a3 : Int)  (τ : TT) (Q : VQ) : Sm (V g mX4_putPart d 0 [(0, vr (some (gw g))), (1, vi a1), (2, vi a2), (3, vi a3)] [] σ τ Q) (m_putPart rec a1 a2 a3 τ) (fun r => Q.1 none σ r) := by
  unfold m_putPart
  refine sm_top (fun K hRET => ?_)
  refine sm_b (l' := [(0, vr (some (gw g))), (1, vi a1), (2, vi a2), (3, vi a3)]) (st' := [vr (some (gw g))]) (pc' := 1) [(.aload_n 0, vi 0, 1)] (by decide +kernel) rfl rfl ?_
  refine sm_tg (k := 45) (x := vi (tI τ 45)) G.2.1 q1463 rfl rfl (by decide +kernel) ?_
  refine sm_nmi (fun x1 => ?_)
  refine sm_b (l' := [(0, vr (some (gw g))), (1, vi a1), (2, vi a2), (3, vi a3), (4, vi x1)]) (st' := [vr (some (gw g))]) (pc' := 7) [(.istore 4, vi 0, 6), (.aload_n 0, vi 0, 7)] (by decide +kernel) rfl rfl ?_
  refine sm_tg (k := 43) (x := vr (some (gT g 43))) G.2.1 q1461 rfl rfl (by decide +kernel) ?_
  refine sm_b (l' := [(0, vr (some (gw g))), (1, vi a1), (2, vi a2), (3, vi a3), (4, vi x1)]) (st' := [vr (some (gw g)), vr (some (gT g 43))]) (pc' := 11) [(.aload_n 0, vi 0, 11)] (by decide +kernel) rfl rfl ?_
  refine sm_tg (k := 45) (x := vi (tI τ 45)) G.2.1 q1463 rfl rfl (by decide +kernel) ?_
  refine sm_b (l' := [(0, vr (some (gw g))), (1, vi a1), (2, vi a2), (3, vi a3), (4, vi x1)]) (st' := [vi a2, vi (tI τ 45), vr (some (gT g 43))]) (pc' := 15) [(.iload_n 2, vi 0, 15)] (by decide +kernel) rfl rfl ?_
  refine sm_gd (fun h2 => ?_)
  refine sm_ias (k := 43) G.2.1 (by decide) rfl (ibt (k := 43) h2) h2 (by decide +kernel) ?_
  refine sm_nmt (fun τ3 => ?_)
  refine sm_b (l' := [(0, vr (some (gw g))), (1, vi a1), (2, vi a2), (3, vi a3), (4, vi x1)]) (st' := [vr (some (gw g))]) (pc' := 17) [(.aload_n 0, vi 0, 17)] (by decide +kernel) rfl rfl ?_
  refine sm_tg (k := 44) (x := vr (some (gT g 44))) G.2.1 q1462 rfl rfl (by decide +kernel) ?_
  refine sm_b (l' := [(0, vr (some (gw g))), (1, vi a1), (2, vi a2), (3, vi a3), (4, vi x1)]) (st' := [vr (some (gw g)), vr (some (gT g 44))]) (pc' := 21) [(.aload_n 0, vi 0, 21)] (by decide +kernel) rfl rfl ?_
  refine sm_tg (k := 45) (x := vi (tI τ3 45)) G.2.1 q1463 rfl rfl (by decide +kernel) ?_
  refine sm_b (l' := [(0, vr (some (gw g))), (1, vi a1), (2, vi a2), (3, vi a3), (4, vi x1)]) (st' := [vi a3, vi (tI τ3 45), vr (some (gT g 44))]) (pc' := 25) [(.iload_n 3, vi 0, 25)] (by decide +kernel) rfl rfl ?_
  refine sm_gd (fun h4 => ?_)
  refine sm_ias (k := 44) G.2.1 (by decide) rfl (ibt (k := 44) h4) h4 (by decide +kernel) ?_
  refine sm_nmt (fun τ5 => ?_)
  refine sm_b (l' := [(0, vr (some (gw g))), (1, vi a1), (2, vi a2), (3, vi a3), (4, vi x1)]) (st' := [vr (some (gw g)), vr (some (gw g))]) (pc' := 28) [(.aload_n 0, vi 0, 27), (.dup, vi 0, 28)] (by decide +kernel) rfl rfl ?_
  refine sm_tg (k := 45) (x := vi (tI τ5 45)) G.2.1 q1463 rfl rfl (by decide +kernel) ?_
  refine sm_b (l' := [(0, vr (some (gw g))), (1, vi a1), (2, vi a2), (3, vi a3), (4, vi x1)]) (st' := [vi ((tI τ5 45) + 1), vr (some (gw g))]) (pc' := 33) [(.iconst 1, vi 1, 32), (.iadd, vi 0, 33)] (by decide +kernel) rfl rfl ?_
  refine sm_tpi (k := 45) G.2.1 q1463 rfl rfl rfl (tp_45 g τ5 ((tI τ5 45) + 1)) (by decide +kernel) ?_
  refine sm_nmt (fun τ6 => ?_)
  refine sm_b (l' := [(0, vr (some (gw g))), (1, vi a1), (2, vi a2), (3, vi a3), (4, vi x1)]) (st' := [vi (x1 + 1), vi x1, vi a1, vr (some (gw g))]) (pc' := 44) [(.aload_n 0, vi 0, 37), (.iload_n 1, vi 0, 38), (.iload 4, vi 0, 40), (.iload 4, vi 0, 42), (.iconst 1, vi 1, 43), (.iadd, vi 0, 44)] (by decide +kernel) rfl rfl ?_
  refine sm_cv (N := mX4_putMessage) (d' := d - 1) (fun r => none) (fun _ => σ) (fun r => r) [vi a1, vi x1, vi (x1 + 1)] [] rfl (by decide +kernel) q1813 q1815 qs85 (Or.inl ⟨rfl, q1816⟩) (show okN yX4_putMessage 3 = true by decide +kernel) (fun H hR => hR.rvw G.1 G.2.1) rfl rfl (by omega) rfl (fun Q' => hrec (d - 1) (by omega) a1 x1 (x1 + 1) τ6 Q') (fun y7 => ?_)
  refine sm_b (l' := [(0, vr (some (gw g))), (1, vi a1), (2, vi a2), (3, vi a3), (4, vi x1)]) (st' := [vi x1, vr (some (gw g))]) (pc' := 50) [(.aload_n 0, vi 0, 48), (.iload 4, vi 0, 50)] (by decide +kernel) rfl rfl ?_
  refine sm_tpi (k := 45) G.2.1 q1463 rfl rfl rfl (tp_45 g y7 x1) (by decide +kernel) ?_
  refine sm_nmt (fun τ8 => ?_)
  exact sm_vret rfl (by decide +kernel) (fun h => hRET _ h)
def m_putOne (rec : Int → Int → Int → TT → Option (TT)) (a1 : Int) (a2 : Int) (a3 : Int) (τ : TT) : Option (TT) := gd (ib a1 50) (gd (rg (tA τ 28 a1.toNat)) (if (tA τ 28 a1.toNat) = 9 then (Option.bind (m_putText a2 a3 τ) fun y5 => some y5) else (if (tA τ 28 a1.toNat) = 10 then (Option.bind (m_putBytes a2 a3 τ) fun y8 => some y8) else (Option.bind (m_putPart rec ((tA τ 28 a1.toNat) - 16) a2 a3 τ) fun y9 => some y9))))
set_option maxHeartbeats 4000000 in
theorem m_putOne_ok {g : GE} (G : GG g) {D : Nat} (rec : Int → Int → Int → TT → Option (TT)) (hrec : ∀ (d : Nat), D ≤ d → ∀ {σ : ST} (a1 : Int) (a2 : Int) (a3 : Int) (τ : TT) (Q' : VQ), Sm (V g mX4_putMessage d 0 [(0, vr (some (gw g))), (1, vi a1), (2, vi a2), (3, vi a3)] [] σ τ Q') (rec a1 a2 a3 τ) (fun r => Q'.1 none σ r)) {σ : ST} (d : Nat) (hd1 : D + 2 ≤ d) (hd2 : 8 ≤ d) (a1 : Int) (a2 : Int) (a3 : Int)  (τ : TT) (Q : VQ) : Sm (V g mX4_putOne d 0 [(0, vr (some (gw g))), (1, vi a1), (2, vi a2), (3, vi a3)] [] σ τ Q) (m_putOne rec a1 a2 a3 τ) (fun r => Q.1 none σ r) := by
  unfold m_putOne
  refine sm_top (fun K hRET => ?_)
  refine sm_b (l' := [(0, vr (some (gw g))), (1, vi a1), (2, vi a2), (3, vi a3)]) (st' := [vr (some (gw g))]) (pc' := 1) [(.aload_n 0, vi 0, 1)] (by decide +kernel) rfl rfl ?_
  refine sm_tg (k := 28) (x := vr (some (gT g 28))) G.2.1 q1446 rfl rfl (by decide +kernel) ?_
  refine sm_b (l' := [(0, vr (some (gw g))), (1, vi a1), (2, vi a2), (3, vi a3)]) (st' := [vi a1, vr (some (gT g 28))]) (pc' := 5) [(.iload_n 1, vi 0, 5)] (by decide +kernel) rfl rfl ?_
  refine sm_gd (fun h1 => ?_)
  refine sm_ial (k := 28) G.2.1 (by decide) rfl (ibt (k := 28) h1) h1 (by decide +kernel) ?_
  refine sm_b (l' := [(0, vr (some (gw g))), (1, vi a1), (2, vi a2), (3, vi a3)]) (st' := [vi 9, vi (tA τ 28 a1.toNat)]) (pc' := 8) [(.bipush 9, vi 9, 8)] (by decide +kernel) rfl rfl ?_
  refine sm_gd (fun h2 => ?_)
  refine sm_case (V g mX4_putOne d 11 [(0, vr (some (gw g))), (1, vi a1), (2, vi a2), (3, vi a3)] [] σ τ Q) (V g mX4_putOne d 20 [(0, vr (some (gw g))), (1, vi a1), (2, vi a2), (3, vi a3)] [] σ τ Q) ?_ ?_ (fun f14 p15 n16 => ?_)
  · refine sm_b (l' := [(0, vr (some (gw g))), (1, vi a1), (2, vi a2), (3, vi a3)]) (st' := [vi a3, vi a2, vr (some (gw g))]) (pc' := 14) [(.aload_n 0, vi 0, 12), (.iload_n 2, vi 0, 13), (.iload_n 3, vi 0, 14)] (by decide +kernel) rfl rfl ?_
    refine sm_cv (N := mX4_putText) (d' := d - 1) (fun r => none) (fun _ => σ) (fun r => r) [vi a2, vi a3] [] rfl (by decide +kernel) q1841 q1843 qs92 (Or.inl ⟨rfl, q1844⟩) (show okN yX4_putText 2 = true by decide +kernel) (fun H hR => hR.rvw G.1 G.2.1) rfl rfl (by omega) rfl (fun Q' => m_putText_ok G (d - 1) (by omega) a2 a3 τ Q') (fun y5 => ?_)
    refine sm_b (l' := [(0, vr (some (gw g))), (1, vi a1), (2, vi a2), (3, vi a3)]) (st' := []) (pc' := 55) [(.goto 38, vi 0, 55)] (by decide +kernel) rfl rfl ?_
    exact sm_vret rfl (by decide +kernel) (fun h => hRET _ h)
  · refine sm_b (l' := [(0, vr (some (gw g))), (1, vi a1), (2, vi a2), (3, vi a3)]) (st' := [vr (some (gw g))]) (pc' := 21) [(.aload_n 0, vi 0, 21)] (by decide +kernel) rfl rfl ?_
    refine sm_tg (k := 28) (x := vr (some (gT g 28))) G.2.1 q1446 rfl rfl (by decide +kernel) ?_
    refine sm_b (l' := [(0, vr (some (gw g))), (1, vi a1), (2, vi a2), (3, vi a3)]) (st' := [vi a1, vr (some (gT g 28))]) (pc' := 25) [(.iload_n 1, vi 0, 25)] (by decide +kernel) rfl rfl ?_
    refine sm_ial (k := 28) G.2.1 (by decide) rfl (ibt (k := 28) h1) h1 (by decide +kernel) ?_
    refine sm_b (l' := [(0, vr (some (gw g))), (1, vi a1), (2, vi a2), (3, vi a3)]) (st' := [vi 10, vi (tA τ 28 a1.toNat)]) (pc' := 28) [(.bipush 10, vi 10, 28)] (by decide +kernel) rfl rfl ?_
    refine sm_case (V g mX4_putOne d 31 [(0, vr (some (gw g))), (1, vi a1), (2, vi a2), (3, vi a3)] [] σ τ Q) (V g mX4_putOne d 40 [(0, vr (some (gw g))), (1, vi a1), (2, vi a2), (3, vi a3)] [] σ τ Q) ?_ ?_ (fun f10 p11 n12 => ?_)
    · refine sm_b (l' := [(0, vr (some (gw g))), (1, vi a1), (2, vi a2), (3, vi a3)]) (st' := [vi a3, vi a2, vr (some (gw g))]) (pc' := 34) [(.aload_n 0, vi 0, 32), (.iload_n 2, vi 0, 33), (.iload_n 3, vi 0, 34)] (by decide +kernel) rfl rfl ?_
      refine sm_cv (N := mX4_putBytes) (d' := d - 1) (fun r => none) (fun _ => σ) (fun r => r) [vi a2, vi a3] [] rfl (by decide +kernel) q1850 q1852 qs94 (Or.inl ⟨rfl, q1853⟩) (show okN yX4_putBytes 2 = true by decide +kernel) (fun H hR => hR.rvw G.1 G.2.1) rfl rfl (by omega) rfl (fun Q' => m_putBytes_ok G (d - 1) (by omega) a2 a3 τ Q') (fun y8 => ?_)
      refine sm_b (l' := [(0, vr (some (gw g))), (1, vi a1), (2, vi a2), (3, vi a3)]) (st' := []) (pc' := 55) [(.goto 18, vi 0, 55)] (by decide +kernel) rfl rfl ?_
      exact sm_vret rfl (by decide +kernel) (fun h => hRET _ h)
    · refine sm_b (l' := [(0, vr (some (gw g))), (1, vi a1), (2, vi a2), (3, vi a3)]) (st' := [vr (some (gw g)), vr (some (gw g))]) (pc' := 42) [(.aload_n 0, vi 0, 41), (.aload_n 0, vi 0, 42)] (by decide +kernel) rfl rfl ?_
      refine sm_tg (k := 28) (x := vr (some (gT g 28))) G.2.1 q1446 rfl rfl (by decide +kernel) ?_
      refine sm_b (l' := [(0, vr (some (gw g))), (1, vi a1), (2, vi a2), (3, vi a3)]) (st' := [vi a1, vr (some (gT g 28)), vr (some (gw g))]) (pc' := 46) [(.iload_n 1, vi 0, 46)] (by decide +kernel) rfl rfl ?_
      refine sm_ial (k := 28) G.2.1 (by decide) rfl (ibt (k := 28) h1) h1 (by decide +kernel) ?_
      refine sm_b (l' := [(0, vr (some (gw g))), (1, vi a1), (2, vi a2), (3, vi a3)]) (st' := [vi a3, vi a2, vi ((tA τ 28 a1.toNat) - 16), vr (some (gw g))]) (pc' := 52) [(.bipush 16, vi 16, 49), (.isub, vi 0, 50), (.iload_n 2, vi 0, 51), (.iload_n 3, vi 0, 52)] (by decide +kernel) rfl rfl ?_
      refine sm_cv (N := mX4_putPart) (d' := d - 1) (fun r => none) (fun _ => σ) (fun r => r) [vi ((tA τ 28 a1.toNat) - 16), vi a2, vi a3] [] rfl (by decide +kernel) q1809 q1811 qs84 (Or.inl ⟨rfl, q1812⟩) (show okN yX4_putPart 3 = true by decide +kernel) (fun H hR => hR.rvw G.1 G.2.1) rfl rfl (by omega) rfl (fun Q' => m_putPart_ok G (D := D) rec hrec (d - 1) (by omega) (by omega) ((tA τ 28 a1.toNat) - 16) a2 a3 τ Q') (fun y9 => ?_)
      exact sm_vret rfl (by decide +kernel) (fun h => hRET _ h)
    refine sm_icmp_ne (off := 12) (tgt := 40) h2 (by decide) (by decide +kernel) (fun c13 => ?_) (fun c13 => ?_)
    · exact n12 c13
    · exact p11 c13
  refine sm_icmp_ne (off := 12) (tgt := 20) h2 (by decide) (by decide +kernel) (fun c17 => ?_) (fun c17 => ?_)
  · exact n16 c17
  · exact p15 c17
