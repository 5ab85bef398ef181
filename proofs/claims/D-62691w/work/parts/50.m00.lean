set_option maxRecDepth 100000
/-! the reference: X4_feed, X4_end, X4_clearSchema, X4_isLetter, X4_isDigit, X4_readTokens, X4_is, X4_takes -/
def m_feed_L23 (u1 : Int) (u2 : Int) (u3 : Int) (u4 : Int) (u5 : Int) : Nat → Int → TT → Option (TT)
  | 0, _, _ => none
  | n + 1, w6, τ => gd (rg w6) (if 20 ≤ w6 then (some τ) else (Option.bind (if 4 ≤ w6 then (if 8 ≤ w6 then (if 12 ≤ w6 then (if 16 ≤ w6 then (some u5) else (some u4)) else (some u3)) else (some u2)) else (some u1)) fun (v15 : Int) => gd (ib ((tI τ 4) + w6) 1000) (nm (uA τ 1 ((tI τ 4) + w6).toNat (iAnd (iShr v15 (24 - (8 * (iRem w6 4)))) 255)) fun τ20 => m_feed_L23 u1 u2 u3 u4 u5 n (w6 + 1) τ20)))
def m_feed (a1 : Int) (a2 : Int) (a3 : Int) (a4 : Int) (a5 : Int) (τ : TT) : Option (Int × TT) := nm (uI τ 0 0) fun τ1 => gd (rg ((tI τ1 4) + 20)) (if ((tI τ1 4) + 20) ≤ 1000 then (Option.bind (m_feed_L23 a1 a2 a3 a4 a5 FU 0 τ1) fun (v5 : TT) => nm (uI v5 4 ((tI v5 4) + 20)) fun τ9 => some ((1, τ9))) else (some ((0, τ1))))
set_option maxHeartbeats 4000000 in
theorem m_feed_L23_ok {g : GE} (G : GG g) {σ : ST} {Q : VQ} (d : Nat) (hd1 : 0 ≤ d) (u1 : Int) (u2 : Int) (u3 : Int) (u4 : Int) (u5 : Int)  {K : TT → Prop} (hE113 : ∀ v10 : TT, K (v10) → V g mX4_feed d 113 [(0, vr (some (gw g)))] [] σ v10 Q) : ∀ (n : Nat) (w6 : Int) (τ : TT), Sm (V g mX4_feed d 23 [(0, vr (some (gw g))), (1, vi u1), (2, vi u2), (3, vi u3), (4, vi u4), (5, vi u5), (6, vi w6)] [] σ τ Q) (m_feed_L23 u1 u2 u3 u4 u5 n w6 τ) K := by
  intro n
  induction n with
  | zero => intro w6 τ; exact sm_none
  | succ n ih =>
    intro w6 τ
    rw [m_feed_L23.eq_2]
    refine sm_b (l' := [(0, vr (some (gw g))), (1, vi u1), (2, vi u2), (3, vi u3), (4, vi u4), (5, vi u5), (6, vi w6)]) (st' := [vi 20, vi w6]) (pc' := 27) [(.iload 6, vi 0, 25), (.bipush 20, vi 20, 27)] (by decide +kernel) rfl rfl ?_
    refine sm_gd (fun h11 => ?_)
    refine sm_case (V g mX4_feed d 113 [(0, vr (some (gw g))), (1, vi u1), (2, vi u2), (3, vi u3), (4, vi u4), (5, vi u5), (6, vi w6)] [] σ τ Q) (V g mX4_feed d 30 [(0, vr (some (gw g))), (1, vi u1), (2, vi u2), (3, vi u3), (4, vi u4), (5, vi u5), (6, vi w6)] [] σ τ Q) ?_ ?_ (fun f43 p44 n45 => ?_)
    · refine sm_pick [0] (l' := [(0, vr (some (gw g)))]) rfl ?_
      exact sm_leaf (fun h => hE113 _ h)
    · refine sm_b (l' := [(0, vr (some (gw g))), (1, vi u1), (2, vi u2), (3, vi u3), (4, vi u4), (5, vi u5), (6, vi w6)]) (st' := [vi 4, vi w6]) (pc' := 33) [(.iload 6, vi 0, 32), (.iconst 4, vi 4, 33)] (by decide +kernel) rfl rfl ?_
      refine sm_bind1 (fun (v15 : Int) => V g mX4_feed d 76 [(0, vr (some (gw g))), (1, vi u1), (2, vi u2), (3, vi u3), (4, vi u4), (5, vi u5), (6, vi w6)] [vi v15] σ τ Q) (fun v15 => ?_) (fun K16 j17 => ?_)
      · refine sm_b (l' := [(0, vr (some (gw g))), (1, vi u1), (2, vi u2), (3, vi u3), (4, vi u4), (5, vi u5), (6, vi w6), (7, vi v15)]) (st' := [vr (some (gw g))]) (pc' := 79) [(.istore 7, vi 0, 78), (.aload_n 0, vi 0, 79)] (by decide +kernel) rfl rfl ?_
        refine sm_tg (k := 1) (x := vr (some (gT g 1))) G.2.1 q1419 rfl rfl (by decide +kernel) ?_
        refine sm_b (l' := [(0, vr (some (gw g))), (1, vi u1), (2, vi u2), (3, vi u3), (4, vi u4), (5, vi u5), (6, vi w6), (7, vi v15)]) (st' := [vr (some (gw g)), vr (some (gT g 1))]) (pc' := 83) [(.aload_n 0, vi 0, 83)] (by decide +kernel) rfl rfl ?_
        refine sm_tg (k := 4) (x := vi (tI τ 4)) G.2.1 q1422 rfl rfl (by decide +kernel) ?_
        refine sm_b (l' := [(0, vr (some (gw g))), (1, vi u1), (2, vi u2), (3, vi u3), (4, vi u4), (5, vi u5), (6, vi w6), (7, vi v15)]) (st' := [vi 4, vi w6, vi 8, vi 24, vi v15, vi ((tI τ 4) + w6), vr (some (gT g 1))]) (pc' := 98) [(.iload 6, vi 0, 88), (.iadd, vi 0, 89), (.iload 7, vi 0, 91), (.bipush 24, vi 24, 93), (.bipush 8, vi 8, 95), (.iload 6, vi 0, 97), (.iconst 4, vi 4, 98)] (by decide +kernel) rfl rfl ?_
        refine sm_irem (by decide +kernel) (by decide) ?_
        refine sm_b (l' := [(0, vr (some (gw g))), (1, vi u1), (2, vi u2), (3, vi u3), (4, vi u4), (5, vi u5), (6, vi w6), (7, vi v15)]) (st' := [vi (iAnd (iShr v15 (24 - (8 * (iRem w6 4)))) 255), vi ((tI τ 4) + w6), vr (some (gT g 1))]) (pc' := 106) [(.imul, vi 0, 100), (.isub, vi 0, 101), (.ishr, vi 0, 102), (.sipush 255, vi 255, 105), (.iand, vi 0, 106)] (by decide +kernel) rfl rfl ?_
        refine sm_gd (fun h19 => ?_)
        refine sm_ias (k := 1) G.2.1 (by decide) rfl (ibt (k := 1) h19) h19 (by decide +kernel) ?_
        refine sm_nmt (fun τ20 => ?_)
        refine sm_b (l' := [(0, vr (some (gw g))), (1, vi u1), (2, vi u2), (3, vi u3), (4, vi u4), (5, vi u5), (6, vi (w6 + 1)), (7, vi v15)]) (st' := []) (pc' := 23) [(.iinc 6 1, vi 1, 110), (.goto (-87), vi 0, 23)] (by decide +kernel) rfl rfl ?_
        refine sm_pick [0, 1, 2, 3, 4, 5, 6] (l' := [(0, vr (some (gw g))), (1, vi u1), (2, vi u2), (3, vi u3), (4, vi u4), (5, vi u5), (6, vi (w6 + 1))]) rfl ?_
        exact ih (w6 + 1) τ20
      · refine sm_case (V g mX4_feed d 40 [(0, vr (some (gw g))), (1, vi u1), (2, vi u2), (3, vi u3), (4, vi u4), (5, vi u5), (6, vi w6)] [] σ τ Q) (V g mX4_feed d 36 [(0, vr (some (gw g))), (1, vi u1), (2, vi u2), (3, vi u3), (4, vi u4), (5, vi u5), (6, vi w6)] [] σ τ Q) ?_ ?_ (fun f39 p40 n41 => ?_)
        · refine sm_b (l' := [(0, vr (some (gw g))), (1, vi u1), (2, vi u2), (3, vi u3), (4, vi u4), (5, vi u5), (6, vi w6)]) (st' := [vi 8, vi w6]) (pc' := 44) [(.iload 6, vi 0, 42), (.bipush 8, vi 8, 44)] (by decide +kernel) rfl rfl ?_
          refine sm_case (V g mX4_feed d 51 [(0, vr (some (gw g))), (1, vi u1), (2, vi u2), (3, vi u3), (4, vi u4), (5, vi u5), (6, vi w6)] [] σ τ Q) (V g mX4_feed d 47 [(0, vr (some (gw g))), (1, vi u1), (2, vi u2), (3, vi u3), (4, vi u4), (5, vi u5), (6, vi w6)] [] σ τ Q) ?_ ?_ (fun f35 p36 n37 => ?_)
          · refine sm_b (l' := [(0, vr (some (gw g))), (1, vi u1), (2, vi u2), (3, vi u3), (4, vi u4), (5, vi u5), (6, vi w6)]) (st' := [vi 12, vi w6]) (pc' := 55) [(.iload 6, vi 0, 53), (.bipush 12, vi 12, 55)] (by decide +kernel) rfl rfl ?_
            refine sm_case (V g mX4_feed d 62 [(0, vr (some (gw g))), (1, vi u1), (2, vi u2), (3, vi u3), (4, vi u4), (5, vi u5), (6, vi w6)] [] σ τ Q) (V g mX4_feed d 58 [(0, vr (some (gw g))), (1, vi u1), (2, vi u2), (3, vi u3), (4, vi u4), (5, vi u5), (6, vi w6)] [] σ τ Q) ?_ ?_ (fun f31 p32 n33 => ?_)
            · refine sm_b (l' := [(0, vr (some (gw g))), (1, vi u1), (2, vi u2), (3, vi u3), (4, vi u4), (5, vi u5), (6, vi w6)]) (st' := [vi 16, vi w6]) (pc' := 66) [(.iload 6, vi 0, 64), (.bipush 16, vi 16, 66)] (by decide +kernel) rfl rfl ?_
              refine sm_case (V g mX4_feed d 74 [(0, vr (some (gw g))), (1, vi u1), (2, vi u2), (3, vi u3), (4, vi u4), (5, vi u5), (6, vi w6)] [] σ τ Q) (V g mX4_feed d 69 [(0, vr (some (gw g))), (1, vi u1), (2, vi u2), (3, vi u3), (4, vi u4), (5, vi u5), (6, vi w6)] [] σ τ Q) ?_ ?_ (fun f27 p28 n29 => ?_)
              · refine sm_b (l' := [(0, vr (some (gw g))), (1, vi u1), (2, vi u2), (3, vi u3), (4, vi u4), (5, vi u5), (6, vi w6)]) (st' := [vi u5]) (pc' := 76) [(.iload 5, vi 0, 76)] (by decide +kernel) rfl rfl ?_
                exact sm_leaf (fun h => j17 _ h)
              · refine sm_b (l' := [(0, vr (some (gw g))), (1, vi u1), (2, vi u2), (3, vi u3), (4, vi u4), (5, vi u5), (6, vi w6)]) (st' := [vi u4]) (pc' := 76) [(.iload 4, vi 0, 71), (.goto 5, vi 0, 76)] (by decide +kernel) rfl rfl ?_
                exact sm_leaf (fun h => j17 _ h)
              refine sm_icmp_ge (off := 8) (tgt := 74) h11 (by decide) (by decide +kernel) (fun c30 => ?_) (fun c30 => ?_)
              · exact p28 c30
              · exact n29 c30
            · refine sm_b (l' := [(0, vr (some (gw g))), (1, vi u1), (2, vi u2), (3, vi u3), (4, vi u4), (5, vi u5), (6, vi w6)]) (st' := [vi u3]) (pc' := 76) [(.iload_n 3, vi 0, 59), (.goto 17, vi 0, 76)] (by decide +kernel) rfl rfl ?_
              exact sm_leaf (fun h => j17 _ h)
            refine sm_icmp_ge (off := 7) (tgt := 62) h11 (by decide) (by decide +kernel) (fun c34 => ?_) (fun c34 => ?_)
            · exact p32 c34
            · exact n33 c34
          · refine sm_b (l' := [(0, vr (some (gw g))), (1, vi u1), (2, vi u2), (3, vi u3), (4, vi u4), (5, vi u5), (6, vi w6)]) (st' := [vi u2]) (pc' := 76) [(.iload_n 2, vi 0, 48), (.goto 28, vi 0, 76)] (by decide +kernel) rfl rfl ?_
            exact sm_leaf (fun h => j17 _ h)
          refine sm_icmp_ge (off := 7) (tgt := 51) h11 (by decide) (by decide +kernel) (fun c38 => ?_) (fun c38 => ?_)
          · exact p36 c38
          · exact n37 c38
        · refine sm_b (l' := [(0, vr (some (gw g))), (1, vi u1), (2, vi u2), (3, vi u3), (4, vi u4), (5, vi u5), (6, vi w6)]) (st' := [vi u1]) (pc' := 76) [(.iload_n 1, vi 0, 37), (.goto 39, vi 0, 76)] (by decide +kernel) rfl rfl ?_
          exact sm_leaf (fun h => j17 _ h)
        refine sm_icmp_ge (off := 7) (tgt := 40) h11 (by decide) (by decide +kernel) (fun c42 => ?_) (fun c42 => ?_)
        · exact p40 c42
        · exact n41 c42
    refine sm_icmp_ge (off := 86) (tgt := 113) h11 (by decide) (by decide +kernel) (fun c46 => ?_) (fun c46 => ?_)
    · exact p44 c46
    · exact n45 c46
set_option maxHeartbeats 4000000 in
theorem m_feed_ok {g : GE} (G : GG g) {σ : ST} (d : Nat) (hd1 : 0 ≤ d) (a1 : Int) (a2 : Int) (a3 : Int) (a4 : Int) (a5 : Int)  (τ : TT) (Q : VQ) : Sm (V g mX4_feed d 0 [(0, vr (some (gw g))), (1, vi a1), (2, vi a2), (3, vi a3), (4, vi a4), (5, vi a5)] [] σ τ Q) (m_feed a1 a2 a3 a4 a5 τ) (fun r => Q.1 (some (vi r.1)) σ r.2) := by
  unfold m_feed
  refine sm_top (fun K hRET => ?_)
  refine sm_b (l' := [(0, vr (some (gw g))), (1, vi a1), (2, vi a2), (3, vi a3), (4, vi a4), (5, vi a5)]) (st' := [vi 0, vr (some (gw g))]) (pc' := 2) [(.aload_n 0, vi 0, 1), (.iconst 0, vi 0, 2)] (by decide +kernel) rfl rfl ?_
  refine sm_tpi (k := 0) G.2.1 q1418 rfl rfl rfl (tp_0 g τ 0) (by decide +kernel) ?_
  refine sm_nmt (fun τ1 => ?_)
  refine sm_b (l' := [(0, vr (some (gw g))), (1, vi a1), (2, vi a2), (3, vi a3), (4, vi a4), (5, vi a5)]) (st' := [vr (some (gw g))]) (pc' := 6) [(.aload_n 0, vi 0, 6)] (by decide +kernel) rfl rfl ?_
  refine sm_tg (k := 4) (x := vi (tI τ1 4)) G.2.1 q1422 rfl rfl (by decide +kernel) ?_
  refine sm_b (l' := [(0, vr (some (gw g))), (1, vi a1), (2, vi a2), (3, vi a3), (4, vi a4), (5, vi a5)]) (st' := [vi 1000, vi ((tI τ1 4) + 20)]) (pc' := 15) [(.bipush 20, vi 20, 11), (.iadd, vi 0, 12), (.sipush 1000, vi 1000, 15)] (by decide +kernel) rfl rfl ?_
  refine sm_gd (fun h2 => ?_)
  refine sm_case (V g mX4_feed d 20 [(0, vr (some (gw g))), (1, vi a1), (2, vi a2), (3, vi a3), (4, vi a4), (5, vi a5)] [] σ τ1 Q) (V g mX4_feed d 18 [(0, vr (some (gw g))), (1, vi a1), (2, vi a2), (3, vi a3), (4, vi a4), (5, vi a5)] [] σ τ1 Q) ?_ ?_ (fun f47 p48 n49 => ?_)
  · refine sm_b (l' := [(0, vr (some (gw g))), (1, vi a1), (2, vi a2), (3, vi a3), (4, vi a4), (5, vi a5), (6, vi 0)]) (st' := []) (pc' := 23) [(.iconst 0, vi 0, 21), (.istore 6, vi 0, 23)] (by decide +kernel) rfl rfl ?_
    refine sm_bind1 (fun (v5 : TT) => V g mX4_feed d 113 [(0, vr (some (gw g)))] [] σ v5 Q) (fun v5 => ?_) (fun K6 j7 => ?_)
    · refine sm_b (l' := [(0, vr (some (gw g)))]) (st' := [vr (some (gw g)), vr (some (gw g))]) (pc' := 115) [(.aload_n 0, vi 0, 114), (.dup, vi 0, 115)] (by decide +kernel) rfl rfl ?_
      refine sm_tg (k := 4) (x := vi (tI v5 4)) G.2.1 q1422 rfl rfl (by decide +kernel) ?_
      refine sm_b (l' := [(0, vr (some (gw g)))]) (st' := [vi ((tI v5 4) + 20), vr (some (gw g))]) (pc' := 121) [(.bipush 20, vi 20, 120), (.iadd, vi 0, 121)] (by decide +kernel) rfl rfl ?_
      refine sm_tpi (k := 4) G.2.1 q1422 rfl rfl rfl (tp_4 g v5 ((tI v5 4) + 20)) (by decide +kernel) ?_
      refine sm_nmt (fun τ9 => ?_)
      refine sm_b (l' := [(0, vr (some (gw g)))]) (st' := [vi 1]) (pc' := 125) [(.iconst 1, vi 1, 125)] (by decide +kernel) rfl rfl ?_
      exact sm_zret rfl (by decide +kernel) (by decide) (fun h => hRET _ h)
    · exact m_feed_L23_ok G d hd1 a1 a2 a3 a4 a5  (fun _ h => j7 _ h) FU 0 τ1
  · refine sm_b (l' := [(0, vr (some (gw g))), (1, vi a1), (2, vi a2), (3, vi a3), (4, vi a4), (5, vi a5)]) (st' := [vi 0]) (pc' := 19) [(.iconst 0, vi 0, 19)] (by decide +kernel) rfl rfl ?_
    exact sm_zret rfl (by decide +kernel) (by decide) (fun h => hRET _ h)
  refine sm_icmp_le (off := 5) (tgt := 20) h2 (by decide) (by decide +kernel) (fun c50 => ?_) (fun c50 => ?_)
  · exact p48 c50
  · exact n49 c50
def m_end_L21 (u1 : Int) : Nat → Int → TT → Option (TT)
  | 0, _, _ => none
  | n + 1, w2, τ => gd (rg w2) (gd (rg u1) (if u1 ≤ w2 then (some τ) else (gd (ib w2 1000) (nm (uA τ 2 w2.toNat (tA τ 1 w2.toNat)) fun τ19 => m_end_L21 u1 n (w2 + 1) τ19))))
def m_end (a1 : Int) (τ : TT) : Option (Int × TT) := nm (uI τ 0 0) fun τ1 => gd (rg a1) (gd (¬ (a1 < 0) → rg (tI τ1 4)) (if (a1 < 0) ∨ (¬ (a1 ≤ (tI τ1 4))) then (some ((0, τ1))) else (Option.bind (m_end_L21 a1 FU 0 τ1) fun (v7 : TT) => nm (uI v7 5 a1) fun τ11 => nm (uI τ11 4 0) fun τ12 => some ((1, τ12)))))
set_option maxHeartbeats 4000000 in
theorem m_end_L21_ok {g : GE} (G : GG g) {σ : ST} {Q : VQ} (d : Nat) (hd1 : 0 ≤ d) (u1 : Int)  {K : TT → Prop} (hE44 : ∀ v13 : TT, K (v13) → V g mX4_end d 44 [(0, vr (some (gw g))), (1, vi u1)] [] σ v13 Q) : ∀ (n : Nat) (w2 : Int) (τ : TT), Sm (V g mX4_end d 21 [(0, vr (some (gw g))), (1, vi u1), (2, vi w2)] [] σ τ Q) (m_end_L21 u1 n w2 τ) K := by
  intro n
  induction n with
  | zero => intro w2 τ; exact sm_none
  | succ n ih =>
    intro w2 τ
    rw [m_end_L21.eq_2]
    refine sm_b (l' := [(0, vr (some (gw g))), (1, vi u1), (2, vi w2)]) (st' := [vi u1, vi w2]) (pc' := 23) [(.iload_n 2, vi 0, 22), (.iload_n 1, vi 0, 23)] (by decide +kernel) rfl rfl ?_
    refine sm_gd (fun h14 => ?_)
    refine sm_gd (fun h15 => ?_)
    refine sm_case (V g mX4_end d 44 [(0, vr (some (gw g))), (1, vi u1), (2, vi w2)] [] σ τ Q) (V g mX4_end d 26 [(0, vr (some (gw g))), (1, vi u1), (2, vi w2)] [] σ τ Q) ?_ ?_ (fun f20 p21 n22 => ?_)
    · refine sm_pick [0, 1] (l' := [(0, vr (some (gw g))), (1, vi u1)]) rfl ?_
      exact sm_leaf (fun h => hE44 _ h)
    · refine sm_b (l' := [(0, vr (some (gw g))), (1, vi u1), (2, vi w2)]) (st' := [vr (some (gw g))]) (pc' := 27) [(.aload_n 0, vi 0, 27)] (by decide +kernel) rfl rfl ?_
      refine sm_tg (k := 2) (x := vr (some (gT g 2))) G.2.1 q1420 rfl rfl (by decide +kernel) ?_
      refine sm_b (l' := [(0, vr (some (gw g))), (1, vi u1), (2, vi w2)]) (st' := [vr (some (gw g)), vi w2, vr (some (gT g 2))]) (pc' := 32) [(.iload_n 2, vi 0, 31), (.aload_n 0, vi 0, 32)] (by decide +kernel) rfl rfl ?_
      refine sm_tg (k := 1) (x := vr (some (gT g 1))) G.2.1 q1419 rfl rfl (by decide +kernel) ?_
      refine sm_b (l' := [(0, vr (some (gw g))), (1, vi u1), (2, vi w2)]) (st' := [vi w2, vr (some (gT g 1)), vi w2, vr (some (gT g 2))]) (pc' := 36) [(.iload_n 2, vi 0, 36)] (by decide +kernel) rfl rfl ?_
      refine sm_gd (fun h18 => ?_)
      refine sm_ial (k := 1) G.2.1 (by decide) rfl (ibt (k := 1) h18) h18 (by decide +kernel) ?_
      refine sm_ias (k := 2) G.2.1 (by decide) rfl (ibt (k := 2) h18) h18 (by decide +kernel) ?_
      refine sm_nmt (fun τ19 => ?_)
      refine sm_b (l' := [(0, vr (some (gw g))), (1, vi u1), (2, vi (w2 + 1))]) (st' := []) (pc' := 21) [(.iinc 2 1, vi 1, 41), (.goto (-20), vi 0, 21)] (by decide +kernel) rfl rfl ?_
      exact ih (w2 + 1) τ19
    refine sm_icmp_ge (off := 21) (tgt := 44) h14 h15 (by decide +kernel) (fun c23 => ?_) (fun c23 => ?_)
    · exact p21 c23
    · exact n22 c23
set_option maxHeartbeats 4000000 in
theorem m_end_ok {g : GE} (G : GG g) {σ : ST} (d : Nat) (hd1 : 0 ≤ d) (a1 : Int)  (τ : TT) (Q : VQ) : Sm (V g mX4_end d 0 [(0, vr (some (gw g))), (1, vi a1)] [] σ τ Q) (m_end a1 τ) (fun r => Q.1 (some (vi r.1)) σ r.2) := by
  unfold m_end
  refine sm_top (fun K hRET => ?_)
  refine sm_b (l' := [(0, vr (some (gw g))), (1, vi a1)]) (st' := [vi 0, vr (some (gw g))]) (pc' := 2) [(.aload_n 0, vi 0, 1), (.iconst 0, vi 0, 2)] (by decide +kernel) rfl rfl ?_
  refine sm_tpi (k := 0) G.2.1 q1418 rfl rfl rfl (tp_0 g τ 0) (by decide +kernel) ?_
  refine sm_nmt (fun τ1 => ?_)
  refine sm_b (l' := [(0, vr (some (gw g))), (1, vi a1)]) (st' := [vi a1]) (pc' := 6) [(.iload_n 1, vi 0, 6)] (by decide +kernel) rfl rfl ?_
  refine sm_gd (fun h2 => ?_)
  refine sm_gd (fun h4 => ?_)
  refine sm_case (V g mX4_end d 17 [(0, vr (some (gw g))), (1, vi a1)] [] σ τ1 Q) (V g mX4_end d 19 [(0, vr (some (gw g))), (1, vi a1)] [] σ τ1 Q) ?_ ?_ (fun f24 p25 n26 => ?_)
  · refine sm_b (l' := [(0, vr (some (gw g))), (1, vi a1)]) (st' := [vi 0]) (pc' := 18) [(.iconst 0, vi 0, 18)] (by decide +kernel) rfl rfl ?_
    exact sm_zret rfl (by decide +kernel) (by decide) (fun h => hRET _ h)
  · refine sm_b (l' := [(0, vr (some (gw g))), (1, vi a1), (2, vi 0)]) (st' := []) (pc' := 21) [(.iconst 0, vi 0, 20), (.istore_n 2, vi 0, 21)] (by decide +kernel) rfl rfl ?_
    refine sm_bind1 (fun (v7 : TT) => V g mX4_end d 44 [(0, vr (some (gw g))), (1, vi a1)] [] σ v7 Q) (fun v7 => ?_) (fun K8 j9 => ?_)
    · refine sm_b (l' := [(0, vr (some (gw g))), (1, vi a1)]) (st' := [vi a1, vr (some (gw g))]) (pc' := 46) [(.aload_n 0, vi 0, 45), (.iload_n 1, vi 0, 46)] (by decide +kernel) rfl rfl ?_
      refine sm_tpi (k := 5) G.2.1 q1423 rfl rfl rfl (tp_5 g v7 a1) (by decide +kernel) ?_
      refine sm_nmt (fun τ11 => ?_)
      refine sm_b (l' := [(0, vr (some (gw g))), (1, vi a1)]) (st' := [vi 0, vr (some (gw g))]) (pc' := 51) [(.aload_n 0, vi 0, 50), (.iconst 0, vi 0, 51)] (by decide +kernel) rfl rfl ?_
      refine sm_tpi (k := 4) G.2.1 q1422 rfl rfl rfl (tp_4 g τ11 0) (by decide +kernel) ?_
      refine sm_nmt (fun τ12 => ?_)
      refine sm_b (l' := [(0, vr (some (gw g))), (1, vi a1)]) (st' := [vi 1]) (pc' := 55) [(.iconst 1, vi 1, 55)] (by decide +kernel) rfl rfl ?_
      exact sm_zret rfl (by decide +kernel) (by decide) (fun h => hRET _ h)
    · exact m_end_L21_ok G d hd1 a1  (fun _ h => j9 _ h) FU 0 τ1
  refine sm_if_lt (off := 11) (tgt := 17) h2 (by decide +kernel) (fun c27 => ?_) (fun c27 => ?_)
  · exact p25 (Or.inl c27)
  · have w3 : ¬ (a1 < 0) := c27
    refine sm_b (l' := [(0, vr (some (gw g))), (1, vi a1)]) (st' := [vr (some (gw g)), vi a1]) (pc' := 11) [(.iload_n 1, vi 0, 10), (.aload_n 0, vi 0, 11)] (by decide +kernel) rfl rfl ?_
    refine sm_tg (k := 4) (x := vi (tI τ1 4)) G.2.1 q1422 rfl rfl (by decide +kernel) ?_
    refine sm_icmp_le (off := 5) (tgt := 19) h2 (h4 w3) (by decide +kernel) (fun c28 => ?_) (fun c28 => ?_)
    · exact n26 (fun q => q.elim c27 (fun q => q c28))
    · exact p25 (Or.inr c28)
def m_clearSchema  (τ : TT) : Option (TT) := nm (uI τ 35 0) fun τ1 => nm (uI τ1 36 0) fun τ2 => nm (uI τ2 37 0) fun τ3 => nm (uI τ3 38 0) fun τ4 => nm (uI τ4 39 0) fun τ5 => nm (uI τ5 40 0) fun τ6 => some τ6
set_option maxHeartbeats 4000000 in
theorem m_clearSchema_ok {g : GE} (G : GG g) {σ : ST} (d : Nat) (hd1 : 0 ≤ d)   (τ : TT) (Q : VQ) : Sm (V g mX4_clearSchema d 0 [(0, vr (some (gw g)))] [] σ τ Q) (m_clearSchema τ) (fun r => Q.1 none σ r) := by
  unfold m_clearSchema
  refine sm_top (fun K hRET => ?_)
  refine sm_b (l' := [(0, vr (some (gw g)))]) (st' := [vi 0, vr (some (gw g))]) (pc' := 2) [(.aload_n 0, vi 0, 1), (.iconst 0, vi 0, 2)] (by decide +kernel) rfl rfl ?_
  refine sm_tpi (k := 35) G.2.1 q1453 rfl rfl rfl (tp_35 g τ 0) (by decide +kernel) ?_
  refine sm_nmt (fun τ1 => ?_)
  refine sm_b (l' := [(0, vr (some (gw g)))]) (st' := [vi 0, vr (some (gw g))]) (pc' := 7) [(.aload_n 0, vi 0, 6), (.iconst 0, vi 0, 7)] (by decide +kernel) rfl rfl ?_
  refine sm_tpi (k := 36) G.2.1 q1454 rfl rfl rfl (tp_36 g τ1 0) (by decide +kernel) ?_
  refine sm_nmt (fun τ2 => ?_)
  refine sm_b (l' := [(0, vr (some (gw g)))]) (st' := [vi 0, vr (some (gw g))]) (pc' := 12) [(.aload_n 0, vi 0, 11), (.iconst 0, vi 0, 12)] (by decide +kernel) rfl rfl ?_
  refine sm_tpi (k := 37) G.2.1 q1455 rfl rfl rfl (tp_37 g τ2 0) (by decide +kernel) ?_
  refine sm_nmt (fun τ3 => ?_)
  refine sm_b (l' := [(0, vr (some (gw g)))]) (st' := [vi 0, vr (some (gw g))]) (pc' := 17) [(.aload_n 0, vi 0, 16), (.iconst 0, vi 0, 17)] (by decide +kernel) rfl rfl ?_
  refine sm_tpi (k := 38) G.2.1 q1456 rfl rfl rfl (tp_38 g τ3 0) (by decide +kernel) ?_
  refine sm_nmt (fun τ4 => ?_)
  refine sm_b (l' := [(0, vr (some (gw g)))]) (st' := [vi 0, vr (some (gw g))]) (pc' := 22) [(.aload_n 0, vi 0, 21), (.iconst 0, vi 0, 22)] (by decide +kernel) rfl rfl ?_
  refine sm_tpi (k := 39) G.2.1 q1457 rfl rfl rfl (tp_39 g τ4 0) (by decide +kernel) ?_
  refine sm_nmt (fun τ5 => ?_)
  refine sm_b (l' := [(0, vr (some (gw g)))]) (st' := [vi 0, vr (some (gw g))]) (pc' := 27) [(.aload_n 0, vi 0, 26), (.iconst 0, vi 0, 27)] (by decide +kernel) rfl rfl ?_
  refine sm_tpi (k := 40) G.2.1 q1458 rfl rfl rfl (tp_40 g τ5 0) (by decide +kernel) ?_
  refine sm_nmt (fun τ6 => ?_)
  exact sm_vret rfl (by decide +kernel) (fun h => hRET _ h)
def m_isLetter (a1 : Int) : Option (Int) := gd (rg a1) (if (a1 < 97) ∨ (¬ (a1 ≤ 122)) then (if (a1 < 65) ∨ (90 < a1) then (some 0) else (some 1)) else (some 1))
set_option maxHeartbeats 4000000 in
theorem m_isLetter_ok {g : GE} (G : GG g) {σ : ST} (d : Nat) (hd1 : 0 ≤ d) (a1 : Int)  (τ : TT) (Q : VQ) : Sm (V g mX4_isLetter d 0 [(0, vi a1)] [] σ τ Q) (m_isLetter a1) (fun r => Q.1 (some (vi r)) σ τ) := by
  unfold m_isLetter
  refine sm_top (fun K hRET => ?_)
  refine sm_b (l' := [(0, vi a1)]) (st' := [vi 97, vi a1]) (pc' := 3) [(.iload_n 0, vi 0, 1), (.bipush 97, vi 97, 3)] (by decide +kernel) rfl rfl ?_
  refine sm_gd (fun h1 => ?_)
  refine sm_case (V g mX4_isLetter d 12 [(0, vi a1)] [] σ τ Q) (V g mX4_isLetter d 24 [(0, vi a1)] [] σ τ Q) ?_ ?_ (fun f11 p12 n13 => ?_)
  · refine sm_b (l' := [(0, vi a1)]) (st' := [vi 65, vi a1]) (pc' := 15) [(.iload_n 0, vi 0, 13), (.bipush 65, vi 65, 15)] (by decide +kernel) rfl rfl ?_
    refine sm_case (V g mX4_isLetter d 28 [(0, vi a1)] [] σ τ Q) (V g mX4_isLetter d 24 [(0, vi a1)] [] σ τ Q) ?_ ?_ (fun f6 p7 n8 => ?_)
    · refine sm_b (l' := [(0, vi a1)]) (st' := [vi 0]) (pc' := 29) [(.iconst 0, vi 0, 29)] (by decide +kernel) rfl rfl ?_
      exact sm_zret rfl (by decide +kernel) (by decide) (fun h => hRET _ h)
    · refine sm_b (l' := [(0, vi a1)]) (st' := [vi 1]) (pc' := 29) [(.iconst 1, vi 1, 25), (.goto 4, vi 0, 29)] (by decide +kernel) rfl rfl ?_
      exact sm_zret rfl (by decide +kernel) (by decide) (fun h => hRET _ h)
    refine sm_icmp_lt (off := 13) (tgt := 28) h1 (by decide) (by decide +kernel) (fun c9 => ?_) (fun c9 => ?_)
    · exact p7 (Or.inl c9)
    · refine sm_b (l' := [(0, vi a1)]) (st' := [vi 90, vi a1]) (pc' := 21) [(.iload_n 0, vi 0, 19), (.bipush 90, vi 90, 21)] (by decide +kernel) rfl rfl ?_
      refine sm_icmp_gt (off := 7) (tgt := 28) h1 (by decide) (by decide +kernel) (fun c10 => ?_) (fun c10 => ?_)
      · exact p7 (Or.inr c10)
      · exact n8 (fun q => q.elim c9 c10)
  · refine sm_b (l' := [(0, vi a1)]) (st' := [vi 1]) (pc' := 29) [(.iconst 1, vi 1, 25), (.goto 4, vi 0, 29)] (by decide +kernel) rfl rfl ?_
    exact sm_zret rfl (by decide +kernel) (by decide) (fun h => hRET _ h)
  refine sm_icmp_lt (off := 9) (tgt := 12) h1 (by decide) (by decide +kernel) (fun c14 => ?_) (fun c14 => ?_)
  · exact p12 (Or.inl c14)
  · refine sm_b (l' := [(0, vi a1)]) (st' := [vi 122, vi a1]) (pc' := 9) [(.iload_n 0, vi 0, 7), (.bipush 122, vi 122, 9)] (by decide +kernel) rfl rfl ?_
    refine sm_icmp_le (off := 15) (tgt := 24) h1 (by decide) (by decide +kernel) (fun c15 => ?_) (fun c15 => ?_)
    · exact n13 (fun q => q.elim c14 (fun q => q c15))
    · exact p12 (Or.inr c15)
def m_isDigit (a1 : Int) : Option (Int) := gd (rg a1) (if (a1 < 48) ∨ (57 < a1) then (some 0) else (some 1))
set_option maxHeartbeats 4000000 in
theorem m_isDigit_ok {g : GE} (G : GG g) {σ : ST} (d : Nat) (hd1 : 0 ≤ d) (a1 : Int)  (τ : TT) (Q : VQ) : Sm (V g mX4_isDigit d 0 [(0, vi a1)] [] σ τ Q) (m_isDigit a1) (fun r => Q.1 (some (vi r)) σ τ) := by
  unfold m_isDigit
  refine sm_top (fun K hRET => ?_)
  refine sm_b (l' := [(0, vi a1)]) (st' := [vi 48, vi a1]) (pc' := 3) [(.iload_n 0, vi 0, 1), (.bipush 48, vi 48, 3)] (by decide +kernel) rfl rfl ?_
  refine sm_gd (fun h1 => ?_)
  refine sm_case (V g mX4_isDigit d 16 [(0, vi a1)] [] σ τ Q) (V g mX4_isDigit d 12 [(0, vi a1)] [] σ τ Q) ?_ ?_ (fun f5 p6 n7 => ?_)
  · refine sm_b (l' := [(0, vi a1)]) (st' := [vi 0]) (pc' := 17) [(.iconst 0, vi 0, 17)] (by decide +kernel) rfl rfl ?_
    exact sm_zret rfl (by decide +kernel) (by decide) (fun h => hRET _ h)
  · refine sm_b (l' := [(0, vi a1)]) (st' := [vi 1]) (pc' := 17) [(.iconst 1, vi 1, 13), (.goto 4, vi 0, 17)] (by decide +kernel) rfl rfl ?_
    exact sm_zret rfl (by decide +kernel) (by decide) (fun h => hRET _ h)
  refine sm_icmp_lt (off := 13) (tgt := 16) h1 (by decide) (by decide +kernel) (fun c8 => ?_) (fun c8 => ?_)
  · exact p6 (Or.inl c8)
  · refine sm_b (l' := [(0, vi a1)]) (st' := [vi 57, vi a1]) (pc' := 9) [(.iload_n 0, vi 0, 7), (.bipush 57, vi 57, 9)] (by decide +kernel) rfl rfl ?_
    refine sm_icmp_gt (off := 7) (tgt := 16) h1 (by decide) (by decide +kernel) (fun c9 => ?_) (fun c9 => ?_)
    · exact p6 (Or.inr c9)
    · exact n7 (fun q => q.elim c8 c9)
def m_readTokens_L54 (u1 : Int) (u2 : Int) (u4 : Int) (u5 : Int) (τ : TT) : Nat → Int → Option (Int)
  | 0, _ => none
  | n + 1, w3 => gd (rg (u1 + w3)) (gd (rg (tI τ 5)) (if (tI τ 5) ≤ (u1 + w3) then (some w3) else (Option.bind (Option.bind (gd (rg u4) (if u4 = 0 then (some (Sum.inr (()))) else (gd (ib (u1 + w3) 1000) (Option.bind (m_isLetter (tA τ 8 (u1 + w3).toNat)) fun y131 => gd (rg y131) (gd (y131 = 0 → ok (m_isDigit (tA τ 8 (u1 + w3).toNat))) (gd (y131 = 0 → rg (vv (m_isDigit (tA τ 8 (u1 + w3).toNat)))) (gd ((y131 = 0) ∧ ((vv (m_isDigit (tA τ 8 (u1 + w3).toNat))) = 0) → rg (tA τ 8 (u1 + w3).toNat)) (if ((y131 = 0) ∧ ((vv (m_isDigit (tA τ 8 (u1 + w3).toNat))) = 0)) ∧ (¬ ((tA τ 8 (u1 + w3).toNat) = 95)) then (some (Sum.inr (()))) else (some (Sum.inl (Sum.inr (())))))))))))) (Sum.elim some fun (v116 : Unit) => gd (rg u5) (gd (¬ (u5 = 0) → ib (u1 + w3) 1000) (gd (¬ (u5 = 0) → ok (m_isDigit (tA τ 8 (u1 + w3).toNat))) (gd (¬ (u5 = 0) → rg (vv (m_isDigit (tA τ 8 (u1 + w3).toNat)))) (if (u5 = 0) ∨ ((vv (m_isDigit (tA τ 8 (u1 + w3).toNat))) = 0) then (some (Sum.inl w3)) else (some (Sum.inr (()))))))))) (Sum.elim some fun (v112 : Unit) => m_readTokens_L54 u1 u2 u4 u5 τ n (w3 + 1)))))
def m_readTokens_L7  : Nat → Int → TT → Option (TT)
  | 0, _, _ => none
  | n + 1, w1, τ => gd (rg w1) (gd (rg (tI τ 5)) (if (tI τ 5) ≤ w1 then (some τ) else (gd (ib w1 1000) (nm (tA τ 8 w1.toNat) fun x18 => gd (rg x18) (if (x18 = 32) ∨ (x18 = 10) then (m_readTokens_L7 n (w1 + 1) τ) else (Option.bind (m_isLetter x18) fun y23 => Option.bind (m_isDigit x18) fun y24 => Option.bind (m_readTokens_L54 w1 x18 y23 y24 τ FU 1) fun (v25 : Int) => Option.bind (if ((((((x18 = 61) ∨ (x18 = 59)) ∨ (x18 = 123)) ∨ (x18 = 125)) ∨ (x18 = 46)) ∨ (x18 = 44)) ∨ (x18 = 34) then (some 1) else (some 0)) fun (v37 : Int) => Option.bind (gd (rg y23) (if y23 = 0 then (gd (rg y24) (if y24 = 0 then (gd (rg v37) (if v37 = 0 then (some 5) else (some 3))) else (gd (rg v25) (if v25 ≤ 9 then (some 2) else (some 5))))) else (gd (rg v25) (if v25 ≤ 24 then (some 1) else (some 5))))) fun (v46 : Int) => gd (ib (tI τ 12) 1001) (nm (uA τ 9 (tI τ 12).toNat v46) fun τ51 => gd (ib (tI τ51 12) 1001) (nm (uA τ51 10 (tI τ51 12).toNat w1) fun τ53 => gd (ib (tI τ53 12) 1001) (nm (uA τ53 11 (tI τ53 12).toNat v25) fun τ55 => nm (uI τ55 12 ((tI τ55 12) + 1)) fun τ56 => nm (w1 + v25) fun x57 => m_readTokens_L7 n x57 τ56)))))))))
def m_readTokens  (τ : TT) : Option (TT) := nm (uI τ 12 0) fun τ1 => Option.bind (m_readTokens_L7  FU 0 τ1) fun (v2 : TT) => gd (ib (tI v2 12) 1001) (nm (uA v2 9 (tI v2 12).toNat 4) fun τ7 => gd (ib (tI τ7 12) 1001) (nm (uA τ7 10 (tI τ7 12).toNat (tI τ7 5)) fun τ9 => gd (ib (tI τ9 12) 1001) (nm (uA τ9 11 (tI τ9 12).toNat 0) fun τ11 => some τ11)))
set_option maxHeartbeats 4000000 in
theorem m_readTokens_L54_ok {g : GE} (G : GG g) {σ : ST} {Q : VQ} (d : Nat) (hd1 : 1 ≤ d) (u1 : Int) (u2 : Int) (u4 : Int) (u5 : Int) (τ : TT)  {K : Int → Prop} (hE135 : ∀ v102 : Int, K (v102) → V g mX4_readTokens d 135 [(0, vr (some (gw g))), (1, vi u1), (2, vi u2), (3, vi v102), (4, vi u4), (5, vi u5)] [] σ τ Q) : ∀ (n : Nat) (w3 : Int), Sm (V g mX4_readTokens d 54 [(0, vr (some (gw g))), (1, vi u1), (2, vi u2), (3, vi w3), (4, vi u4), (5, vi u5)] [] σ τ Q) (m_readTokens_L54 u1 u2 u4 u5 τ n w3) K := by
  intro n
  induction n with
  | zero => intro w3; exact sm_none
  | succ n ih =>
    intro w3
    rw [m_readTokens_L54.eq_2]
    refine sm_b (l' := [(0, vr (some (gw g))), (1, vi u1), (2, vi u2), (3, vi w3), (4, vi u4), (5, vi u5)]) (st' := [vr (some (gw g)), vi (u1 + w3)]) (pc' := 58) [(.iload_n 1, vi 0, 55), (.iload_n 3, vi 0, 56), (.iadd, vi 0, 57), (.aload_n 0, vi 0, 58)] (by decide +kernel) rfl rfl ?_
    refine sm_tg (k := 5) (x := vi (tI τ 5)) G.2.1 q1423 rfl rfl (by decide +kernel) ?_
    refine sm_gd (fun h103 => ?_)
    refine sm_gd (fun h104 => ?_)
    refine sm_case (V g mX4_readTokens d 135 [(0, vr (some (gw g))), (1, vi u1), (2, vi u2), (3, vi w3), (4, vi u4), (5, vi u5)] [] σ τ Q) (V g mX4_readTokens d 64 [(0, vr (some (gw g))), (1, vi u1), (2, vi u2), (3, vi w3), (4, vi u4), (5, vi u5)] [] σ τ Q) ?_ ?_ (fun f148 p149 n150 => ?_)
    · exact sm_leaf (fun h => hE135 _ h)
    · refine sm_b (l' := [(0, vr (some (gw g))), (1, vi u1), (2, vi u2), (3, vi w3), (4, vi u4), (5, vi u5)]) (st' := [vi u4]) (pc' := 66) [(.iload 4, vi 0, 66)] (by decide +kernel) rfl rfl ?_
      refine sm_bindS (fun (v112 : Unit) => V g mX4_readTokens d 129 [(0, vr (some (gw g))), (1, vi u1), (2, vi u2), (3, vi w3), (4, vi u4), (5, vi u5)] [] σ τ Q) (fun v112 => ?_) (fun K113 o115 j114 => ?_)
      · refine sm_b (l' := [(0, vr (some (gw g))), (1, vi u1), (2, vi u2), (3, vi (w3 + 1)), (4, vi u4), (5, vi u5)]) (st' := []) (pc' := 54) [(.iinc 3 1, vi 1, 132), (.goto (-78), vi 0, 54)] (by decide +kernel) rfl rfl ?_
        exact ih (w3 + 1)
      · refine sm_bindS (fun (v116 : Unit) => V g mX4_readTokens d 110 [(0, vr (some (gw g))), (1, vi u1), (2, vi u2), (3, vi w3), (4, vi u4), (5, vi u5)] [] σ τ Q) (fun v116 => ?_) (fun K117 o119 j118 => ?_)
        · refine sm_b (l' := [(0, vr (some (gw g))), (1, vi u1), (2, vi u2), (3, vi w3), (4, vi u4), (5, vi u5)]) (st' := [vi u5]) (pc' := 112) [(.iload 5, vi 0, 112)] (by decide +kernel) rfl rfl ?_
          refine sm_gd (fun h120 => ?_)
          refine sm_gd (fun h122 => ?_)
          refine sm_gd (fun h123 => ?_)
          refine sm_gd (fun h124 => ?_)
          refine sm_case (V g mX4_readTokens d 135 [(0, vr (some (gw g))), (1, vi u1), (2, vi u2), (3, vi w3), (4, vi u4), (5, vi u5)] [] σ τ Q) (V g mX4_readTokens d 129 [(0, vr (some (gw g))), (1, vi u1), (2, vi u2), (3, vi w3), (4, vi u4), (5, vi u5)] [] σ τ Q) ?_ ?_ (fun f125 p126 n127 => ?_)
          · exact sm_leaf (fun h => hE135 _ (o115 _ h))
          · exact sm_leaf (fun h => j114 _ h)
          refine sm_if_eq (off := 23) (tgt := 135) h120 (by decide +kernel) (fun c128 => ?_) (fun c128 => ?_)
          · exact p126 (Or.inl c128)
          · have w121 : ¬ (u5 = 0) := c128
            refine sm_b (l' := [(0, vr (some (gw g))), (1, vi u1), (2, vi u2), (3, vi w3), (4, vi u4), (5, vi u5)]) (st' := [vr (some (gw g))]) (pc' := 116) [(.aload_n 0, vi 0, 116)] (by decide +kernel) rfl rfl ?_
            refine sm_tg (k := 8) (x := vr (some (gT g 8))) G.2.1 q1426 rfl rfl (by decide +kernel) ?_
            refine sm_b (l' := [(0, vr (some (gw g))), (1, vi u1), (2, vi u2), (3, vi w3), (4, vi u4), (5, vi u5)]) (st' := [vi (u1 + w3), vr (some (gT g 8))]) (pc' := 122) [(.iload_n 1, vi 0, 120), (.iload_n 3, vi 0, 121), (.iadd, vi 0, 122)] (by decide +kernel) rfl rfl ?_
            refine sm_ial (k := 8) G.2.1 (by decide) rfl (ibt (k := 8) (h122 w121)) (h122 w121) (by decide +kernel) ?_
            refine sm_csp (N := mX4_isDigit) (d' := d - 1) (fun r => (some (vi r))) (some (vi (vv (m_isDigit (tA τ 8 (u1 + w3).toNat))))) (h123 w121) (fun y h => by rw [vv_some h]) [vi (tA τ 8 (u1 + w3).toNat)] [] rfl (by decide +kernel) q1626 q1627 q138 (Or.inl ⟨rfl, q1628⟩) (show okN yX4_isDigit 1 = true by decide +kernel) rfl rfl (by omega) rfl (fun Q' => m_isDigit_ok G (d - 1) (by omega) (tA τ 8 (u1 + w3).toNat) τ Q') ?_
            refine sm_if_eq (off := 9) (tgt := 135) (h124 w121) (by decide +kernel) (fun c129 => ?_) (fun c129 => ?_)
            · exact p126 (Or.inr c129)
            · exact n127 (fun q => q.elim c128 c129)
        · refine sm_gd (fun h107 => ?_)
          refine sm_case (V g mX4_readTokens d 110 [(0, vr (some (gw g))), (1, vi u1), (2, vi u2), (3, vi w3), (4, vi u4), (5, vi u5)] [] σ τ Q) (V g mX4_readTokens d 69 [(0, vr (some (gw g))), (1, vi u1), (2, vi u2), (3, vi w3), (4, vi u4), (5, vi u5)] [] σ τ Q) ?_ ?_ (fun f144 p145 n146 => ?_)
          · exact sm_leaf (fun h => j118 _ h)
          · refine sm_b (l' := [(0, vr (some (gw g))), (1, vi u1), (2, vi u2), (3, vi w3), (4, vi u4), (5, vi u5)]) (st' := [vr (some (gw g))]) (pc' := 70) [(.aload_n 0, vi 0, 70)] (by decide +kernel) rfl rfl ?_
            refine sm_tg (k := 8) (x := vr (some (gT g 8))) G.2.1 q1426 rfl rfl (by decide +kernel) ?_
            refine sm_b (l' := [(0, vr (some (gw g))), (1, vi u1), (2, vi u2), (3, vi w3), (4, vi u4), (5, vi u5)]) (st' := [vi (u1 + w3), vr (some (gT g 8))]) (pc' := 76) [(.iload_n 1, vi 0, 74), (.iload_n 3, vi 0, 75), (.iadd, vi 0, 76)] (by decide +kernel) rfl rfl ?_
            refine sm_gd (fun h130 => ?_)
            refine sm_ial (k := 8) G.2.1 (by decide) rfl (ibt (k := 8) h130) h130 (by decide +kernel) ?_
            refine sm_cs (N := mX4_isLetter) (d' := d - 1) (fun r => (some (vi r))) (fun _ => σ) (fun _ => τ) [vi (tA τ 8 (u1 + w3).toNat)] [] rfl (by decide +kernel) q1623 q1624 q138 (Or.inl ⟨rfl, q1625⟩) (show okN yX4_isLetter 1 = true by decide +kernel) rfl rfl (by omega) rfl (fun Q' => m_isLetter_ok G (d - 1) (by omega) (tA τ 8 (u1 + w3).toNat) τ Q') (fun y131 => ?_)
            refine sm_gd (fun h132 => ?_)
            refine sm_gd (fun h134 => ?_)
            refine sm_gd (fun h135 => ?_)
            refine sm_gd (fun h137 => ?_)
            refine sm_case (V g mX4_readTokens d 110 [(0, vr (some (gw g))), (1, vi u1), (2, vi u2), (3, vi w3), (4, vi u4), (5, vi u5)] [] σ τ Q) (V g mX4_readTokens d 129 [(0, vr (some (gw g))), (1, vi u1), (2, vi u2), (3, vi w3), (4, vi u4), (5, vi u5)] [] σ τ Q) ?_ ?_ (fun f138 p139 n140 => ?_)
            · exact sm_leaf (fun h => j118 _ h)
            · exact sm_leaf (fun h => j114 _ (o119 _ h))
            refine sm_if_ne (off := 49) (tgt := 129) h132 (by decide +kernel) (fun c141 => ?_) (fun c141 => ?_)
            · exact n140 (fun q => (fun q => c141 q.1) q.1)
            · have w133 : y131 = 0 := c141
              refine sm_b (l' := [(0, vr (some (gw g))), (1, vi u1), (2, vi u2), (3, vi w3), (4, vi u4), (5, vi u5)]) (st' := [vr (some (gw g))]) (pc' := 84) [(.aload_n 0, vi 0, 84)] (by decide +kernel) rfl rfl ?_
              refine sm_tg (k := 8) (x := vr (some (gT g 8))) G.2.1 q1426 rfl rfl (by decide +kernel) ?_
              refine sm_b (l' := [(0, vr (some (gw g))), (1, vi u1), (2, vi u2), (3, vi w3), (4, vi u4), (5, vi u5)]) (st' := [vi (u1 + w3), vr (some (gT g 8))]) (pc' := 90) [(.iload_n 1, vi 0, 88), (.iload_n 3, vi 0, 89), (.iadd, vi 0, 90)] (by decide +kernel) rfl rfl ?_
              refine sm_ial (k := 8) G.2.1 (by decide) rfl (ibt (k := 8) h130) h130 (by decide +kernel) ?_
              refine sm_csp (N := mX4_isDigit) (d' := d - 1) (fun r => (some (vi r))) (some (vi (vv (m_isDigit (tA τ 8 (u1 + w3).toNat))))) (h134 w133) (fun y h => by rw [vv_some h]) [vi (tA τ 8 (u1 + w3).toNat)] [] rfl (by decide +kernel) q1626 q1627 q138 (Or.inl ⟨rfl, q1628⟩) (show okN yX4_isDigit 1 = true by decide +kernel) rfl rfl (by omega) rfl (fun Q' => m_isDigit_ok G (d - 1) (by omega) (tA τ 8 (u1 + w3).toNat) τ Q') ?_
              refine sm_if_ne (off := 35) (tgt := 129) (h135 w133) (by decide +kernel) (fun c142 => ?_) (fun c142 => ?_)
              · exact n140 (fun q => (fun q => c142 q.2) q.1)
              · have w136 : (y131 = 0) ∧ ((vv (m_isDigit (tA τ 8 (u1 + w3).toNat))) = 0) := ⟨c141, c142⟩
                refine sm_b (l' := [(0, vr (some (gw g))), (1, vi u1), (2, vi u2), (3, vi w3), (4, vi u4), (5, vi u5)]) (st' := [vr (some (gw g))]) (pc' := 98) [(.aload_n 0, vi 0, 98)] (by decide +kernel) rfl rfl ?_
                refine sm_tg (k := 8) (x := vr (some (gT g 8))) G.2.1 q1426 rfl rfl (by decide +kernel) ?_
                refine sm_b (l' := [(0, vr (some (gw g))), (1, vi u1), (2, vi u2), (3, vi w3), (4, vi u4), (5, vi u5)]) (st' := [vi (u1 + w3), vr (some (gT g 8))]) (pc' := 104) [(.iload_n 1, vi 0, 102), (.iload_n 3, vi 0, 103), (.iadd, vi 0, 104)] (by decide +kernel) rfl rfl ?_
                refine sm_ial (k := 8) G.2.1 (by decide) rfl (ibt (k := 8) h130) h130 (by decide +kernel) ?_
                refine sm_b (l' := [(0, vr (some (gw g))), (1, vi u1), (2, vi u2), (3, vi w3), (4, vi u4), (5, vi u5)]) (st' := [vi 95, vi (tA τ 8 (u1 + w3).toNat)]) (pc' := 107) [(.bipush 95, vi 95, 107)] (by decide +kernel) rfl rfl ?_
                refine sm_icmp_eq (off := 22) (tgt := 129) (h137 w136) (by decide) (by decide +kernel) (fun c143 => ?_) (fun c143 => ?_)
                · exact n140 (fun q => (fun q => q c143) q.2)
                · exact p139 ⟨⟨c141, c142⟩, c143⟩
          refine sm_if_eq (off := 44) (tgt := 110) h107 (by decide +kernel) (fun c147 => ?_) (fun c147 => ?_)
          · exact p145 c147
          · exact n146 c147
    refine sm_icmp_ge (off := 74) (tgt := 135) h103 h104 (by decide +kernel) (fun c151 => ?_) (fun c151 => ?_)
    · exact p149 c151
    · exact n150 c151
set_option maxHeartbeats 4000000 in
theorem m_readTokens_L7_ok {g : GE} (G : GG g) {σ : ST} {Q : VQ} (d : Nat) (hd1 : 1 ≤ d)   {K : TT → Prop} (hE278 : ∀ v12 : TT, K (v12) → V g mX4_readTokens d 278 [(0, vr (some (gw g)))] [] σ v12 Q) : ∀ (n : Nat) (w1 : Int) (τ : TT), Sm (V g mX4_readTokens d 7 [(0, vr (some (gw g))), (1, vi w1)] [] σ τ Q) (m_readTokens_L7 n w1 τ) K := by
  intro n
  induction n with
  | zero => intro w1 τ; exact sm_none
  | succ n ih =>
    intro w1 τ
    rw [m_readTokens_L7.eq_2]
    refine sm_b (l' := [(0, vr (some (gw g))), (1, vi w1)]) (st' := [vr (some (gw g)), vi w1]) (pc' := 9) [(.iload_n 1, vi 0, 8), (.aload_n 0, vi 0, 9)] (by decide +kernel) rfl rfl ?_
    refine sm_tg (k := 5) (x := vi (tI τ 5)) G.2.1 q1423 rfl rfl (by decide +kernel) ?_
    refine sm_gd (fun h13 => ?_)
    refine sm_gd (fun h14 => ?_)
    refine sm_case (V g mX4_readTokens d 278 [(0, vr (some (gw g))), (1, vi w1)] [] σ τ Q) (V g mX4_readTokens d 15 [(0, vr (some (gw g))), (1, vi w1)] [] σ τ Q) ?_ ?_ (fun f157 p158 n159 => ?_)
    · refine sm_pick [0] (l' := [(0, vr (some (gw g)))]) rfl ?_
      exact sm_leaf (fun h => hE278 _ h)
    · refine sm_b (l' := [(0, vr (some (gw g))), (1, vi w1)]) (st' := [vr (some (gw g))]) (pc' := 16) [(.aload_n 0, vi 0, 16)] (by decide +kernel) rfl rfl ?_
      refine sm_tg (k := 8) (x := vr (some (gT g 8))) G.2.1 q1426 rfl rfl (by decide +kernel) ?_
      refine sm_b (l' := [(0, vr (some (gw g))), (1, vi w1)]) (st' := [vi w1, vr (some (gT g 8))]) (pc' := 20) [(.iload_n 1, vi 0, 20)] (by decide +kernel) rfl rfl ?_
      refine sm_gd (fun h17 => ?_)
      refine sm_ial (k := 8) G.2.1 (by decide) rfl (ibt (k := 8) h17) h17 (by decide +kernel) ?_
      refine sm_nmi (fun x18 => ?_)
      refine sm_b (l' := [(0, vr (some (gw g))), (1, vi w1), (2, vi x18)]) (st' := [vi 32, vi x18]) (pc' := 25) [(.istore_n 2, vi 0, 22), (.iload_n 2, vi 0, 23), (.bipush 32, vi 32, 25)] (by decide +kernel) rfl rfl ?_
      refine sm_gd (fun h19 => ?_)
      refine sm_case (V g mX4_readTokens d 34 [(0, vr (some (gw g))), (1, vi w1), (2, vi x18)] [] σ τ Q) (V g mX4_readTokens d 40 [(0, vr (some (gw g))), (1, vi w1), (2, vi x18)] [] σ τ Q) ?_ ?_ (fun f152 p153 n154 => ?_)
      · refine sm_b (l' := [(0, vr (some (gw g))), (1, vi (w1 + 1)), (2, vi x18)]) (st' := []) (pc' := 7) [(.iinc 1 1, vi 1, 37), (.goto (-30), vi 0, 7)] (by decide +kernel) rfl rfl ?_
        refine sm_pick [0, 1] (l' := [(0, vr (some (gw g))), (1, vi (w1 + 1))]) rfl ?_
        exact ih (w1 + 1) τ
      · refine sm_b (l' := [(0, vr (some (gw g))), (1, vi w1), (2, vi x18), (3, vi 1)]) (st' := [vi x18]) (pc' := 43) [(.iconst 1, vi 1, 41), (.istore_n 3, vi 0, 42), (.iload_n 2, vi 0, 43)] (by decide +kernel) rfl rfl ?_
        refine sm_cs (N := mX4_isLetter) (d' := d - 1) (fun r => (some (vi r))) (fun _ => σ) (fun _ => τ) [vi x18] [] rfl (by decide +kernel) q1623 q1624 q138 (Or.inl ⟨rfl, q1625⟩) (show okN yX4_isLetter 1 = true by decide +kernel) rfl rfl (by omega) rfl (fun Q' => m_isLetter_ok G (d - 1) (by omega) x18 τ Q') (fun y23 => ?_)
        refine sm_b (l' := [(0, vr (some (gw g))), (1, vi w1), (2, vi x18), (3, vi 1), (4, vi y23)]) (st' := [vi x18]) (pc' := 49) [(.istore 4, vi 0, 48), (.iload_n 2, vi 0, 49)] (by decide +kernel) rfl rfl ?_
        refine sm_cs (N := mX4_isDigit) (d' := d - 1) (fun r => (some (vi r))) (fun _ => σ) (fun _ => τ) [vi x18] [] rfl (by decide +kernel) q1626 q1627 q138 (Or.inl ⟨rfl, q1628⟩) (show okN yX4_isDigit 1 = true by decide +kernel) rfl rfl (by omega) rfl (fun Q' => m_isDigit_ok G (d - 1) (by omega) x18 τ Q') (fun y24 => ?_)
        refine sm_b (l' := [(0, vr (some (gw g))), (1, vi w1), (2, vi x18), (3, vi 1), (4, vi y23), (5, vi y24)]) (st' := []) (pc' := 54) [(.istore 5, vi 0, 54)] (by decide +kernel) rfl rfl ?_
        refine sm_bind1 (fun (v25 : Int) => V g mX4_readTokens d 135 [(0, vr (some (gw g))), (1, vi w1), (2, vi x18), (3, vi v25), (4, vi y23), (5, vi y24)] [] σ τ Q) (fun v25 => ?_) (fun K26 j27 => ?_)
        · refine sm_b (l' := [(0, vr (some (gw g))), (1, vi w1), (2, vi x18), (3, vi v25), (4, vi y23), (5, vi y24)]) (st' := [vi 61, vi x18]) (pc' := 138) [(.iload_n 2, vi 0, 136), (.bipush 61, vi 61, 138)] (by decide +kernel) rfl rfl ?_
          refine sm_bind1 (fun (v37 : Int) => V g mX4_readTokens d 182 [(0, vr (some (gw g))), (1, vi w1), (3, vi v25), (4, vi y23), (5, vi y24)] [vi v37] σ τ Q) (fun v37 => ?_) (fun K38 j39 => ?_)
          · refine sm_b (l' := [(0, vr (some (gw g))), (1, vi w1), (3, vi v25), (4, vi y23), (5, vi y24), (6, vi v37)]) (st' := [vr (some (gw g))]) (pc' := 185) [(.istore 6, vi 0, 184), (.aload_n 0, vi 0, 185)] (by decide +kernel) rfl rfl ?_
            refine sm_tg (k := 9) (x := vr (some (gT g 9))) G.2.1 q1427 rfl rfl (by decide +kernel) ?_
            refine sm_b (l' := [(0, vr (some (gw g))), (1, vi w1), (3, vi v25), (4, vi y23), (5, vi y24), (6, vi v37)]) (st' := [vr (some (gw g)), vr (some (gT g 9))]) (pc' := 189) [(.aload_n 0, vi 0, 189)] (by decide +kernel) rfl rfl ?_
            refine sm_tg (k := 12) (x := vi (tI τ 12)) G.2.1 q1430 rfl rfl (by decide +kernel) ?_
            refine sm_b (l' := [(0, vr (some (gw g))), (1, vi w1), (3, vi v25), (4, vi y23), (5, vi y24), (6, vi v37)]) (st' := [vi y23, vi (tI τ 12), vr (some (gT g 9))]) (pc' := 194) [(.iload 4, vi 0, 194)] (by decide +kernel) rfl rfl ?_
            refine sm_bind1 (fun (v46 : Int) => V g mX4_readTokens d 240 [(0, vr (some (gw g))), (1, vi w1), (3, vi v25)] [vi v46, vi (tI τ 12), vr (some (gT g 9))] σ τ Q) (fun v46 => ?_) (fun K47 j48 => ?_)
            · refine sm_gd (fun h50 => ?_)
              refine sm_ias (k := 9) G.2.1 (by decide) rfl (ibt (k := 9) h50) h50 (by decide +kernel) ?_
              refine sm_nmt (fun τ51 => ?_)
              refine sm_b (l' := [(0, vr (some (gw g))), (1, vi w1), (3, vi v25)]) (st' := [vr (some (gw g))]) (pc' := 242) [(.aload_n 0, vi 0, 242)] (by decide +kernel) rfl rfl ?_
              refine sm_tg (k := 10) (x := vr (some (gT g 10))) G.2.1 q1428 rfl rfl (by decide +kernel) ?_
              refine sm_b (l' := [(0, vr (some (gw g))), (1, vi w1), (3, vi v25)]) (st' := [vr (some (gw g)), vr (some (gT g 10))]) (pc' := 246) [(.aload_n 0, vi 0, 246)] (by decide +kernel) rfl rfl ?_
              refine sm_tg (k := 12) (x := vi (tI τ51 12)) G.2.1 q1430 rfl rfl (by decide +kernel) ?_
              refine sm_b (l' := [(0, vr (some (gw g))), (1, vi w1), (3, vi v25)]) (st' := [vi w1, vi (tI τ51 12), vr (some (gT g 10))]) (pc' := 250) [(.iload_n 1, vi 0, 250)] (by decide +kernel) rfl rfl ?_
              refine sm_gd (fun h52 => ?_)
              refine sm_ias (k := 10) G.2.1 (by decide) rfl (ibt (k := 10) h52) h52 (by decide +kernel) ?_
              refine sm_nmt (fun τ53 => ?_)
              refine sm_b (l' := [(0, vr (some (gw g))), (1, vi w1), (3, vi v25)]) (st' := [vr (some (gw g))]) (pc' := 252) [(.aload_n 0, vi 0, 252)] (by decide +kernel) rfl rfl ?_
              refine sm_tg (k := 11) (x := vr (some (gT g 11))) G.2.1 q1429 rfl rfl (by decide +kernel) ?_
              refine sm_b (l' := [(0, vr (some (gw g))), (1, vi w1), (3, vi v25)]) (st' := [vr (some (gw g)), vr (some (gT g 11))]) (pc' := 256) [(.aload_n 0, vi 0, 256)] (by decide +kernel) rfl rfl ?_
              refine sm_tg (k := 12) (x := vi (tI τ53 12)) G.2.1 q1430 rfl rfl (by decide +kernel) ?_
              refine sm_b (l' := [(0, vr (some (gw g))), (1, vi w1), (3, vi v25)]) (st' := [vi v25, vi (tI τ53 12), vr (some (gT g 11))]) (pc' := 260) [(.iload_n 3, vi 0, 260)] (by decide +kernel) rfl rfl ?_
              refine sm_gd (fun h54 => ?_)
              refine sm_ias (k := 11) G.2.1 (by decide) rfl (ibt (k := 11) h54) h54 (by decide +kernel) ?_
              refine sm_nmt (fun τ55 => ?_)
              refine sm_b (l' := [(0, vr (some (gw g))), (1, vi w1), (3, vi v25)]) (st' := [vr (some (gw g)), vr (some (gw g))]) (pc' := 263) [(.aload_n 0, vi 0, 262), (.dup, vi 0, 263)] (by decide +kernel) rfl rfl ?_
              refine sm_tg (k := 12) (x := vi (tI τ55 12)) G.2.1 q1430 rfl rfl (by decide +kernel) ?_
              refine sm_b (l' := [(0, vr (some (gw g))), (1, vi w1), (3, vi v25)]) (st' := [vi ((tI τ55 12) + 1), vr (some (gw g))]) (pc' := 268) [(.iconst 1, vi 1, 267), (.iadd, vi 0, 268)] (by decide +kernel) rfl rfl ?_
              refine sm_tpi (k := 12) G.2.1 q1430 rfl rfl rfl (tp_12 g τ55 ((tI τ55 12) + 1)) (by decide +kernel) ?_
              refine sm_nmt (fun τ56 => ?_)
              refine sm_b (l' := [(0, vr (some (gw g))), (1, vi w1), (3, vi v25)]) (st' := [vi (w1 + v25)]) (pc' := 274) [(.iload_n 1, vi 0, 272), (.iload_n 3, vi 0, 273), (.iadd, vi 0, 274)] (by decide +kernel) rfl rfl ?_
              refine sm_nmi (fun x57 => ?_)
              refine sm_b (l' := [(0, vr (some (gw g))), (1, vi x57), (3, vi v25)]) (st' := []) (pc' := 7) [(.istore_n 1, vi 0, 275), (.goto (-268), vi 0, 7)] (by decide +kernel) rfl rfl ?_
              refine sm_pick [0, 1] (l' := [(0, vr (some (gw g))), (1, vi x57)]) rfl ?_
              exact ih x57 τ56
            · refine sm_gd (fun h41 => ?_)
              refine sm_case (V g mX4_readTokens d 211 [(0, vr (some (gw g))), (1, vi w1), (3, vi v25), (4, vi y23), (5, vi y24), (6, vi v37)] [vi (tI τ 12), vr (some (gT g 9))] σ τ Q) (V g mX4_readTokens d 197 [(0, vr (some (gw g))), (1, vi w1), (3, vi v25), (4, vi y23), (5, vi y24), (6, vi v37)] [vi (tI τ 12), vr (some (gT g 9))] σ τ Q) ?_ ?_ (fun f88 p89 n90 => ?_)
              · refine sm_b (l' := [(0, vr (some (gw g))), (1, vi w1), (3, vi v25), (4, vi y23), (5, vi y24), (6, vi v37)]) (st' := [vi y24, vi (tI τ 12), vr (some (gT g 9))]) (pc' := 213) [(.iload 5, vi 0, 213)] (by decide +kernel) rfl rfl ?_
                refine sm_gd (fun h58 => ?_)
                refine sm_case (V g mX4_readTokens d 230 [(0, vr (some (gw g))), (1, vi w1), (3, vi v25), (4, vi y23), (5, vi y24), (6, vi v37)] [vi (tI τ 12), vr (some (gT g 9))] σ τ Q) (V g mX4_readTokens d 216 [(0, vr (some (gw g))), (1, vi w1), (3, vi v25), (4, vi y23), (5, vi y24), (6, vi v37)] [vi (tI τ 12), vr (some (gT g 9))] σ τ Q) ?_ ?_ (fun f77 p78 n79 => ?_)
                · refine sm_b (l' := [(0, vr (some (gw g))), (1, vi w1), (3, vi v25), (4, vi y23), (5, vi y24), (6, vi v37)]) (st' := [vi v37, vi (tI τ 12), vr (some (gT g 9))]) (pc' := 232) [(.iload 6, vi 0, 232)] (by decide +kernel) rfl rfl ?_
                  refine sm_gd (fun h63 => ?_)
                  refine sm_case (V g mX4_readTokens d 239 [(0, vr (some (gw g))), (1, vi w1), (3, vi v25), (4, vi y23), (5, vi y24), (6, vi v37)] [vi (tI τ 12), vr (some (gT g 9))] σ τ Q) (V g mX4_readTokens d 235 [(0, vr (some (gw g))), (1, vi w1), (3, vi v25), (4, vi y23), (5, vi y24), (6, vi v37)] [vi (tI τ 12), vr (some (gT g 9))] σ τ Q) ?_ ?_ (fun f66 p67 n68 => ?_)
                  · refine sm_b (l' := [(0, vr (some (gw g))), (1, vi w1), (3, vi v25), (4, vi y23), (5, vi y24), (6, vi v37)]) (st' := [vi 5, vi (tI τ 12), vr (some (gT g 9))]) (pc' := 240) [(.iconst 5, vi 5, 240)] (by decide +kernel) rfl rfl ?_
                    refine sm_pick [0, 1, 2] (l' := [(0, vr (some (gw g))), (1, vi w1), (3, vi v25)]) rfl ?_
                    exact sm_leaf (fun h => j48 _ h)
                  · refine sm_b (l' := [(0, vr (some (gw g))), (1, vi w1), (3, vi v25), (4, vi y23), (5, vi y24), (6, vi v37)]) (st' := [vi 3, vi (tI τ 12), vr (some (gT g 9))]) (pc' := 240) [(.iconst 3, vi 3, 236), (.goto 4, vi 0, 240)] (by decide +kernel) rfl rfl ?_
                    refine sm_pick [0, 1, 2] (l' := [(0, vr (some (gw g))), (1, vi w1), (3, vi v25)]) rfl ?_
                    exact sm_leaf (fun h => j48 _ h)
                  refine sm_if_eq (off := 7) (tgt := 239) h63 (by decide +kernel) (fun c69 => ?_) (fun c69 => ?_)
                  · exact p67 c69
                  · exact n68 c69
                · refine sm_b (l' := [(0, vr (some (gw g))), (1, vi w1), (3, vi v25), (4, vi y23), (5, vi y24), (6, vi v37)]) (st' := [vi 9, vi v25, vi (tI τ 12), vr (some (gT g 9))]) (pc' := 219) [(.iload_n 3, vi 0, 217), (.bipush 9, vi 9, 219)] (by decide +kernel) rfl rfl ?_
                  refine sm_gd (fun h70 => ?_)
                  refine sm_case (V g mX4_readTokens d 226 [(0, vr (some (gw g))), (1, vi w1), (3, vi v25), (4, vi y23), (5, vi y24), (6, vi v37)] [vi (tI τ 12), vr (some (gT g 9))] σ τ Q) (V g mX4_readTokens d 222 [(0, vr (some (gw g))), (1, vi w1), (3, vi v25), (4, vi y23), (5, vi y24), (6, vi v37)] [vi (tI τ 12), vr (some (gT g 9))] σ τ Q) ?_ ?_ (fun f73 p74 n75 => ?_)
                  · refine sm_b (l' := [(0, vr (some (gw g))), (1, vi w1), (3, vi v25), (4, vi y23), (5, vi y24), (6, vi v37)]) (st' := [vi 2, vi (tI τ 12), vr (some (gT g 9))]) (pc' := 240) [(.iconst 2, vi 2, 227), (.goto 13, vi 0, 240)] (by decide +kernel) rfl rfl ?_
                    refine sm_pick [0, 1, 2] (l' := [(0, vr (some (gw g))), (1, vi w1), (3, vi v25)]) rfl ?_
                    exact sm_leaf (fun h => j48 _ h)
                  · refine sm_b (l' := [(0, vr (some (gw g))), (1, vi w1), (3, vi v25), (4, vi y23), (5, vi y24), (6, vi v37)]) (st' := [vi 5, vi (tI τ 12), vr (some (gT g 9))]) (pc' := 240) [(.iconst 5, vi 5, 223), (.goto 17, vi 0, 240)] (by decide +kernel) rfl rfl ?_
                    refine sm_pick [0, 1, 2] (l' := [(0, vr (some (gw g))), (1, vi w1), (3, vi v25)]) rfl ?_
                    exact sm_leaf (fun h => j48 _ h)
                  refine sm_icmp_le (off := 7) (tgt := 226) h70 (by decide) (by decide +kernel) (fun c76 => ?_) (fun c76 => ?_)
                  · exact p74 c76
                  · exact n75 c76
                refine sm_if_eq (off := 17) (tgt := 230) h58 (by decide +kernel) (fun c80 => ?_) (fun c80 => ?_)
                · exact p78 c80
                · exact n79 c80
              · refine sm_b (l' := [(0, vr (some (gw g))), (1, vi w1), (3, vi v25), (4, vi y23), (5, vi y24), (6, vi v37)]) (st' := [vi 24, vi v25, vi (tI τ 12), vr (some (gT g 9))]) (pc' := 200) [(.iload_n 3, vi 0, 198), (.bipush 24, vi 24, 200)] (by decide +kernel) rfl rfl ?_
                refine sm_gd (fun h81 => ?_)
                refine sm_case (V g mX4_readTokens d 207 [(0, vr (some (gw g))), (1, vi w1), (3, vi v25), (4, vi y23), (5, vi y24), (6, vi v37)] [vi (tI τ 12), vr (some (gT g 9))] σ τ Q) (V g mX4_readTokens d 203 [(0, vr (some (gw g))), (1, vi w1), (3, vi v25), (4, vi y23), (5, vi y24), (6, vi v37)] [vi (tI τ 12), vr (some (gT g 9))] σ τ Q) ?_ ?_ (fun f84 p85 n86 => ?_)
                · refine sm_b (l' := [(0, vr (some (gw g))), (1, vi w1), (3, vi v25), (4, vi y23), (5, vi y24), (6, vi v37)]) (st' := [vi 1, vi (tI τ 12), vr (some (gT g 9))]) (pc' := 240) [(.iconst 1, vi 1, 208), (.goto 32, vi 0, 240)] (by decide +kernel) rfl rfl ?_
                  refine sm_pick [0, 1, 2] (l' := [(0, vr (some (gw g))), (1, vi w1), (3, vi v25)]) rfl ?_
                  exact sm_leaf (fun h => j48 _ h)
                · refine sm_b (l' := [(0, vr (some (gw g))), (1, vi w1), (3, vi v25), (4, vi y23), (5, vi y24), (6, vi v37)]) (st' := [vi 5, vi (tI τ 12), vr (some (gT g 9))]) (pc' := 240) [(.iconst 5, vi 5, 204), (.goto 36, vi 0, 240)] (by decide +kernel) rfl rfl ?_
                  refine sm_pick [0, 1, 2] (l' := [(0, vr (some (gw g))), (1, vi w1), (3, vi v25)]) rfl ?_
                  exact sm_leaf (fun h => j48 _ h)
                refine sm_icmp_le (off := 7) (tgt := 207) h81 (by decide) (by decide +kernel) (fun c87 => ?_) (fun c87 => ?_)
                · exact p85 c87
                · exact n86 c87
              refine sm_if_eq (off := 17) (tgt := 211) h41 (by decide +kernel) (fun c91 => ?_) (fun c91 => ?_)
              · exact p89 c91
              · exact n90 c91
          · refine sm_case (V g mX4_readTokens d 177 [(0, vr (some (gw g))), (1, vi w1), (2, vi x18), (3, vi v25), (4, vi y23), (5, vi y24)] [] σ τ Q) (V g mX4_readTokens d 181 [(0, vr (some (gw g))), (1, vi w1), (2, vi x18), (3, vi v25), (4, vi y23), (5, vi y24)] [] σ τ Q) ?_ ?_ (fun f92 p93 n94 => ?_)
            · refine sm_b (l' := [(0, vr (some (gw g))), (1, vi w1), (2, vi x18), (3, vi v25), (4, vi y23), (5, vi y24)]) (st' := [vi 1]) (pc' := 182) [(.iconst 1, vi 1, 178), (.goto 4, vi 0, 182)] (by decide +kernel) rfl rfl ?_
              refine sm_pick [0, 1, 3, 4, 5] (l' := [(0, vr (some (gw g))), (1, vi w1), (3, vi v25), (4, vi y23), (5, vi y24)]) rfl ?_
              exact sm_leaf (fun h => j39 _ h)
            · refine sm_b (l' := [(0, vr (some (gw g))), (1, vi w1), (2, vi x18), (3, vi v25), (4, vi y23), (5, vi y24)]) (st' := [vi 0]) (pc' := 182) [(.iconst 0, vi 0, 182)] (by decide +kernel) rfl rfl ?_
              refine sm_pick [0, 1, 3, 4, 5] (l' := [(0, vr (some (gw g))), (1, vi w1), (3, vi v25), (4, vi y23), (5, vi y24)]) rfl ?_
              exact sm_leaf (fun h => j39 _ h)
            refine sm_icmp_eq (off := 39) (tgt := 177) h19 (by decide) (by decide +kernel) (fun c95 => ?_) (fun c95 => ?_)
            · exact p93 (Or.inl (Or.inl (Or.inl (Or.inl (Or.inl (Or.inl c95))))))
            · refine sm_b (l' := [(0, vr (some (gw g))), (1, vi w1), (2, vi x18), (3, vi v25), (4, vi y23), (5, vi y24)]) (st' := [vi 59, vi x18]) (pc' := 144) [(.iload_n 2, vi 0, 142), (.bipush 59, vi 59, 144)] (by decide +kernel) rfl rfl ?_
              refine sm_icmp_eq (off := 33) (tgt := 177) h19 (by decide) (by decide +kernel) (fun c96 => ?_) (fun c96 => ?_)
              · exact p93 (Or.inl (Or.inl (Or.inl (Or.inl (Or.inl (Or.inr c96))))))
              · refine sm_b (l' := [(0, vr (some (gw g))), (1, vi w1), (2, vi x18), (3, vi v25), (4, vi y23), (5, vi y24)]) (st' := [vi 123, vi x18]) (pc' := 150) [(.iload_n 2, vi 0, 148), (.bipush 123, vi 123, 150)] (by decide +kernel) rfl rfl ?_
                refine sm_icmp_eq (off := 27) (tgt := 177) h19 (by decide) (by decide +kernel) (fun c97 => ?_) (fun c97 => ?_)
                · exact p93 (Or.inl (Or.inl (Or.inl (Or.inl (Or.inr c97)))))
                · refine sm_b (l' := [(0, vr (some (gw g))), (1, vi w1), (2, vi x18), (3, vi v25), (4, vi y23), (5, vi y24)]) (st' := [vi 125, vi x18]) (pc' := 156) [(.iload_n 2, vi 0, 154), (.bipush 125, vi 125, 156)] (by decide +kernel) rfl rfl ?_
                  refine sm_icmp_eq (off := 21) (tgt := 177) h19 (by decide) (by decide +kernel) (fun c98 => ?_) (fun c98 => ?_)
                  · exact p93 (Or.inl (Or.inl (Or.inl (Or.inr c98))))
                  · refine sm_b (l' := [(0, vr (some (gw g))), (1, vi w1), (2, vi x18), (3, vi v25), (4, vi y23), (5, vi y24)]) (st' := [vi 46, vi x18]) (pc' := 162) [(.iload_n 2, vi 0, 160), (.bipush 46, vi 46, 162)] (by decide +kernel) rfl rfl ?_
                    refine sm_icmp_eq (off := 15) (tgt := 177) h19 (by decide) (by decide +kernel) (fun c99 => ?_) (fun c99 => ?_)
                    · exact p93 (Or.inl (Or.inl (Or.inr c99)))
                    · refine sm_b (l' := [(0, vr (some (gw g))), (1, vi w1), (2, vi x18), (3, vi v25), (4, vi y23), (5, vi y24)]) (st' := [vi 44, vi x18]) (pc' := 168) [(.iload_n 2, vi 0, 166), (.bipush 44, vi 44, 168)] (by decide +kernel) rfl rfl ?_
                      refine sm_icmp_eq (off := 9) (tgt := 177) h19 (by decide) (by decide +kernel) (fun c100 => ?_) (fun c100 => ?_)
                      · exact p93 (Or.inl (Or.inr c100))
                      · refine sm_b (l' := [(0, vr (some (gw g))), (1, vi w1), (2, vi x18), (3, vi v25), (4, vi y23), (5, vi y24)]) (st' := [vi 34, vi x18]) (pc' := 174) [(.iload_n 2, vi 0, 172), (.bipush 34, vi 34, 174)] (by decide +kernel) rfl rfl ?_
                        refine sm_icmp_ne (off := 7) (tgt := 181) h19 (by decide) (by decide +kernel) (fun c101 => ?_) (fun c101 => ?_)
                        · exact n94 (fun q => q.elim (fun q => q.elim (fun q => q.elim (fun q => q.elim (fun q => q.elim (fun q => q.elim c95 c96) c97) c98) c99) c100) c101)
                        · exact p93 (Or.inr c101)
        · exact m_readTokens_L54_ok G d hd1 w1 x18 y23 y24 τ  (fun _ h => j27 _ h) FU 1
      refine sm_icmp_eq (off := 9) (tgt := 34) h19 (by decide) (by decide +kernel) (fun c155 => ?_) (fun c155 => ?_)
      · exact p153 (Or.inl c155)
      · refine sm_b (l' := [(0, vr (some (gw g))), (1, vi w1), (2, vi x18)]) (st' := [vi 10, vi x18]) (pc' := 31) [(.iload_n 2, vi 0, 29), (.bipush 10, vi 10, 31)] (by decide +kernel) rfl rfl ?_
        refine sm_icmp_ne (off := 9) (tgt := 40) h19 (by decide) (by decide +kernel) (fun c156 => ?_) (fun c156 => ?_)
        · exact n154 (fun q => q.elim c155 c156)
        · exact p153 (Or.inr c156)
    refine sm_icmp_ge (off := 266) (tgt := 278) h13 h14 (by decide +kernel) (fun c160 => ?_) (fun c160 => ?_)
    · exact p158 c160
    · exact n159 c160
set_option maxHeartbeats 4000000 in
theorem m_readTokens_ok {g : GE} (G : GG g) {σ : ST} (d : Nat) (hd1 : 1 ≤ d)   (τ : TT) (Q : VQ) : Sm (V g mX4_readTokens d 0 [(0, vr (some (gw g)))] [] σ τ Q) (m_readTokens τ) (fun r => Q.1 none σ r) := by
  unfold m_readTokens
  refine sm_top (fun K hRET => ?_)
  refine sm_b (l' := [(0, vr (some (gw g)))]) (st' := [vi 0, vr (some (gw g))]) (pc' := 2) [(.aload_n 0, vi 0, 1), (.iconst 0, vi 0, 2)] (by decide +kernel) rfl rfl ?_
  refine sm_tpi (k := 12) G.2.1 q1430 rfl rfl rfl (tp_12 g τ 0) (by decide +kernel) ?_
  refine sm_nmt (fun τ1 => ?_)
  refine sm_b (l' := [(0, vr (some (gw g))), (1, vi 0)]) (st' := []) (pc' := 7) [(.iconst 0, vi 0, 6), (.istore_n 1, vi 0, 7)] (by decide +kernel) rfl rfl ?_
  refine sm_bind1 (fun (v2 : TT) => V g mX4_readTokens d 278 [(0, vr (some (gw g)))] [] σ v2 Q) (fun v2 => ?_) (fun K3 j4 => ?_)
  · refine sm_b (l' := [(0, vr (some (gw g)))]) (st' := [vr (some (gw g))]) (pc' := 279) [(.aload_n 0, vi 0, 279)] (by decide +kernel) rfl rfl ?_
    refine sm_tg (k := 9) (x := vr (some (gT g 9))) G.2.1 q1427 rfl rfl (by decide +kernel) ?_
    refine sm_b (l' := [(0, vr (some (gw g)))]) (st' := [vr (some (gw g)), vr (some (gT g 9))]) (pc' := 283) [(.aload_n 0, vi 0, 283)] (by decide +kernel) rfl rfl ?_
    refine sm_tg (k := 12) (x := vi (tI v2 12)) G.2.1 q1430 rfl rfl (by decide +kernel) ?_
    refine sm_b (l' := [(0, vr (some (gw g)))]) (st' := [vi 4, vi (tI v2 12), vr (some (gT g 9))]) (pc' := 287) [(.iconst 4, vi 4, 287)] (by decide +kernel) rfl rfl ?_
    refine sm_gd (fun h6 => ?_)
    refine sm_ias (k := 9) G.2.1 (by decide) rfl (ibt (k := 9) h6) h6 (by decide +kernel) ?_
    refine sm_nmt (fun τ7 => ?_)
    refine sm_b (l' := [(0, vr (some (gw g)))]) (st' := [vr (some (gw g))]) (pc' := 289) [(.aload_n 0, vi 0, 289)] (by decide +kernel) rfl rfl ?_
    refine sm_tg (k := 10) (x := vr (some (gT g 10))) G.2.1 q1428 rfl rfl (by decide +kernel) ?_
    refine sm_b (l' := [(0, vr (some (gw g)))]) (st' := [vr (some (gw g)), vr (some (gT g 10))]) (pc' := 293) [(.aload_n 0, vi 0, 293)] (by decide +kernel) rfl rfl ?_
    refine sm_tg (k := 12) (x := vi (tI τ7 12)) G.2.1 q1430 rfl rfl (by decide +kernel) ?_
    refine sm_b (l' := [(0, vr (some (gw g)))]) (st' := [vr (some (gw g)), vi (tI τ7 12), vr (some (gT g 10))]) (pc' := 297) [(.aload_n 0, vi 0, 297)] (by decide +kernel) rfl rfl ?_
    refine sm_tg (k := 5) (x := vi (tI τ7 5)) G.2.1 q1423 rfl rfl (by decide +kernel) ?_
    refine sm_gd (fun h8 => ?_)
    refine sm_ias (k := 10) G.2.1 (by decide) rfl (ibt (k := 10) h8) h8 (by decide +kernel) ?_
    refine sm_nmt (fun τ9 => ?_)
    refine sm_b (l' := [(0, vr (some (gw g)))]) (st' := [vr (some (gw g))]) (pc' := 302) [(.aload_n 0, vi 0, 302)] (by decide +kernel) rfl rfl ?_
    refine sm_tg (k := 11) (x := vr (some (gT g 11))) G.2.1 q1429 rfl rfl (by decide +kernel) ?_
    refine sm_b (l' := [(0, vr (some (gw g)))]) (st' := [vr (some (gw g)), vr (some (gT g 11))]) (pc' := 306) [(.aload_n 0, vi 0, 306)] (by decide +kernel) rfl rfl ?_
    refine sm_tg (k := 12) (x := vi (tI τ9 12)) G.2.1 q1430 rfl rfl (by decide +kernel) ?_
    refine sm_b (l' := [(0, vr (some (gw g)))]) (st' := [vi 0, vi (tI τ9 12), vr (some (gT g 11))]) (pc' := 310) [(.iconst 0, vi 0, 310)] (by decide +kernel) rfl rfl ?_
    refine sm_gd (fun h10 => ?_)
    refine sm_ias (k := 11) G.2.1 (by decide) rfl (ibt (k := 11) h10) h10 (by decide +kernel) ?_
    refine sm_nmt (fun τ11 => ?_)
    exact sm_vret rfl (by decide +kernel) (fun h => hRET _ h)
  · exact m_readTokens_L7_ok G d hd1   (fun _ h => j4 _ h) FU 0 τ1
def m_is_L22 (u1 : Int) (u2 : Nat) (τ : TT) : Nat → Int → Int → Option (Int)
  | 0, _, _ => none
  | n + 1, w3, w4 => gd (rg w3) (gd (¬ (w3 = 0) → rg w4) (if (w3 = 0) ∨ ((((slen u2 : Nat) : Int)) ≤ w4) then (gd (zb w3) (some w3)) else (gd (ib u1 1001) (gd (ib ((tA τ 10 u1.toNat) + w4) 1000) (gd (ib w4 (slen u2)) (Option.bind (gd (rg (tA τ 8 ((tA τ 10 u1.toNat) + w4).toNat)) (if (tA τ 8 ((tA τ 10 u1.toNat) + w4).toNat) = (((sch u2 w4.toNat : Nat) : Int)) then (some 1) else (some 0))) fun (v25 : Int) => m_is_L22 u1 u2 τ n v25 (w4 + 1)))))))
def m_is (a1 : Int) (a2 : Nat) (τ : TT) : Option (Int) := gd (ib a1 1001) (Option.bind (gd (rg (tA τ 11 a1.toNat)) (if (tA τ 11 a1.toNat) = (((slen a2 : Nat) : Int)) then (some 1) else (some 0))) fun (v5 : Int) => m_is_L22 a1 a2 τ FU v5 0)
set_option maxHeartbeats 4000000 in
theorem m_is_L22_ok {g : GE} (G : GG g) {σ : ST} {Q : VQ} (d : Nat) (hd1 : 6 ≤ d) (u1 : Int) (u2 : Nat) (τ : TT)  {K : Int → Prop} (hRET : ∀ r : Int, K (r) → Q.1 (some (vi r)) σ τ) : ∀ (n : Nat) (w3 : Int) (w4 : Int), Sm (V g mX4_is d 22 [(0, vr (some (gw g))), (1, vi u1), (2, vr (some (gK g u2))), (3, vi w3), (4, vi w4)] [] σ τ Q) (m_is_L22 u1 u2 τ n w3 w4) K := by
  intro n
  induction n with
  | zero => intro w3 w4; exact sm_none
  | succ n ih =>
    intro w3 w4
    rw [m_is_L22.eq_2]
    refine sm_b (l' := [(0, vr (some (gw g))), (1, vi u1), (2, vr (some (gK g u2))), (3, vi w3), (4, vi w4)]) (st' := [vi w3]) (pc' := 23) [(.iload_n 3, vi 0, 23)] (by decide +kernel) rfl rfl ?_
    refine sm_gd (fun h9 => ?_)
    refine sm_gd (fun h11 => ?_)
    refine sm_case (V g mX4_is d 70 [(0, vr (some (gw g))), (1, vi u1), (2, vr (some (gK g u2))), (3, vi w3), (4, vi w4)] [] σ τ Q) (V g mX4_is d 35 [(0, vr (some (gw g))), (1, vi u1), (2, vr (some (gK g u2))), (3, vi w3), (4, vi w4)] [] σ τ Q) ?_ ?_ (fun f33 p34 n35 => ?_)
    · refine sm_b (l' := [(0, vr (some (gw g))), (1, vi u1), (2, vr (some (gK g u2))), (3, vi w3), (4, vi w4)]) (st' := [vi w3]) (pc' := 71) [(.iload_n 3, vi 0, 71)] (by decide +kernel) rfl rfl ?_
      refine sm_gd (fun h18 => ?_)
      exact sm_zret rfl (by decide +kernel) h18 (fun h => hRET _ h)
    · refine sm_b (l' := [(0, vr (some (gw g))), (1, vi u1), (2, vr (some (gK g u2))), (3, vi w3), (4, vi w4)]) (st' := [vr (some (gw g))]) (pc' := 36) [(.aload_n 0, vi 0, 36)] (by decide +kernel) rfl rfl ?_
      refine sm_tg (k := 8) (x := vr (some (gT g 8))) G.2.1 q1426 rfl rfl (by decide +kernel) ?_
      refine sm_b (l' := [(0, vr (some (gw g))), (1, vi u1), (2, vr (some (gK g u2))), (3, vi w3), (4, vi w4)]) (st' := [vr (some (gw g)), vr (some (gT g 8))]) (pc' := 40) [(.aload_n 0, vi 0, 40)] (by decide +kernel) rfl rfl ?_
      refine sm_tg (k := 10) (x := vr (some (gT g 10))) G.2.1 q1428 rfl rfl (by decide +kernel) ?_
      refine sm_b (l' := [(0, vr (some (gw g))), (1, vi u1), (2, vr (some (gK g u2))), (3, vi w3), (4, vi w4)]) (st' := [vi u1, vr (some (gT g 10)), vr (some (gT g 8))]) (pc' := 44) [(.iload_n 1, vi 0, 44)] (by decide +kernel) rfl rfl ?_
      refine sm_gd (fun h19 => ?_)
      refine sm_ial (k := 10) G.2.1 (by decide) rfl (ibt (k := 10) h19) h19 (by decide +kernel) ?_
      refine sm_b (l' := [(0, vr (some (gw g))), (1, vi u1), (2, vr (some (gK g u2))), (3, vi w3), (4, vi w4)]) (st' := [vi ((tA τ 10 u1.toNat) + w4), vr (some (gT g 8))]) (pc' := 48) [(.iload 4, vi 0, 47), (.iadd, vi 0, 48)] (by decide +kernel) rfl rfl ?_
      refine sm_gd (fun h20 => ?_)
      refine sm_ial (k := 8) G.2.1 (by decide) rfl (ibt (k := 8) h20) h20 (by decide +kernel) ?_
      refine sm_b (l' := [(0, vr (some (gw g))), (1, vi u1), (2, vr (some (gK g u2))), (3, vi w3), (4, vi w4)]) (st' := [vi w4, vr (some (gK g u2)), vi (tA τ 8 ((tA τ 10 u1.toNat) + w4).toNat)]) (pc' := 52) [(.aload_n 2, vi 0, 50), (.iload 4, vi 0, 52)] (by decide +kernel) rfl rfl ?_
      refine sm_gd (fun h21 => ?_)
      refine sm_scha (k := u2) G [vi (tA τ 8 ((tA τ 10 u1.toNat) + w4).toNat)] rfl (by decide +kernel) q1643 h21 (by omega) rfl ?_
      refine sm_bind1 (fun (v25 : Int) => V g mX4_is d 63 [(0, vr (some (gw g))), (1, vi u1), (2, vr (some (gK g u2))), (4, vi w4)] [vi v25] σ τ Q) (fun v25 => ?_) (fun K26 j27 => ?_)
      · refine sm_b (l' := [(0, vr (some (gw g))), (1, vi u1), (2, vr (some (gK g u2))), (4, vi (w4 + 1)), (3, vi v25)]) (st' := []) (pc' := 22) [(.istore_n 3, vi 0, 64), (.iinc 4 1, vi 1, 67), (.goto (-45), vi 0, 22)] (by decide +kernel) rfl rfl ?_
        refine sm_pick [0, 1, 2, 4, 3] (l' := [(0, vr (some (gw g))), (1, vi u1), (2, vr (some (gK g u2))), (3, vi v25), (4, vi (w4 + 1))]) rfl ?_
        exact ih v25 (w4 + 1)
      · refine sm_gd (fun h22 => ?_)
        refine sm_case (V g mX4_is d 58 [(0, vr (some (gw g))), (1, vi u1), (2, vr (some (gK g u2))), (3, vi w3), (4, vi w4)] [] σ τ Q) (V g mX4_is d 62 [(0, vr (some (gw g))), (1, vi u1), (2, vr (some (gK g u2))), (3, vi w3), (4, vi w4)] [] σ τ Q) ?_ ?_ (fun f29 p30 n31 => ?_)
        · refine sm_b (l' := [(0, vr (some (gw g))), (1, vi u1), (2, vr (some (gK g u2))), (3, vi w3), (4, vi w4)]) (st' := [vi 1]) (pc' := 63) [(.iconst 1, vi 1, 59), (.goto 4, vi 0, 63)] (by decide +kernel) rfl rfl ?_
          refine sm_pick [0, 1, 2, 4] (l' := [(0, vr (some (gw g))), (1, vi u1), (2, vr (some (gK g u2))), (4, vi w4)]) rfl ?_
          exact sm_leaf (fun h => j27 _ h)
        · refine sm_b (l' := [(0, vr (some (gw g))), (1, vi u1), (2, vr (some (gK g u2))), (3, vi w3), (4, vi w4)]) (st' := [vi 0]) (pc' := 63) [(.iconst 0, vi 0, 63)] (by decide +kernel) rfl rfl ?_
          refine sm_pick [0, 1, 2, 4] (l' := [(0, vr (some (gw g))), (1, vi u1), (2, vr (some (gK g u2))), (4, vi w4)]) rfl ?_
          exact sm_leaf (fun h => j27 _ h)
        refine sm_icmp_ne (off := 7) (tgt := 62) h22 (sch_rg _ _) (by decide +kernel) (fun c32 => ?_) (fun c32 => ?_)
        · exact n31 c32
        · exact p30 c32
    refine sm_if_eq (off := 47) (tgt := 70) h9 (by decide +kernel) (fun c36 => ?_) (fun c36 => ?_)
    · exact p34 (Or.inl c36)
    · have w10 : ¬ (w3 = 0) := c36
      refine sm_b (l' := [(0, vr (some (gw g))), (1, vi u1), (2, vr (some (gK g u2))), (3, vi w3), (4, vi w4)]) (st' := [vr (some (gK g u2)), vi w4]) (pc' := 29) [(.iload 4, vi 0, 28), (.aload_n 2, vi 0, 29)] (by decide +kernel) rfl rfl ?_
      refine sm_slen (k := u2) G [vi w4] rfl (by decide +kernel) q1642 (by omega) rfl ?_
      refine sm_icmp_ge (off := 38) (tgt := 70) (h11 w10) (slen_rg _) (by decide +kernel) (fun c37 => ?_) (fun c37 => ?_)
      · exact p34 (Or.inr c37)
      · exact n35 (fun q => q.elim c36 c37)
set_option maxHeartbeats 4000000 in
theorem m_is_ok {g : GE} (G : GG g) {σ : ST} (d : Nat) (hd1 : 6 ≤ d) (a1 : Int) (a2 : Nat)  (τ : TT) (Q : VQ) : Sm (V g mX4_is d 0 [(0, vr (some (gw g))), (1, vi a1), (2, vr (some (gK g a2)))] [] σ τ Q) (m_is a1 a2 τ) (fun r => Q.1 (some (vi r)) σ τ) := by
  unfold m_is
  refine sm_top (fun K hRET => ?_)
  refine sm_b (l' := [(0, vr (some (gw g))), (1, vi a1), (2, vr (some (gK g a2)))]) (st' := [vr (some (gw g))]) (pc' := 1) [(.aload_n 0, vi 0, 1)] (by decide +kernel) rfl rfl ?_
  refine sm_tg (k := 11) (x := vr (some (gT g 11))) G.2.1 q1429 rfl rfl (by decide +kernel) ?_
  refine sm_b (l' := [(0, vr (some (gw g))), (1, vi a1), (2, vr (some (gK g a2)))]) (st' := [vi a1, vr (some (gT g 11))]) (pc' := 5) [(.iload_n 1, vi 0, 5)] (by decide +kernel) rfl rfl ?_
  refine sm_gd (fun h1 => ?_)
  refine sm_ial (k := 11) G.2.1 (by decide) rfl (ibt (k := 11) h1) h1 (by decide +kernel) ?_
  refine sm_b (l' := [(0, vr (some (gw g))), (1, vi a1), (2, vr (some (gK g a2)))]) (st' := [vr (some (gK g a2)), vi (tA τ 11 a1.toNat)]) (pc' := 7) [(.aload_n 2, vi 0, 7)] (by decide +kernel) rfl rfl ?_
  refine sm_slen (k := a2) G [vi (tA τ 11 a1.toNat)] rfl (by decide +kernel) q1642 (by omega) rfl ?_
  refine sm_bind1 (fun (v5 : Int) => V g mX4_is d 18 [(0, vr (some (gw g))), (1, vi a1), (2, vr (some (gK g a2)))] [vi v5] σ τ Q) (fun v5 => ?_) (fun K6 j7 => ?_)
  · refine sm_b (l' := [(0, vr (some (gw g))), (1, vi a1), (2, vr (some (gK g a2))), (3, vi v5), (4, vi 0)]) (st' := []) (pc' := 22) [(.istore_n 3, vi 0, 19), (.iconst 0, vi 0, 20), (.istore 4, vi 0, 22)] (by decide +kernel) rfl rfl ?_
    exact m_is_L22_ok G d hd1 a1 a2 τ  (fun r h => hRET _ h) FU v5 0
  · refine sm_gd (fun h2 => ?_)
    refine sm_case (V g mX4_is d 13 [(0, vr (some (gw g))), (1, vi a1), (2, vr (some (gK g a2)))] [] σ τ Q) (V g mX4_is d 17 [(0, vr (some (gw g))), (1, vi a1), (2, vr (some (gK g a2)))] [] σ τ Q) ?_ ?_ (fun f38 p39 n40 => ?_)
    · refine sm_b (l' := [(0, vr (some (gw g))), (1, vi a1), (2, vr (some (gK g a2)))]) (st' := [vi 1]) (pc' := 18) [(.iconst 1, vi 1, 14), (.goto 4, vi 0, 18)] (by decide +kernel) rfl rfl ?_
      exact sm_leaf (fun h => j7 _ h)
    · refine sm_b (l' := [(0, vr (some (gw g))), (1, vi a1), (2, vr (some (gK g a2)))]) (st' := [vi 0]) (pc' := 18) [(.iconst 0, vi 0, 18)] (by decide +kernel) rfl rfl ?_
      exact sm_leaf (fun h => j7 _ h)
    refine sm_icmp_ne (off := 7) (tgt := 17) h2 (slen_rg _) (by decide +kernel) (fun c41 => ?_) (fun c41 => ?_)
    · exact n40 c41
    · exact p39 c41
def m_takes (a1 : Nat) (τ : TT) : Option (Int × TT) := gd (rg (tI τ 14)) (gd ((tI τ 14) = 0 → ib (tI τ 13) 1001) (gd ((tI τ 14) = 0 → rg (tA τ 9 (tI τ 13).toNat)) (gd (((tI τ 14) = 0) ∧ (¬ ((tA τ 9 (tI τ 13).toNat) = 4)) → ok (m_is (tI τ 13) a1 τ)) (gd (((tI τ 14) = 0) ∧ (¬ ((tA τ 9 (tI τ 13).toNat) = 4)) → rg (vv (m_is (tI τ 13) a1 τ))) (if (((tI τ 14) = 0) ∧ (¬ ((tA τ 9 (tI τ 13).toNat) = 4))) ∧ (¬ ((vv (m_is (tI τ 13) a1 τ)) = 0)) then (nm (uI τ 13 ((tI τ 13) + 1)) fun τ10 => some ((1, τ10))) else (some ((0, τ))))))))
set_option maxHeartbeats 4000000 in
theorem m_takes_ok {g : GE} (G : GG g) {σ : ST} (d : Nat) (hd1 : 7 ≤ d) (a1 : Nat)  (τ : TT) (Q : VQ) : Sm (V g mX4_takes d 0 [(0, vr (some (gw g))), (1, vr (some (gK g a1)))] [] σ τ Q) (m_takes a1 τ) (fun r => Q.1 (some (vi r.1)) σ r.2) := by
  unfold m_takes
  refine sm_top (fun K hRET => ?_)
  refine sm_b (l' := [(0, vr (some (gw g))), (1, vr (some (gK g a1)))]) (st' := [vr (some (gw g))]) (pc' := 1) [(.aload_n 0, vi 0, 1)] (by decide +kernel) rfl rfl ?_
  refine sm_tg (k := 14) (x := vi (tI τ 14)) G.2.1 q1432 rfl rfl (by decide +kernel) ?_
  refine sm_gd (fun h1 => ?_)
  refine sm_gd (fun h3 => ?_)
  refine sm_gd (fun h4 => ?_)
  refine sm_gd (fun h6 => ?_)
  refine sm_gd (fun h7 => ?_)
  refine sm_case (V g mX4_takes d 34 [(0, vr (some (gw g))), (1, vr (some (gK g a1)))] [] σ τ Q) (V g mX4_takes d 32 [(0, vr (some (gw g))), (1, vr (some (gK g a1)))] [] σ τ Q) ?_ ?_ (fun f11 p12 n13 => ?_)
  · refine sm_b (l' := [(0, vr (some (gw g))), (1, vr (some (gK g a1)))]) (st' := [vr (some (gw g)), vr (some (gw g))]) (pc' := 36) [(.aload_n 0, vi 0, 35), (.dup, vi 0, 36)] (by decide +kernel) rfl rfl ?_
    refine sm_tg (k := 13) (x := vi (tI τ 13)) G.2.1 q1431 rfl rfl (by decide +kernel) ?_
    refine sm_b (l' := [(0, vr (some (gw g))), (1, vr (some (gK g a1)))]) (st' := [vi ((tI τ 13) + 1), vr (some (gw g))]) (pc' := 41) [(.iconst 1, vi 1, 40), (.iadd, vi 0, 41)] (by decide +kernel) rfl rfl ?_
    refine sm_tpi (k := 13) G.2.1 q1431 rfl rfl rfl (tp_13 g τ ((tI τ 13) + 1)) (by decide +kernel) ?_
    refine sm_nmt (fun τ10 => ?_)
    refine sm_b (l' := [(0, vr (some (gw g))), (1, vr (some (gK g a1)))]) (st' := [vi 1]) (pc' := 45) [(.iconst 1, vi 1, 45)] (by decide +kernel) rfl rfl ?_
    exact sm_zret rfl (by decide +kernel) (by decide) (fun h => hRET _ h)
  · refine sm_b (l' := [(0, vr (some (gw g))), (1, vr (some (gK g a1)))]) (st' := [vi 0]) (pc' := 33) [(.iconst 0, vi 0, 33)] (by decide +kernel) rfl rfl ?_
    exact sm_zret rfl (by decide +kernel) (by decide) (fun h => hRET _ h)
  refine sm_if_ne (off := 28) (tgt := 32) h1 (by decide +kernel) (fun c14 => ?_) (fun c14 => ?_)
  · exact n13 (fun q => (fun q => c14 q.1) q.1)
  · have w2 : (tI τ 14) = 0 := c14
    refine sm_b (l' := [(0, vr (some (gw g))), (1, vr (some (gK g a1)))]) (st' := [vr (some (gw g))]) (pc' := 8) [(.aload_n 0, vi 0, 8)] (by decide +kernel) rfl rfl ?_
    refine sm_tg (k := 9) (x := vr (some (gT g 9))) G.2.1 q1427 rfl rfl (by decide +kernel) ?_
    refine sm_b (l' := [(0, vr (some (gw g))), (1, vr (some (gK g a1)))]) (st' := [vr (some (gw g)), vr (some (gT g 9))]) (pc' := 12) [(.aload_n 0, vi 0, 12)] (by decide +kernel) rfl rfl ?_
    refine sm_tg (k := 13) (x := vi (tI τ 13)) G.2.1 q1431 rfl rfl (by decide +kernel) ?_
    refine sm_ial (k := 9) G.2.1 (by decide) rfl (ibt (k := 9) (h3 w2)) (h3 w2) (by decide +kernel) ?_
    refine sm_b (l' := [(0, vr (some (gw g))), (1, vr (some (gK g a1)))]) (st' := [vi 4, vi (tA τ 9 (tI τ 13).toNat)]) (pc' := 17) [(.iconst 4, vi 4, 17)] (by decide +kernel) rfl rfl ?_
    refine sm_icmp_eq (off := 15) (tgt := 32) (h4 w2) (by decide) (by decide +kernel) (fun c15 => ?_) (fun c15 => ?_)
    · exact n13 (fun q => (fun q => (fun q => q c15) q.2) q.1)
    · have w5 : ((tI τ 14) = 0) ∧ (¬ ((tA τ 9 (tI τ 13).toNat) = 4)) := ⟨c14, c15⟩
      refine sm_b (l' := [(0, vr (some (gw g))), (1, vr (some (gK g a1)))]) (st' := [vr (some (gw g)), vr (some (gw g))]) (pc' := 22) [(.aload_n 0, vi 0, 21), (.aload_n 0, vi 0, 22)] (by decide +kernel) rfl rfl ?_
      refine sm_tg (k := 13) (x := vi (tI τ 13)) G.2.1 q1431 rfl rfl (by decide +kernel) ?_
      refine sm_b (l' := [(0, vr (some (gw g))), (1, vr (some (gK g a1)))]) (st' := [vr (some (gK g a1)), vi (tI τ 13), vr (some (gw g))]) (pc' := 26) [(.aload_n 1, vi 0, 26)] (by decide +kernel) rfl rfl ?_
      refine sm_cvp (N := mX4_is) (d' := d - 1) (fun r => (some (vi r))) (some (vi (vv (m_is (tI τ 13) a1 τ)))) (h6 w5) (fun y h => by rw [vv_some h]) [vi (tI τ 13), vr (some (gK g a1))] [] rfl (by decide +kernel) q1638 q1640 qs52 (Or.inl ⟨rfl, q1641⟩) (show okN yX4_is 2 = true by decide +kernel) (fun H hR => hR.rvw G.1 G.2.1) rfl rfl (by omega) rfl (fun Q' => m_is_ok G (d - 1) (by omega) (tI τ 13) a1 τ Q') ?_
      refine sm_if_ne (off := 5) (tgt := 34) (h7 w5) (by decide +kernel) (fun c16 => ?_) (fun c16 => ?_)
      · exact p12 ⟨⟨c14, c15⟩, c16⟩
      · exact n13 (fun q => (fun q => q c16) q.2)
