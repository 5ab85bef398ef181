set_option maxRecDepth 100000
/-! the reference: X4_putLength, X4_putSaid, X4_putValue, X4_putArray, X4_putObject, X4_toWire -/
def m_putLength_L59 (u1 : Int) (u2 : Int) (u3 : Int) : Nat → Int → TT → Option (TT)
  | 0, _, _ => none
  | n + 1, w4, τ => gd (rg w4) (gd (rg (u1 + u3)) (if w4 < (u1 + u3) then (some τ) else (gd (ib (w4 - u3) 4000) (gd (ib w4 4000) (nm (uA τ 3 w4.toNat (tA τ 3 (w4 - u3).toNat)) fun τ29 => m_putLength_L59 u1 u2 u3 n (w4 + (-1)) τ29)))))
def m_putLength_L34 (u1 : Int) (u2 : Int) (u3 : Int) : Nat → Int → TT → Option (TT)
  | 0, _, _ => none
  | n + 1, w4, τ => gd (rg w4) (gd (rg u3) (if u3 ≤ w4 then (some τ) else (Option.bind (m_put 0 τ) fun y38 => m_putLength_L34 u1 u2 u3 n (w4 + 1) y38)))
def m_putLength (a1 : Int) (τ : TT) : Option (TT) := nm ((tI τ 6) - a1) fun x1 => Option.bind (gd (rg x1) (if 128 ≤ x1 then (if 16384 ≤ x1 then (some 3) else (some 2)) else (some 1))) fun (v5 : Int) => Option.bind (m_putLength_L34 a1 x1 v5 FU 0 τ) fun (v9 : TT) => nm ((tI v9 6) - 1) fun x13 => Option.bind (m_putLength_L59 a1 x1 v5 FU x13 v9) fun (v14 : TT) => nm (tI v14 6) fun x18 => nm (uI v14 6 a1) fun τ19 => Option.bind (m_putVarint (iL x1) τ19) fun y20 => nm (uI y20 6 x18) fun τ21 => some τ21
set_option maxHeartbeats 4000000 in
theorem m_putLength_L59_ok {g : GE} (G : GG g) {σ : ST} {Q : VQ} (d : Nat) (hd1 : 2 ≤ d) (u1 : Int) (u2 : Int) (u3 : Int)  {K : TT → Prop} (hE89 : ∀ v22 : TT, K (v22) → V g mX4_putLength d 89 [(0, vr (some (gw g))), (1, vi u1), (2, vi u2)] [] σ v22 Q) : ∀ (n : Nat) (w4 : Int) (τ : TT), Sm (V g mX4_putLength d 59 [(0, vr (some (gw g))), (1, vi u1), (2, vi u2), (3, vi u3), (4, vi w4)] [] σ τ Q) (m_putLength_L59 u1 u2 u3 n w4 τ) K := by
  intro n
  induction n with
  | zero => intro w4 τ; exact sm_none
  | succ n ih =>
    intro w4 τ
    rw [m_putLength_L59.eq_2]
    refine sm_b (l' := [(0, vr (some (gw g))), (1, vi u1), (2, vi u2), (3, vi u3), (4, vi w4)]) (st' := [vi (u1 + u3), vi w4]) (pc' := 64) [(.iload 4, vi 0, 61), (.iload_n 1, vi 0, 62), (.iload_n 3, vi 0, 63), (.iadd, vi 0, 64)] (by decide +kernel) rfl rfl ?_
    refine sm_gd (fun h23 => ?_)
    refine sm_gd (fun h24 => ?_)
    refine sm_case (V g mX4_putLength d 89 [(0, vr (some (gw g))), (1, vi u1), (2, vi u2), (3, vi u3), (4, vi w4)] [] σ τ Q) (V g mX4_putLength d 67 [(0, vr (some (gw g))), (1, vi u1), (2, vi u2), (3, vi u3), (4, vi w4)] [] σ τ Q) ?_ ?_ (fun f30 p31 n32 => ?_)
    · refine sm_pick [0, 1, 2] (l' := [(0, vr (some (gw g))), (1, vi u1), (2, vi u2)]) rfl ?_
      exact sm_leaf (fun h => hE89 _ h)
    · refine sm_b (l' := [(0, vr (some (gw g))), (1, vi u1), (2, vi u2), (3, vi u3), (4, vi w4)]) (st' := [vr (some (gw g))]) (pc' := 68) [(.aload_n 0, vi 0, 68)] (by decide +kernel) rfl rfl ?_
      refine sm_tg (k := 3) (x := vr (some (gT g 3))) G.2.1 q1421 rfl rfl (by decide +kernel) ?_
      refine sm_b (l' := [(0, vr (some (gw g))), (1, vi u1), (2, vi u2), (3, vi u3), (4, vi w4)]) (st' := [vr (some (gw g)), vi w4, vr (some (gT g 3))]) (pc' := 74) [(.iload 4, vi 0, 73), (.aload_n 0, vi 0, 74)] (by decide +kernel) rfl rfl ?_
      refine sm_tg (k := 3) (x := vr (some (gT g 3))) G.2.1 q1421 rfl rfl (by decide +kernel) ?_
      refine sm_b (l' := [(0, vr (some (gw g))), (1, vi u1), (2, vi u2), (3, vi u3), (4, vi w4)]) (st' := [vi (w4 - u3), vr (some (gT g 3)), vi w4, vr (some (gT g 3))]) (pc' := 81) [(.iload 4, vi 0, 79), (.iload_n 3, vi 0, 80), (.isub, vi 0, 81)] (by decide +kernel) rfl rfl ?_
      refine sm_gd (fun h27 => ?_)
      refine sm_ial (k := 3) G.2.1 (by decide) rfl (ibt (k := 3) h27) h27 (by decide +kernel) ?_
      refine sm_gd (fun h28 => ?_)
      refine sm_ias (k := 3) G.2.1 (by decide) rfl (ibt (k := 3) h28) h28 (by decide +kernel) ?_
      refine sm_nmt (fun τ29 => ?_)
      refine sm_b (l' := [(0, vr (some (gw g))), (1, vi u1), (2, vi u2), (3, vi u3), (4, vi (w4 + (-1)))]) (st' := []) (pc' := 59) [(.iinc 4 (-1), vi (-1), 86), (.goto (-27), vi 0, 59)] (by decide +kernel) rfl rfl ?_
      exact ih (w4 + (-1)) τ29
    refine sm_icmp_lt (off := 25) (tgt := 89) h23 h24 (by decide +kernel) (fun c33 => ?_) (fun c33 => ?_)
    · exact p31 c33
    · exact n32 c33
set_option maxHeartbeats 4000000 in
theorem m_putLength_L34_ok {g : GE} (G : GG g) {σ : ST} {Q : VQ} (d : Nat) (hd1 : 2 ≤ d) (u1 : Int) (u2 : Int) (u3 : Int)  {K : TT → Prop} (hE51 : ∀ v34 : TT, K (v34) → V g mX4_putLength d 51 [(0, vr (some (gw g))), (1, vi u1), (2, vi u2), (3, vi u3)] [] σ v34 Q) : ∀ (n : Nat) (w4 : Int) (τ : TT), Sm (V g mX4_putLength d 34 [(0, vr (some (gw g))), (1, vi u1), (2, vi u2), (3, vi u3), (4, vi w4)] [] σ τ Q) (m_putLength_L34 u1 u2 u3 n w4 τ) K := by
  intro n
  induction n with
  | zero => intro w4 τ; exact sm_none
  | succ n ih =>
    intro w4 τ
    rw [m_putLength_L34.eq_2]
    refine sm_b (l' := [(0, vr (some (gw g))), (1, vi u1), (2, vi u2), (3, vi u3), (4, vi w4)]) (st' := [vi u3, vi w4]) (pc' := 37) [(.iload 4, vi 0, 36), (.iload_n 3, vi 0, 37)] (by decide +kernel) rfl rfl ?_
    refine sm_gd (fun h35 => ?_)
    refine sm_gd (fun h36 => ?_)
    refine sm_case (V g mX4_putLength d 51 [(0, vr (some (gw g))), (1, vi u1), (2, vi u2), (3, vi u3), (4, vi w4)] [] σ τ Q) (V g mX4_putLength d 40 [(0, vr (some (gw g))), (1, vi u1), (2, vi u2), (3, vi u3), (4, vi w4)] [] σ τ Q) ?_ ?_ (fun f39 p40 n41 => ?_)
    · refine sm_pick [0, 1, 2, 3] (l' := [(0, vr (some (gw g))), (1, vi u1), (2, vi u2), (3, vi u3)]) rfl ?_
      exact sm_leaf (fun h => hE51 _ h)
    · refine sm_b (l' := [(0, vr (some (gw g))), (1, vi u1), (2, vi u2), (3, vi u3), (4, vi w4)]) (st' := [vi 0, vr (some (gw g))]) (pc' := 42) [(.aload_n 0, vi 0, 41), (.iconst 0, vi 0, 42)] (by decide +kernel) rfl rfl ?_
      refine sm_cv (N := mX4_put) (d' := d - 1) (fun r => none) (fun _ => σ) (fun r => r) [vi 0] [] rfl (by decide +kernel) q1817 q1819 qs86 (Or.inl ⟨rfl, q1820⟩) (show okN yX4_put 1 = true by decide +kernel) (fun H hR => hR.rvw G.1 G.2.1) rfl rfl (by omega) rfl (fun Q' => m_put_ok G (d - 1) (by omega) 0 τ Q') (fun y38 => ?_)
      refine sm_b (l' := [(0, vr (some (gw g))), (1, vi u1), (2, vi u2), (3, vi u3), (4, vi (w4 + 1))]) (st' := []) (pc' := 34) [(.iinc 4 1, vi 1, 48), (.goto (-14), vi 0, 34)] (by decide +kernel) rfl rfl ?_
      exact ih (w4 + 1) y38
    refine sm_icmp_ge (off := 14) (tgt := 51) h35 h36 (by decide +kernel) (fun c42 => ?_) (fun c42 => ?_)
    · exact p40 c42
    · exact n41 c42
set_option maxHeartbeats 4000000 in
theorem m_putLength_ok {g : GE} (G : GG g) {σ : ST} (d : Nat) (hd1 : 2 ≤ d) (a1 : Int)  (τ : TT) (Q : VQ) : Sm (V g mX4_putLength d 0 [(0, vr (some (gw g))), (1, vi a1)] [] σ τ Q) (m_putLength a1 τ) (fun r => Q.1 none σ r) := by
  unfold m_putLength
  refine sm_top (fun K hRET => ?_)
  refine sm_b (l' := [(0, vr (some (gw g))), (1, vi a1)]) (st' := [vr (some (gw g))]) (pc' := 1) [(.aload_n 0, vi 0, 1)] (by decide +kernel) rfl rfl ?_
  refine sm_tg (k := 6) (x := vi (tI τ 6)) G.2.1 q1424 rfl rfl (by decide +kernel) ?_
  refine sm_b (l' := [(0, vr (some (gw g))), (1, vi a1)]) (st' := [vi ((tI τ 6) - a1)]) (pc' := 6) [(.iload_n 1, vi 0, 5), (.isub, vi 0, 6)] (by decide +kernel) rfl rfl ?_
  refine sm_nmi (fun x1 => ?_)
  refine sm_b (l' := [(0, vr (some (gw g))), (1, vi a1), (2, vi x1)]) (st' := [vi 128, vi x1]) (pc' := 11) [(.istore_n 2, vi 0, 7), (.iload_n 2, vi 0, 8), (.sipush 128, vi 128, 11)] (by decide +kernel) rfl rfl ?_
  refine sm_bind1 (fun (v5 : Int) => V g mX4_putLength d 30 [(0, vr (some (gw g))), (1, vi a1), (2, vi x1)] [vi v5] σ τ Q) (fun v5 => ?_) (fun K6 j7 => ?_)
  · refine sm_b (l' := [(0, vr (some (gw g))), (1, vi a1), (2, vi x1), (3, vi v5), (4, vi 0)]) (st' := []) (pc' := 34) [(.istore_n 3, vi 0, 31), (.iconst 0, vi 0, 32), (.istore 4, vi 0, 34)] (by decide +kernel) rfl rfl ?_
    refine sm_bind1 (fun (v9 : TT) => V g mX4_putLength d 51 [(0, vr (some (gw g))), (1, vi a1), (2, vi x1), (3, vi v5)] [] σ v9 Q) (fun v9 => ?_) (fun K10 j11 => ?_)
    · refine sm_b (l' := [(0, vr (some (gw g))), (1, vi a1), (2, vi x1), (3, vi v5)]) (st' := [vr (some (gw g))]) (pc' := 52) [(.aload_n 0, vi 0, 52)] (by decide +kernel) rfl rfl ?_
      refine sm_tg (k := 6) (x := vi (tI v9 6)) G.2.1 q1424 rfl rfl (by decide +kernel) ?_
      refine sm_b (l' := [(0, vr (some (gw g))), (1, vi a1), (2, vi x1), (3, vi v5)]) (st' := [vi ((tI v9 6) - 1)]) (pc' := 57) [(.iconst 1, vi 1, 56), (.isub, vi 0, 57)] (by decide +kernel) rfl rfl ?_
      refine sm_nmi (fun x13 => ?_)
      refine sm_b (l' := [(0, vr (some (gw g))), (1, vi a1), (2, vi x1), (3, vi v5), (4, vi x13)]) (st' := []) (pc' := 59) [(.istore 4, vi 0, 59)] (by decide +kernel) rfl rfl ?_
      refine sm_bind1 (fun (v14 : TT) => V g mX4_putLength d 89 [(0, vr (some (gw g))), (1, vi a1), (2, vi x1)] [] σ v14 Q) (fun v14 => ?_) (fun K15 j16 => ?_)
      · refine sm_b (l' := [(0, vr (some (gw g))), (1, vi a1), (2, vi x1)]) (st' := [vr (some (gw g))]) (pc' := 90) [(.aload_n 0, vi 0, 90)] (by decide +kernel) rfl rfl ?_
        refine sm_tg (k := 6) (x := vi (tI v14 6)) G.2.1 q1424 rfl rfl (by decide +kernel) ?_
        refine sm_nmi (fun x18 => ?_)
        refine sm_b (l' := [(0, vr (some (gw g))), (1, vi a1), (2, vi x1), (4, vi x18)]) (st' := [vi a1, vr (some (gw g))]) (pc' := 97) [(.istore 4, vi 0, 95), (.aload_n 0, vi 0, 96), (.iload_n 1, vi 0, 97)] (by decide +kernel) rfl rfl ?_
        refine sm_tpi (k := 6) G.2.1 q1424 rfl rfl rfl (tp_6 g v14 a1) (by decide +kernel) ?_
        refine sm_nmt (fun τ19 => ?_)
        refine sm_b (l' := [(0, vr (some (gw g))), (1, vi a1), (2, vi x1), (4, vi x18)]) (st' := [vl (iL x1), vr (some (gw g))]) (pc' := 103) [(.aload_n 0, vi 0, 101), (.iload_n 2, vi 0, 102), (.i2l, vi 0, 103)] (by decide +kernel) rfl rfl ?_
        refine sm_cv (N := mX4_putVarint) (d' := d - 1) (fun r => none) (fun _ => σ) (fun r => r) [vl (iL x1)] [] rfl (by decide +kernel) q2002 q2004 qs125 (Or.inl ⟨rfl, q2005⟩) (show okN yX4_putVarint 1 = true by decide +kernel) (fun H hR => hR.rvw G.1 G.2.1) rfl rfl (by omega) rfl (fun Q' => m_putVarint_ok G (d - 1) (by omega) (iL x1) τ19 Q') (fun y20 => ?_)
        refine sm_b (l' := [(0, vr (some (gw g))), (1, vi a1), (2, vi x1), (4, vi x18)]) (st' := [vi x18, vr (some (gw g))]) (pc' := 109) [(.aload_n 0, vi 0, 107), (.iload 4, vi 0, 109)] (by decide +kernel) rfl rfl ?_
        refine sm_tpi (k := 6) G.2.1 q1424 rfl rfl rfl (tp_6 g y20 x18) (by decide +kernel) ?_
        refine sm_nmt (fun τ21 => ?_)
        exact sm_vret rfl (by decide +kernel) (fun h => hRET _ h)
      · exact m_putLength_L59_ok G d hd1 a1 x1 v5  (fun _ h => j16 _ h) FU x13 v9
    · exact m_putLength_L34_ok G d hd1 a1 x1 v5  (fun _ h => j11 _ h) FU 0 τ
  · refine sm_gd (fun h2 => ?_)
    refine sm_case (V g mX4_putLength d 18 [(0, vr (some (gw g))), (1, vi a1), (2, vi x1)] [] σ τ Q) (V g mX4_putLength d 14 [(0, vr (some (gw g))), (1, vi a1), (2, vi x1)] [] σ τ Q) ?_ ?_ (fun f49 p50 n51 => ?_)
    · refine sm_b (l' := [(0, vr (some (gw g))), (1, vi a1), (2, vi x1)]) (st' := [vi 16384, vi x1]) (pc' := 22) [(.iload_n 2, vi 0, 19), (.sipush 16384, vi 16384, 22)] (by decide +kernel) rfl rfl ?_
      refine sm_case (V g mX4_putLength d 29 [(0, vr (some (gw g))), (1, vi a1), (2, vi x1)] [] σ τ Q) (V g mX4_putLength d 25 [(0, vr (some (gw g))), (1, vi a1), (2, vi x1)] [] σ τ Q) ?_ ?_ (fun f45 p46 n47 => ?_)
      · refine sm_b (l' := [(0, vr (some (gw g))), (1, vi a1), (2, vi x1)]) (st' := [vi 3]) (pc' := 30) [(.iconst 3, vi 3, 30)] (by decide +kernel) rfl rfl ?_
        exact sm_leaf (fun h => j7 _ h)
      · refine sm_b (l' := [(0, vr (some (gw g))), (1, vi a1), (2, vi x1)]) (st' := [vi 2]) (pc' := 30) [(.iconst 2, vi 2, 26), (.goto 4, vi 0, 30)] (by decide +kernel) rfl rfl ?_
        exact sm_leaf (fun h => j7 _ h)
      refine sm_icmp_ge (off := 7) (tgt := 29) h2 (by decide) (by decide +kernel) (fun c48 => ?_) (fun c48 => ?_)
      · exact p46 c48
      · exact n47 c48
    · refine sm_b (l' := [(0, vr (some (gw g))), (1, vi a1), (2, vi x1)]) (st' := [vi 1]) (pc' := 30) [(.iconst 1, vi 1, 15), (.goto 15, vi 0, 30)] (by decide +kernel) rfl rfl ?_
      exact sm_leaf (fun h => j7 _ h)
    refine sm_icmp_ge (off := 7) (tgt := 18) h2 (by decide) (by decide +kernel) (fun c52 => ?_) (fun c52 => ?_)
    · exact p50 c52
    · exact n51 c52
def m_putSaid_L2  : Nat → Int → TT → Option (TT)
  | 0, _, _ => none
  | n + 1, w1, τ => gd (rg w1) (gd (rg (tI τ 57)) (if (tI τ 57) ≤ w1 then (some τ) else (gd (ib w1 1000) (Option.bind (m_put (tA τ 56 w1.toNat) τ) fun y7 => m_putSaid_L2 n (w1 + 1) y7))))
def m_putSaid  (τ : TT) : Option (TT) := m_putSaid_L2  FU 0 τ
set_option maxHeartbeats 4000000 in
theorem m_putSaid_L2_ok {g : GE} (G : GG g) {σ : ST} {Q : VQ} (d : Nat) (hd1 : 1 ≤ d)   {K : TT → Prop} (hRET : ∀ r : TT, K (r) → Q.1 none σ r) : ∀ (n : Nat) (w1 : Int) (τ : TT), Sm (V g mX4_putSaid d 2 [(0, vr (some (gw g))), (1, vi w1)] [] σ τ Q) (m_putSaid_L2 n w1 τ) K := by
  intro n
  induction n with
  | zero => intro w1 τ; exact sm_none
  | succ n ih =>
    intro w1 τ
    rw [m_putSaid_L2.eq_2]
    refine sm_b (l' := [(0, vr (some (gw g))), (1, vi w1)]) (st' := [vr (some (gw g)), vi w1]) (pc' := 4) [(.iload_n 1, vi 0, 3), (.aload_n 0, vi 0, 4)] (by decide +kernel) rfl rfl ?_
    refine sm_tg (k := 57) (x := vi (tI τ 57)) G.2.1 q1475 rfl rfl (by decide +kernel) ?_
    refine sm_gd (fun h1 => ?_)
    refine sm_gd (fun h2 => ?_)
    refine sm_case (V g mX4_putSaid d 26 [(0, vr (some (gw g))), (1, vi w1)] [] σ τ Q) (V g mX4_putSaid d 10 [(0, vr (some (gw g))), (1, vi w1)] [] σ τ Q) ?_ ?_ (fun f8 p9 n10 => ?_)
    · exact sm_vret rfl (by decide +kernel) (fun h => hRET _ h)
    · refine sm_b (l' := [(0, vr (some (gw g))), (1, vi w1)]) (st' := [vr (some (gw g)), vr (some (gw g))]) (pc' := 12) [(.aload_n 0, vi 0, 11), (.aload_n 0, vi 0, 12)] (by decide +kernel) rfl rfl ?_
      refine sm_tg (k := 56) (x := vr (some (gT g 56))) G.2.1 q1474 rfl rfl (by decide +kernel) ?_
      refine sm_b (l' := [(0, vr (some (gw g))), (1, vi w1)]) (st' := [vi w1, vr (some (gT g 56)), vr (some (gw g))]) (pc' := 16) [(.iload_n 1, vi 0, 16)] (by decide +kernel) rfl rfl ?_
      refine sm_gd (fun h6 => ?_)
      refine sm_ial (k := 56) G.2.1 (by decide) rfl (ibt (k := 56) h6) h6 (by decide +kernel) ?_
      refine sm_cv (N := mX4_put) (d' := d - 1) (fun r => none) (fun _ => σ) (fun r => r) [vi (tA τ 56 w1.toNat)] [] rfl (by decide +kernel) q1817 q1819 qs86 (Or.inl ⟨rfl, q1820⟩) (show okN yX4_put 1 = true by decide +kernel) (fun H hR => hR.rvw G.1 G.2.1) rfl rfl (by omega) rfl (fun Q' => m_put_ok G (d - 1) (by omega) (tA τ 56 w1.toNat) τ Q') (fun y7 => ?_)
      refine sm_b (l' := [(0, vr (some (gw g))), (1, vi (w1 + 1))]) (st' := []) (pc' := 2) [(.iinc 1 1, vi 1, 23), (.goto (-21), vi 0, 2)] (by decide +kernel) rfl rfl ?_
      exact ih (w1 + 1) y7
    refine sm_icmp_ge (off := 19) (tgt := 26) h1 h2 (by decide +kernel) (fun c11 => ?_) (fun c11 => ?_)
    · exact p9 c11
    · exact n10 c11
set_option maxHeartbeats 4000000 in
theorem m_putSaid_ok {g : GE} (G : GG g) {σ : ST} (d : Nat) (hd1 : 1 ≤ d)   (τ : TT) (Q : VQ) : Sm (V g mX4_putSaid d 0 [(0, vr (some (gw g)))] [] σ τ Q) (m_putSaid τ) (fun r => Q.1 none σ r) := by
  unfold m_putSaid
  refine sm_top (fun K hRET => ?_)
  refine sm_b (l' := [(0, vr (some (gw g))), (1, vi 0)]) (st' := []) (pc' := 2) [(.iconst 0, vi 0, 1), (.istore_n 1, vi 0, 2)] (by decide +kernel) rfl rfl ?_
  exact m_putSaid_L2_ok G d hd1   (fun r h => hRET _ h) FU 0 τ
def m_putValue (rec : Int → Int → TT → Option (TT)) (a1 : Int) (a2 : Int) (τ : TT) : Option (TT) := gd (ib a1 50) (nm (tA τ 28 a1.toNat) fun x2 => gd (rg x2) (if (x2 < 16) ∨ (32 ≤ x2) then (Option.bind (m_value (m_object 12) a1 a2 1 τ) fun y7 => Option.bind (m_ownKind a1 y7.2) fun y8 => Option.bind (m_putTag a1 y8 y7.2) fun y9 => Option.bind (m_isPlain a1 y9) fun y10 => gd (rg y10) (if y10 = 0 then (Option.bind (m_putVarint (iL (tI y9 57)) y9) fun y14 => Option.bind (m_putSaid y14) fun y15 => some y15) else (Option.bind (m_putWhole a1 y9) fun y16 => some y16))) else (Option.bind (m_putTag a1 2 τ) fun y21 => nm (tI y21 6) fun x22 => Option.bind (rec (x2 - 16) a2 y21) fun y23 => Option.bind (m_putLength x22 y23) fun y24 => some y24)))
set_option maxHeartbeats 4000000 in
theorem m_putValue_ok {g : GE} (G : GG g) {D : Nat} (rec : Int → Int → TT → Option (TT)) (hrec : ∀ (d : Nat), D ≤ d → ∀ {σ : ST} (a1 : Int) (a2 : Int) (τ : TT) (Q' : VQ), Sm (V g mX4_putObject d 0 [(0, vr (some (gw g))), (1, vi a1), (2, vi a2)] [] σ τ Q') (rec a1 a2 τ) (fun r => Q'.1 none σ r)) {σ : ST} (d : Nat) (hd1 : D + 1 ≤ d) (hd2 : 47 ≤ d) (a1 : Int) (a2 : Int)  (τ : TT) (Q : VQ) : Sm (V g mX4_putValue d 0 [(0, vr (some (gw g))), (1, vi a1), (2, vi a2)] [] σ τ Q) (m_putValue rec a1 a2 τ) (fun r => Q.1 none σ r) := by
  unfold m_putValue
  refine sm_top (fun K hRET => ?_)
  refine sm_b (l' := [(0, vr (some (gw g))), (1, vi a1), (2, vi a2)]) (st' := [vr (some (gw g))]) (pc' := 1) [(.aload_n 0, vi 0, 1)] (by decide +kernel) rfl rfl ?_
  refine sm_tg (k := 28) (x := vr (some (gT g 28))) G.2.1 q1446 rfl rfl (by decide +kernel) ?_
  refine sm_b (l' := [(0, vr (some (gw g))), (1, vi a1), (2, vi a2)]) (st' := [vi a1, vr (some (gT g 28))]) (pc' := 5) [(.iload_n 1, vi 0, 5)] (by decide +kernel) rfl rfl ?_
  refine sm_gd (fun h1 => ?_)
  refine sm_ial (k := 28) G.2.1 (by decide) rfl (ibt (k := 28) h1) h1 (by decide +kernel) ?_
  refine sm_nmi (fun x2 => ?_)
  refine sm_b (l' := [(0, vr (some (gw g))), (1, vi a1), (2, vi a2), (3, vi x2)]) (st' := [vi 16, vi x2]) (pc' := 10) [(.istore_n 3, vi 0, 7), (.iload_n 3, vi 0, 8), (.bipush 16, vi 16, 10)] (by decide +kernel) rfl rfl ?_
  refine sm_gd (fun h3 => ?_)
  refine sm_case (V g mX4_putValue d 47 [(0, vr (some (gw g))), (1, vi a1), (2, vi a2), (3, vi x2)] [] σ τ Q) (V g mX4_putValue d 19 [(0, vr (some (gw g))), (1, vi a1), (2, vi a2), (3, vi x2)] [] σ τ Q) ?_ ?_ (fun f25 p26 n27 => ?_)
  · refine sm_b (l' := [(0, vr (some (gw g))), (1, vi a1), (2, vi a2), (3, vi x2)]) (st' := [vi 1, vi a2, vi a1, vr (some (gw g))]) (pc' := 51) [(.aload_n 0, vi 0, 48), (.iload_n 1, vi 0, 49), (.iload_n 2, vi 0, 50), (.iconst 1, vi 1, 51)] (by decide +kernel) rfl rfl ?_
    refine sm_cv (N := mX4_value) (d' := d - 1) (fun r => (some (vi r.1))) (fun _ => σ) (fun r => r.2) [vi a1, vi a2, vi 1] [] rfl (by decide +kernel) q1936 q1938 qs111 (Or.inl ⟨rfl, q1939⟩) (show okN yX4_value 3 = true by decide +kernel) (fun H hR => hR.rvw G.1 G.2.1) rfl rfl (by omega) rfl (fun Q' => m_value_ok G (D := 45) (m_object 12) (m_object_ok G 12) (d - 1) (by omega) (by omega) a1 a2 1 τ Q') (fun y7 => ?_)
    refine sm_b (l' := [(0, vr (some (gw g))), (1, vi a1), (2, vi a2), (3, vi x2)]) (st' := [vi a1, vr (some (gw g)), vi a1, vr (some (gw g))]) (pc' := 59) [(.pop, vi 0, 55), (.aload_n 0, vi 0, 56), (.iload_n 1, vi 0, 57), (.aload_n 0, vi 0, 58), (.iload_n 1, vi 0, 59)] (by decide +kernel) rfl rfl ?_
    refine sm_cv (N := mX4_ownKind) (d' := d - 1) (fun r => (some (vi r))) (fun _ => σ) (fun _ => y7.2) [vi a1] [vi a1, vr (some (gw g))] rfl (by decide +kernel) q1782 q1784 qs79 (Or.inl ⟨rfl, q1785⟩) (show okN yX4_ownKind 1 = true by decide +kernel) (fun H hR => hR.rvw G.1 G.2.1) rfl rfl (by omega) rfl (fun Q' => m_ownKind_ok G (d - 1) (by omega) a1 y7.2 Q') (fun y8 => ?_)
    refine sm_cv (N := mX4_putTag) (d' := d - 1) (fun r => none) (fun _ => σ) (fun r => r) [vi a1, vi y8] [] rfl (by decide +kernel) q1997 q1999 qs124 (Or.inl ⟨rfl, q2000⟩) (show okN yX4_putTag 2 = true by decide +kernel) (fun H hR => hR.rvw G.1 G.2.1) rfl rfl (by omega) rfl (fun Q' => m_putTag_ok G (d - 1) (by omega) a1 y8 y7.2 Q') (fun y9 => ?_)
    refine sm_b (l' := [(0, vr (some (gw g))), (1, vi a1), (2, vi a2), (3, vi x2)]) (st' := [vi a1, vr (some (gw g))]) (pc' := 67) [(.aload_n 0, vi 0, 66), (.iload_n 1, vi 0, 67)] (by decide +kernel) rfl rfl ?_
    refine sm_cv (N := mX4_isPlain) (d' := d - 1) (fun r => (some (vi r))) (fun _ => σ) (fun _ => y9) [vi a1] [] rfl (by decide +kernel) q1786 q1788 qs80 (Or.inl ⟨rfl, q1789⟩) (show okN yX4_isPlain 1 = true by decide +kernel) (fun H hR => hR.rvw G.1 G.2.1) rfl rfl (by omega) rfl (fun Q' => m_isPlain_ok G (d - 1) (by omega) a1 y9 Q') (fun y10 => ?_)
    refine sm_gd (fun h11 => ?_)
    refine sm_case (V g mX4_putValue d 81 [(0, vr (some (gw g))), (1, vi a1), (2, vi a2), (3, vi x2)] [] σ y9 Q) (V g mX4_putValue d 73 [(0, vr (some (gw g))), (1, vi a1), (2, vi a2), (3, vi x2)] [] σ y9 Q) ?_ ?_ (fun f17 p18 n19 => ?_)
    · refine sm_b (l' := [(0, vr (some (gw g))), (1, vi a1), (2, vi a2), (3, vi x2)]) (st' := [vr (some (gw g)), vr (some (gw g))]) (pc' := 83) [(.aload_n 0, vi 0, 82), (.aload_n 0, vi 0, 83)] (by decide +kernel) rfl rfl ?_
      refine sm_tg (k := 57) (x := vi (tI y9 57)) G.2.1 q1475 rfl rfl (by decide +kernel) ?_
      refine sm_b (l' := [(0, vr (some (gw g))), (1, vi a1), (2, vi a2), (3, vi x2)]) (st' := [vl (iL (tI y9 57)), vr (some (gw g))]) (pc' := 87) [(.i2l, vi 0, 87)] (by decide +kernel) rfl rfl ?_
      refine sm_cv (N := mX4_putVarint) (d' := d - 1) (fun r => none) (fun _ => σ) (fun r => r) [vl (iL (tI y9 57))] [] rfl (by decide +kernel) q2002 q2004 qs125 (Or.inl ⟨rfl, q2005⟩) (show okN yX4_putVarint 1 = true by decide +kernel) (fun H hR => hR.rvw G.1 G.2.1) rfl rfl (by omega) rfl (fun Q' => m_putVarint_ok G (d - 1) (by omega) (iL (tI y9 57)) y9 Q') (fun y14 => ?_)
      refine sm_b (l' := [(0, vr (some (gw g))), (1, vi a1), (2, vi a2), (3, vi x2)]) (st' := [vr (some (gw g))]) (pc' := 91) [(.aload_n 0, vi 0, 91)] (by decide +kernel) rfl rfl ?_
      refine sm_cv (N := mX4_putSaid) (d' := d - 1) (fun r => none) (fun _ => σ) (fun r => r) [] [] rfl (by decide +kernel) q2019 q2021 qs129 (Or.inl ⟨rfl, q2022⟩) (show okN yX4_putSaid 0 = true by decide +kernel) (fun H hR => hR.rvw G.1 G.2.1) rfl rfl (by omega) rfl (fun Q' => m_putSaid_ok G (d - 1) (by omega)  y14 Q') (fun y15 => ?_)
      exact sm_vret rfl (by decide +kernel) (fun h => hRET _ h)
    · refine sm_b (l' := [(0, vr (some (gw g))), (1, vi a1), (2, vi a2), (3, vi x2)]) (st' := [vi a1, vr (some (gw g))]) (pc' := 75) [(.aload_n 0, vi 0, 74), (.iload_n 1, vi 0, 75)] (by decide +kernel) rfl rfl ?_
      refine sm_cv (N := mX4_putWhole) (d' := d - 1) (fun r => none) (fun _ => σ) (fun r => r) [vi a1] [] rfl (by decide +kernel) q2007 q2009 qs126 (Or.inl ⟨rfl, q2010⟩) (show okN yX4_putWhole 1 = true by decide +kernel) (fun H hR => hR.rvw G.1 G.2.1) rfl rfl (by omega) rfl (fun Q' => m_putWhole_ok G (d - 1) (by omega) a1 y9 Q') (fun y16 => ?_)
      refine sm_b (l' := [(0, vr (some (gw g))), (1, vi a1), (2, vi a2), (3, vi x2)]) (st' := []) (pc' := 94) [(.goto 16, vi 0, 94)] (by decide +kernel) rfl rfl ?_
      exact sm_vret rfl (by decide +kernel) (fun h => hRET _ h)
    refine sm_if_eq (off := 11) (tgt := 81) h11 (by decide +kernel) (fun c20 => ?_) (fun c20 => ?_)
    · exact p18 c20
    · exact n19 c20
  · refine sm_b (l' := [(0, vr (some (gw g))), (1, vi a1), (2, vi a2), (3, vi x2)]) (st' := [vi 2, vi a1, vr (some (gw g))]) (pc' := 22) [(.aload_n 0, vi 0, 20), (.iload_n 1, vi 0, 21), (.iconst 2, vi 2, 22)] (by decide +kernel) rfl rfl ?_
    refine sm_cv (N := mX4_putTag) (d' := d - 1) (fun r => none) (fun _ => σ) (fun r => r) [vi a1, vi 2] [] rfl (by decide +kernel) q1997 q1999 qs124 (Or.inl ⟨rfl, q2000⟩) (show okN yX4_putTag 2 = true by decide +kernel) (fun H hR => hR.rvw G.1 G.2.1) rfl rfl (by omega) rfl (fun Q' => m_putTag_ok G (d - 1) (by omega) a1 2 τ Q') (fun y21 => ?_)
    refine sm_b (l' := [(0, vr (some (gw g))), (1, vi a1), (2, vi a2), (3, vi x2)]) (st' := [vr (some (gw g))]) (pc' := 26) [(.aload_n 0, vi 0, 26)] (by decide +kernel) rfl rfl ?_
    refine sm_tg (k := 6) (x := vi (tI y21 6)) G.2.1 q1424 rfl rfl (by decide +kernel) ?_
    refine sm_nmi (fun x22 => ?_)
    refine sm_b (l' := [(0, vr (some (gw g))), (1, vi a1), (2, vi a2), (3, vi x2), (4, vi x22)]) (st' := [vi a2, vi (x2 - 16), vr (some (gw g))]) (pc' := 37) [(.istore 4, vi 0, 31), (.aload_n 0, vi 0, 32), (.iload_n 3, vi 0, 33), (.bipush 16, vi 16, 35), (.isub, vi 0, 36), (.iload_n 2, vi 0, 37)] (by decide +kernel) rfl rfl ?_
    refine sm_cv (N := mX4_putObject) (d' := d - 1) (fun r => none) (fun _ => σ) (fun r => r) [vi (x2 - 16), vi a2] [] rfl (by decide +kernel) q1985 q1987 qs121 (Or.inl ⟨rfl, q1988⟩) (show okN yX4_putObject 2 = true by decide +kernel) (fun H hR => hR.rvw G.1 G.2.1) rfl rfl (by omega) rfl (fun Q' => hrec (d - 1) (by omega) (x2 - 16) a2 y21 Q') (fun y23 => ?_)
    refine sm_b (l' := [(0, vr (some (gw g))), (1, vi a1), (2, vi a2), (3, vi x2), (4, vi x22)]) (st' := [vi x22, vr (some (gw g))]) (pc' := 43) [(.aload_n 0, vi 0, 41), (.iload 4, vi 0, 43)] (by decide +kernel) rfl rfl ?_
    refine sm_cv (N := mX4_putLength) (d' := d - 1) (fun r => none) (fun _ => σ) (fun r => r) [vi x22] [] rfl (by decide +kernel) q2015 q2017 qs128 (Or.inl ⟨rfl, q2018⟩) (show okN yX4_putLength 1 = true by decide +kernel) (fun H hR => hR.rvw G.1 G.2.1) rfl rfl (by omega) rfl (fun Q' => m_putLength_ok G (d - 1) (by omega) x22 y23 Q') (fun y24 => ?_)
    exact sm_vret rfl (by decide +kernel) (fun h => hRET _ h)
  refine sm_icmp_lt (off := 37) (tgt := 47) h3 (by decide) (by decide +kernel) (fun c28 => ?_) (fun c28 => ?_)
  · exact p26 (Or.inl c28)
  · refine sm_b (l' := [(0, vr (some (gw g))), (1, vi a1), (2, vi a2), (3, vi x2)]) (st' := [vi 32, vi x2]) (pc' := 16) [(.iload_n 3, vi 0, 14), (.bipush 32, vi 32, 16)] (by decide +kernel) rfl rfl ?_
    refine sm_icmp_ge (off := 31) (tgt := 47) h3 (by decide) (by decide +kernel) (fun c29 => ?_) (fun c29 => ?_)
    · exact p26 (Or.inr c29)
    · exact n27 (fun q => q.elim c28 c29)
def m_putArray_L43 (rec : Int → Int → TT → Option (TT)) (u1 : Int) (u4 : Int) (u5 : Int) : Nat → Int → TT → Option (TT)
  | 0, _, _ => none
  | n + 1, w3, τ => Option.bind (m_look w3 τ) fun y27 => gd (rg y27) (if y27 = 93 then (some τ) else (Option.bind (m_value (m_object 12) u1 w3 1 τ) fun y30 => Option.bind (gd (rg u4) (if u4 = 0 then (Option.bind (m_putValue rec u1 w3 y30.2) fun y52 => some y52) else (Option.bind (m_putWhole u1 y30.2) fun y53 => some y53))) fun (v34 : TT) => Option.bind (m_blanks y30.1 v34) fun y38 => Option.bind (m_look y38 v34) fun y39 => Option.bind (gd (rg y39) (if y39 = 44 then (Option.bind (m_blanks (y38 + 1) v34) fun y47 => some y47) else (some y38))) fun (v43 : Int) => m_putArray_L43 rec u1 u4 u5 n v43 v34))
def m_putArray (rec : Int → Int → TT → Option (TT)) (a1 : Int) (a2 : Int) (τ : TT) : Option (TT) := Option.bind (m_blanks (a2 + 1) τ) fun y1 => Option.bind (m_look y1 τ) fun y2 => gd (rg y2) (if y2 = 93 then (some τ) else (Option.bind (m_isPlain a1 τ) fun y7 => Option.bind (gd (rg y7) (if y7 = 0 then (some τ) else (Option.bind (m_putTag a1 2 τ) fun y62 => some y62))) fun (v10 : TT) => nm (tI v10 6) fun x14 => Option.bind (m_putArray_L43 rec a1 y7 x14 FU y1 v10) fun (v15 : TT) => gd (rg y7) (if y7 = 0 then (some v15) else (Option.bind (m_putLength x14 v15) fun y21 => some y21))))
set_option maxHeartbeats 4000000 in
theorem m_putArray_L43_ok {g : GE} (G : GG g) {D : Nat} (rec : Int → Int → TT → Option (TT)) (hrec : ∀ (d : Nat), D ≤ d → ∀ {σ : ST} (a1 : Int) (a2 : Int) (τ : TT) (Q' : VQ), Sm (V g mX4_putObject d 0 [(0, vr (some (gw g))), (1, vi a1), (2, vi a2)] [] σ τ Q') (rec a1 a2 τ) (fun r => Q'.1 none σ r)) {σ : ST} {Q : VQ} (d : Nat) (hd1 : D + 2 ≤ d) (hd2 : 48 ≤ d) (u1 : Int) (u4 : Int) (u5 : Int)  {K : TT → Prop} (hE109 : ∀ v26 : TT, K (v26) → V g mX4_putArray d 109 [(0, vr (some (gw g))), (4, vi u4), (5, vi u5)] [] σ v26 Q) : ∀ (n : Nat) (w3 : Int) (τ : TT), Sm (V g mX4_putArray d 43 [(0, vr (some (gw g))), (1, vi u1), (3, vi w3), (4, vi u4), (5, vi u5)] [] σ τ Q) (m_putArray_L43 rec u1 u4 u5 n w3 τ) K := by
  intro n
  induction n with
  | zero => intro w3 τ; exact sm_none
  | succ n ih =>
    intro w3 τ
    rw [m_putArray_L43.eq_2]
    refine sm_b (l' := [(0, vr (some (gw g))), (1, vi u1), (3, vi w3), (4, vi u4), (5, vi u5)]) (st' := [vi w3, vr (some (gw g))]) (pc' := 45) [(.aload_n 0, vi 0, 44), (.iload_n 3, vi 0, 45)] (by decide +kernel) rfl rfl ?_
    refine sm_cv (N := mX4_look) (d' := d - 1) (fun r => (some (vi r))) (fun _ => σ) (fun _ => τ) [vi w3] [] rfl (by decide +kernel) q1902 q1904 qs103 (Or.inl ⟨rfl, q1905⟩) (show okN yX4_look 1 = true by decide +kernel) (fun H hR => hR.rvw G.1 G.2.1) rfl rfl (by omega) rfl (fun Q' => m_look_ok G (d - 1) (by omega) w3 τ Q') (fun y27 => ?_)
    refine sm_b (l' := [(0, vr (some (gw g))), (1, vi u1), (3, vi w3), (4, vi u4), (5, vi u5)]) (st' := [vi 93, vi y27]) (pc' := 50) [(.bipush 93, vi 93, 50)] (by decide +kernel) rfl rfl ?_
    refine sm_gd (fun h28 => ?_)
    refine sm_case (V g mX4_putArray d 109 [(0, vr (some (gw g))), (1, vi u1), (3, vi w3), (4, vi u4), (5, vi u5)] [] σ τ Q) (V g mX4_putArray d 53 [(0, vr (some (gw g))), (1, vi u1), (3, vi w3), (4, vi u4), (5, vi u5)] [] σ τ Q) ?_ ?_ (fun f58 p59 n60 => ?_)
    · refine sm_pick [0, 3, 4] (l' := [(0, vr (some (gw g))), (4, vi u4), (5, vi u5)]) rfl ?_
      exact sm_leaf (fun h => hE109 _ h)
    · refine sm_b (l' := [(0, vr (some (gw g))), (1, vi u1), (3, vi w3), (4, vi u4), (5, vi u5)]) (st' := [vi 1, vi w3, vi u1, vr (some (gw g))]) (pc' := 57) [(.aload_n 0, vi 0, 54), (.iload_n 1, vi 0, 55), (.iload_n 3, vi 0, 56), (.iconst 1, vi 1, 57)] (by decide +kernel) rfl rfl ?_
      refine sm_cv (N := mX4_value) (d' := d - 1) (fun r => (some (vi r.1))) (fun _ => σ) (fun r => r.2) [vi u1, vi w3, vi 1] [] rfl (by decide +kernel) q1936 q1938 qs111 (Or.inl ⟨rfl, q1939⟩) (show okN yX4_value 3 = true by decide +kernel) (fun H hR => hR.rvw G.1 G.2.1) rfl rfl (by omega) rfl (fun Q' => m_value_ok G (D := 45) (m_object 12) (m_object_ok G 12) (d - 1) (by omega) (by omega) u1 w3 1 τ Q') (fun y30 => ?_)
      refine sm_b (l' := [(0, vr (some (gw g))), (1, vi u1), (3, vi w3), (4, vi u4), (5, vi u5), (6, vi y30.1)]) (st' := [vi u4]) (pc' := 64) [(.istore 6, vi 0, 62), (.iload 4, vi 0, 64)] (by decide +kernel) rfl rfl ?_
      refine sm_bind1 (fun (v34 : TT) => V g mX4_putArray d 81 [(0, vr (some (gw g))), (1, vi u1), (4, vi u4), (5, vi u5), (6, vi y30.1)] [] σ v34 Q) (fun v34 => ?_) (fun K35 j36 => ?_)
      · refine sm_b (l' := [(0, vr (some (gw g))), (1, vi u1), (4, vi u4), (5, vi u5), (6, vi y30.1)]) (st' := [vi y30.1, vr (some (gw g))]) (pc' := 84) [(.aload_n 0, vi 0, 82), (.iload 6, vi 0, 84)] (by decide +kernel) rfl rfl ?_
        refine sm_cv (N := mX4_blanks) (d' := d - 1) (fun r => (some (vi r))) (fun _ => σ) (fun _ => v34) [vi y30.1] [] rfl (by decide +kernel) q1894 q1896 qs101 (Or.inl ⟨rfl, q1897⟩) (show okN yX4_blanks 1 = true by decide +kernel) (fun H hR => hR.rvw G.1 G.2.1) rfl rfl (by omega) rfl (fun Q' => m_blanks_ok G (d - 1) (by omega) y30.1 v34 Q') (fun y38 => ?_)
        refine sm_b (l' := [(0, vr (some (gw g))), (1, vi u1), (4, vi u4), (5, vi u5), (6, vi y30.1), (3, vi y38)]) (st' := [vi y38, vr (some (gw g))]) (pc' := 90) [(.istore_n 3, vi 0, 88), (.aload_n 0, vi 0, 89), (.iload_n 3, vi 0, 90)] (by decide +kernel) rfl rfl ?_
        refine sm_cv (N := mX4_look) (d' := d - 1) (fun r => (some (vi r))) (fun _ => σ) (fun _ => v34) [vi y38] [] rfl (by decide +kernel) q1902 q1904 qs103 (Or.inl ⟨rfl, q1905⟩) (show okN yX4_look 1 = true by decide +kernel) (fun H hR => hR.rvw G.1 G.2.1) rfl rfl (by omega) rfl (fun Q' => m_look_ok G (d - 1) (by omega) y38 v34 Q') (fun y39 => ?_)
        refine sm_b (l' := [(0, vr (some (gw g))), (1, vi u1), (4, vi u4), (5, vi u5), (6, vi y30.1), (3, vi y38)]) (st' := [vi 44, vi y39]) (pc' := 95) [(.bipush 44, vi 44, 95)] (by decide +kernel) rfl rfl ?_
        refine sm_bind1 (fun (v43 : Int) => V g mX4_putArray d 106 [(0, vr (some (gw g))), (1, vi u1), (3, vi v43), (4, vi u4), (5, vi u5)] [] σ v34 Q) (fun v43 => ?_) (fun K44 j45 => ?_)
        · refine sm_b (l' := [(0, vr (some (gw g))), (1, vi u1), (3, vi v43), (4, vi u4), (5, vi u5)]) (st' := []) (pc' := 43) [(.goto (-63), vi 0, 43)] (by decide +kernel) rfl rfl ?_
          exact ih v43 v34
        · refine sm_gd (fun h40 => ?_)
          refine sm_case (V g mX4_putArray d 98 [(0, vr (some (gw g))), (1, vi u1), (4, vi u4), (5, vi u5), (6, vi y30.1), (3, vi y38)] [] σ v34 Q) (V g mX4_putArray d 106 [(0, vr (some (gw g))), (1, vi u1), (4, vi u4), (5, vi u5), (6, vi y30.1), (3, vi y38)] [] σ v34 Q) ?_ ?_ (fun f48 p49 n50 => ?_)
          · refine sm_b (l' := [(0, vr (some (gw g))), (1, vi u1), (4, vi u4), (5, vi u5), (6, vi y30.1), (3, vi y38)]) (st' := [vi (y38 + 1), vr (some (gw g))]) (pc' := 102) [(.aload_n 0, vi 0, 99), (.iload_n 3, vi 0, 100), (.iconst 1, vi 1, 101), (.iadd, vi 0, 102)] (by decide +kernel) rfl rfl ?_
            refine sm_cv (N := mX4_blanks) (d' := d - 1) (fun r => (some (vi r))) (fun _ => σ) (fun _ => v34) [vi (y38 + 1)] [] rfl (by decide +kernel) q1894 q1896 qs101 (Or.inl ⟨rfl, q1897⟩) (show okN yX4_blanks 1 = true by decide +kernel) (fun H hR => hR.rvw G.1 G.2.1) rfl rfl (by omega) rfl (fun Q' => m_blanks_ok G (d - 1) (by omega) (y38 + 1) v34 Q') (fun y47 => ?_)
            refine sm_b (l' := [(0, vr (some (gw g))), (1, vi u1), (4, vi u4), (5, vi u5), (6, vi y30.1), (3, vi y47)]) (st' := []) (pc' := 106) [(.istore_n 3, vi 0, 106)] (by decide +kernel) rfl rfl ?_
            refine sm_pick [0, 1, 5, 2, 3] (l' := [(0, vr (some (gw g))), (1, vi u1), (3, vi y47), (4, vi u4), (5, vi u5)]) rfl ?_
            exact sm_leaf (fun h => j45 _ h)
          · refine sm_pick [0, 1, 5, 2, 3] (l' := [(0, vr (some (gw g))), (1, vi u1), (3, vi y38), (4, vi u4), (5, vi u5)]) rfl ?_
            exact sm_leaf (fun h => j45 _ h)
          refine sm_icmp_ne (off := 11) (tgt := 106) h40 (by decide) (by decide +kernel) (fun c51 => ?_) (fun c51 => ?_)
          · exact n50 c51
          · exact p49 c51
      · refine sm_gd (fun h31 => ?_)
        refine sm_case (V g mX4_putArray d 75 [(0, vr (some (gw g))), (1, vi u1), (3, vi w3), (4, vi u4), (5, vi u5), (6, vi y30.1)] [] σ y30.2 Q) (V g mX4_putArray d 67 [(0, vr (some (gw g))), (1, vi u1), (3, vi w3), (4, vi u4), (5, vi u5), (6, vi y30.1)] [] σ y30.2 Q) ?_ ?_ (fun f54 p55 n56 => ?_)
        · refine sm_b (l' := [(0, vr (some (gw g))), (1, vi u1), (3, vi w3), (4, vi u4), (5, vi u5), (6, vi y30.1)]) (st' := [vi w3, vi u1, vr (some (gw g))]) (pc' := 78) [(.aload_n 0, vi 0, 76), (.iload_n 1, vi 0, 77), (.iload_n 3, vi 0, 78)] (by decide +kernel) rfl rfl ?_
          refine sm_cv (N := mX4_putValue) (d' := d - 1) (fun r => none) (fun _ => σ) (fun r => r) [vi u1, vi w3] [] rfl (by decide +kernel) q2011 q2013 qs127 (Or.inl ⟨rfl, q2014⟩) (show okN yX4_putValue 2 = true by decide +kernel) (fun H hR => hR.rvw G.1 G.2.1) rfl rfl (by omega) rfl (fun Q' => m_putValue_ok G (D := D) rec hrec (d - 1) (by omega) (by omega) u1 w3 y30.2 Q') (fun y52 => ?_)
          refine sm_pick [0, 1, 3, 4, 5] (l' := [(0, vr (some (gw g))), (1, vi u1), (4, vi u4), (5, vi u5), (6, vi y30.1)]) rfl ?_
          exact sm_leaf (fun h => j36 _ h)
        · refine sm_b (l' := [(0, vr (some (gw g))), (1, vi u1), (3, vi w3), (4, vi u4), (5, vi u5), (6, vi y30.1)]) (st' := [vi u1, vr (some (gw g))]) (pc' := 69) [(.aload_n 0, vi 0, 68), (.iload_n 1, vi 0, 69)] (by decide +kernel) rfl rfl ?_
          refine sm_cv (N := mX4_putWhole) (d' := d - 1) (fun r => none) (fun _ => σ) (fun r => r) [vi u1] [] rfl (by decide +kernel) q2007 q2009 qs126 (Or.inl ⟨rfl, q2010⟩) (show okN yX4_putWhole 1 = true by decide +kernel) (fun H hR => hR.rvw G.1 G.2.1) rfl rfl (by omega) rfl (fun Q' => m_putWhole_ok G (d - 1) (by omega) u1 y30.2 Q') (fun y53 => ?_)
          refine sm_b (l' := [(0, vr (some (gw g))), (1, vi u1), (3, vi w3), (4, vi u4), (5, vi u5), (6, vi y30.1)]) (st' := []) (pc' := 81) [(.goto 9, vi 0, 81)] (by decide +kernel) rfl rfl ?_
          refine sm_pick [0, 1, 3, 4, 5] (l' := [(0, vr (some (gw g))), (1, vi u1), (4, vi u4), (5, vi u5), (6, vi y30.1)]) rfl ?_
          exact sm_leaf (fun h => j36 _ h)
        refine sm_if_eq (off := 11) (tgt := 75) h31 (by decide +kernel) (fun c57 => ?_) (fun c57 => ?_)
        · exact p55 c57
        · exact n56 c57
    refine sm_icmp_eq (off := 59) (tgt := 109) h28 (by decide) (by decide +kernel) (fun c61 => ?_) (fun c61 => ?_)
    · exact p59 c61
    · exact n60 c61
set_option maxHeartbeats 4000000 in
theorem m_putArray_ok {g : GE} (G : GG g) {D : Nat} (rec : Int → Int → TT → Option (TT)) (hrec : ∀ (d : Nat), D ≤ d → ∀ {σ : ST} (a1 : Int) (a2 : Int) (τ : TT) (Q' : VQ), Sm (V g mX4_putObject d 0 [(0, vr (some (gw g))), (1, vi a1), (2, vi a2)] [] σ τ Q') (rec a1 a2 τ) (fun r => Q'.1 none σ r)) {σ : ST} (d : Nat) (hd1 : D + 2 ≤ d) (hd2 : 48 ≤ d) (a1 : Int) (a2 : Int)  (τ : TT) (Q : VQ) : Sm (V g mX4_putArray d 0 [(0, vr (some (gw g))), (1, vi a1), (2, vi a2)] [] σ τ Q) (m_putArray rec a1 a2 τ) (fun r => Q.1 none σ r) := by
  unfold m_putArray
  refine sm_top (fun K hRET => ?_)
  refine sm_b (l' := [(0, vr (some (gw g))), (1, vi a1), (2, vi a2)]) (st' := [vi (a2 + 1), vr (some (gw g))]) (pc' := 4) [(.aload_n 0, vi 0, 1), (.iload_n 2, vi 0, 2), (.iconst 1, vi 1, 3), (.iadd, vi 0, 4)] (by decide +kernel) rfl rfl ?_
  refine sm_cv (N := mX4_blanks) (d' := d - 1) (fun r => (some (vi r))) (fun _ => σ) (fun _ => τ) [vi (a2 + 1)] [] rfl (by decide +kernel) q1894 q1896 qs101 (Or.inl ⟨rfl, q1897⟩) (show okN yX4_blanks 1 = true by decide +kernel) (fun H hR => hR.rvw G.1 G.2.1) rfl rfl (by omega) rfl (fun Q' => m_blanks_ok G (d - 1) (by omega) (a2 + 1) τ Q') (fun y1 => ?_)
  refine sm_b (l' := [(0, vr (some (gw g))), (1, vi a1), (2, vi a2), (3, vi y1)]) (st' := [vi y1, vr (some (gw g))]) (pc' := 10) [(.istore_n 3, vi 0, 8), (.aload_n 0, vi 0, 9), (.iload_n 3, vi 0, 10)] (by decide +kernel) rfl rfl ?_
  refine sm_cv (N := mX4_look) (d' := d - 1) (fun r => (some (vi r))) (fun _ => σ) (fun _ => τ) [vi y1] [] rfl (by decide +kernel) q1902 q1904 qs103 (Or.inl ⟨rfl, q1905⟩) (show okN yX4_look 1 = true by decide +kernel) (fun H hR => hR.rvw G.1 G.2.1) rfl rfl (by omega) rfl (fun Q' => m_look_ok G (d - 1) (by omega) y1 τ Q') (fun y2 => ?_)
  refine sm_b (l' := [(0, vr (some (gw g))), (1, vi a1), (2, vi a2), (3, vi y1)]) (st' := [vi 93, vi y2]) (pc' := 15) [(.bipush 93, vi 93, 15)] (by decide +kernel) rfl rfl ?_
  refine sm_gd (fun h3 => ?_)
  refine sm_case (V g mX4_putArray d 18 [(0, vr (some (gw g))), (1, vi a1), (2, vi a2), (3, vi y1)] [] σ τ Q) (V g mX4_putArray d 19 [(0, vr (some (gw g))), (1, vi a1), (2, vi a2), (3, vi y1)] [] σ τ Q) ?_ ?_ (fun f67 p68 n69 => ?_)
  · exact sm_vret rfl (by decide +kernel) (fun h => hRET _ h)
  · refine sm_b (l' := [(0, vr (some (gw g))), (1, vi a1), (2, vi a2), (3, vi y1)]) (st' := [vi a1, vr (some (gw g))]) (pc' := 21) [(.aload_n 0, vi 0, 20), (.iload_n 1, vi 0, 21)] (by decide +kernel) rfl rfl ?_
    refine sm_cv (N := mX4_isPlain) (d' := d - 1) (fun r => (some (vi r))) (fun _ => σ) (fun _ => τ) [vi a1] [] rfl (by decide +kernel) q1786 q1788 qs80 (Or.inl ⟨rfl, q1789⟩) (show okN yX4_isPlain 1 = true by decide +kernel) (fun H hR => hR.rvw G.1 G.2.1) rfl rfl (by omega) rfl (fun Q' => m_isPlain_ok G (d - 1) (by omega) a1 τ Q') (fun y7 => ?_)
    refine sm_b (l' := [(0, vr (some (gw g))), (1, vi a1), (2, vi a2), (3, vi y1), (4, vi y7)]) (st' := [vi y7]) (pc' := 28) [(.istore 4, vi 0, 26), (.iload 4, vi 0, 28)] (by decide +kernel) rfl rfl ?_
    refine sm_bind1 (fun (v10 : TT) => V g mX4_putArray d 37 [(0, vr (some (gw g))), (1, vi a1), (3, vi y1), (4, vi y7)] [] σ v10 Q) (fun v10 => ?_) (fun K11 j12 => ?_)
    · refine sm_b (l' := [(0, vr (some (gw g))), (1, vi a1), (3, vi y1), (4, vi y7)]) (st' := [vr (some (gw g))]) (pc' := 38) [(.aload_n 0, vi 0, 38)] (by decide +kernel) rfl rfl ?_
      refine sm_tg (k := 6) (x := vi (tI v10 6)) G.2.1 q1424 rfl rfl (by decide +kernel) ?_
      refine sm_nmi (fun x14 => ?_)
      refine sm_b (l' := [(0, vr (some (gw g))), (1, vi a1), (3, vi y1), (4, vi y7), (5, vi x14)]) (st' := []) (pc' := 43) [(.istore 5, vi 0, 43)] (by decide +kernel) rfl rfl ?_
      refine sm_bind1 (fun (v15 : TT) => V g mX4_putArray d 109 [(0, vr (some (gw g))), (4, vi y7), (5, vi x14)] [] σ v15 Q) (fun v15 => ?_) (fun K16 j17 => ?_)
      · refine sm_b (l' := [(0, vr (some (gw g))), (4, vi y7), (5, vi x14)]) (st' := [vi y7]) (pc' := 111) [(.iload 4, vi 0, 111)] (by decide +kernel) rfl rfl ?_
        refine sm_gd (fun h19 => ?_)
        refine sm_case (V g mX4_putArray d 120 [(0, vr (some (gw g))), (4, vi y7), (5, vi x14)] [] σ v15 Q) (V g mX4_putArray d 114 [(0, vr (some (gw g))), (4, vi y7), (5, vi x14)] [] σ v15 Q) ?_ ?_ (fun f22 p23 n24 => ?_)
        · exact sm_vret rfl (by decide +kernel) (fun h => hRET _ h)
        · refine sm_b (l' := [(0, vr (some (gw g))), (4, vi y7), (5, vi x14)]) (st' := [vi x14, vr (some (gw g))]) (pc' := 117) [(.aload_n 0, vi 0, 115), (.iload 5, vi 0, 117)] (by decide +kernel) rfl rfl ?_
          refine sm_cv (N := mX4_putLength) (d' := d - 1) (fun r => none) (fun _ => σ) (fun r => r) [vi x14] [] rfl (by decide +kernel) q2015 q2017 qs128 (Or.inl ⟨rfl, q2018⟩) (show okN yX4_putLength 1 = true by decide +kernel) (fun H hR => hR.rvw G.1 G.2.1) rfl rfl (by omega) rfl (fun Q' => m_putLength_ok G (d - 1) (by omega) x14 v15 Q') (fun y21 => ?_)
          exact sm_vret rfl (by decide +kernel) (fun h => hRET _ h)
        refine sm_if_eq (off := 9) (tgt := 120) h19 (by decide +kernel) (fun c25 => ?_) (fun c25 => ?_)
        · exact p23 c25
        · exact n24 c25
      · exact m_putArray_L43_ok G rec hrec d hd1 hd2 a1 y7 x14  (fun _ h => j17 _ h) FU y1 v10
    · refine sm_gd (fun h8 => ?_)
      refine sm_case (V g mX4_putArray d 37 [(0, vr (some (gw g))), (1, vi a1), (2, vi a2), (3, vi y1), (4, vi y7)] [] σ τ Q) (V g mX4_putArray d 31 [(0, vr (some (gw g))), (1, vi a1), (2, vi a2), (3, vi y1), (4, vi y7)] [] σ τ Q) ?_ ?_ (fun f63 p64 n65 => ?_)
      · refine sm_pick [0, 1, 3, 4] (l' := [(0, vr (some (gw g))), (1, vi a1), (3, vi y1), (4, vi y7)]) rfl ?_
        exact sm_leaf (fun h => j12 _ h)
      · refine sm_b (l' := [(0, vr (some (gw g))), (1, vi a1), (2, vi a2), (3, vi y1), (4, vi y7)]) (st' := [vi 2, vi a1, vr (some (gw g))]) (pc' := 34) [(.aload_n 0, vi 0, 32), (.iload_n 1, vi 0, 33), (.iconst 2, vi 2, 34)] (by decide +kernel) rfl rfl ?_
        refine sm_cv (N := mX4_putTag) (d' := d - 1) (fun r => none) (fun _ => σ) (fun r => r) [vi a1, vi 2] [] rfl (by decide +kernel) q1997 q1999 qs124 (Or.inl ⟨rfl, q2000⟩) (show okN yX4_putTag 2 = true by decide +kernel) (fun H hR => hR.rvw G.1 G.2.1) rfl rfl (by omega) rfl (fun Q' => m_putTag_ok G (d - 1) (by omega) a1 2 τ Q') (fun y62 => ?_)
        refine sm_pick [0, 1, 3, 4] (l' := [(0, vr (some (gw g))), (1, vi a1), (3, vi y1), (4, vi y7)]) rfl ?_
        exact sm_leaf (fun h => j12 _ h)
      refine sm_if_eq (off := 9) (tgt := 37) h8 (by decide +kernel) (fun c66 => ?_) (fun c66 => ?_)
      · exact p64 c66
      · exact n65 c66
  refine sm_icmp_ne (off := 4) (tgt := 19) h3 (by decide) (by decide +kernel) (fun c70 => ?_) (fun c70 => ?_)
  · exact n69 c70
  · exact p68 c70
def m_putObject_L7 (rec : Int → Int → TT → Option (TT)) (u1 : Int) (u2 : Int) : Nat → Int → TT → Option (TT)
  | 0, _, _ => none
  | n + 1, w3, τ => gd (rg w3) (if w3 = ((-1)) then (some τ) else (Option.bind (m_member w3 u1 u2 τ) fun y5 => Option.bind (gd (rg y5.1) (if y5.1 = ((-1)) then (some y5.2) else (gd (ib w3 50) (gd (rg (tA y5.2 29 w3.toNat)) (if (tA y5.2 29 w3.toNat) = 0 then (Option.bind (gd (rg (tA y5.2 30 w3.toNat)) (gd ((tA y5.2 30 w3.toNat) = 0 → rg (tA y5.2 27 w3.toNat)) (if ((tA y5.2 30 w3.toNat) = 0) ∧ ((tA y5.2 27 w3.toNat) = ((-1))) then (gd (rg (tA y5.2 28 w3.toNat)) (if ((tA y5.2 28 w3.toNat) < 16) ∨ (32 ≤ (tA y5.2 28 w3.toNat)) then (some 0) else (some 1))) else (some 1)))) fun (v27 : Int) => Option.bind (gd (rg v27) (if v27 = 0 then (Option.bind (m_value (m_object 12) w3 y5.1 1 y5.2) fun y38 => Option.bind (m_isPlain w3 y38.2) fun y39 => gd (rg y39) (if y39 = 0 then (gd (rg (tI y38.2 57)) (if (tI y38.2 57) = 0 then (some (Sum.inl y38.2)) else (some (Sum.inr y38.2)))) else (if (tJ y38.2 59) = 0 then (some (Sum.inl y38.2)) else (some (Sum.inr y38.2))))) else (some (Sum.inr y5.2)))) (Sum.elim some fun (v33 : TT) => Option.bind (m_putValue rec w3 y5.1 v33) fun y37 => some y37)) else (Option.bind (m_putArray rec w3 y5.1 y5.2) fun y76 => some y76)))))) fun (v11 : TT) => gd (ib w3 50) (Option.bind (m_after u1 (tA v11 24 w3.toNat) v11) fun y16 => m_putObject_L7 rec u1 u2 n y16 v11)))
def m_putObjectb (rec : Int → Int → TT → Option (TT)) (a1 : Int) (a2 : Int) (τ : TT) : Option (TT) := Option.bind (m_after a1 0 τ) fun y1 => m_putObject_L7 rec a1 a2 FU y1 τ
set_option maxHeartbeats 4000000 in
theorem m_putObject_L7_ok {g : GE} (G : GG g) {D : Nat} (rec : Int → Int → TT → Option (TT)) (hrec : ∀ (d : Nat), D ≤ d → ∀ {σ : ST} (a1 : Int) (a2 : Int) (τ : TT) (Q' : VQ), Sm (V g mX4_putObject d 0 [(0, vr (some (gw g))), (1, vi a1), (2, vi a2)] [] σ τ Q') (rec a1 a2 τ) (fun r => Q'.1 none σ r)) {σ : ST} {Q : VQ} (d : Nat) (hd1 : D + 3 ≤ d) (hd2 : 49 ≤ d) (u1 : Int) (u2 : Int)  {K : TT → Prop} (hRET : ∀ r : TT, K (r) → Q.1 none σ r) : ∀ (n : Nat) (w3 : Int) (τ : TT), Sm (V g mX4_putObject d 7 [(0, vr (some (gw g))), (1, vi u1), (2, vi u2), (3, vi w3)] [] σ τ Q) (m_putObject_L7 rec u1 u2 n w3 τ) K := by
  intro n
  induction n with
  | zero => intro w3 τ; exact sm_none
  | succ n ih =>
    intro w3 τ
    rw [m_putObject_L7.eq_2]
    refine sm_b (l' := [(0, vr (some (gw g))), (1, vi u1), (2, vi u2), (3, vi w3)]) (st' := [vi ((-1)), vi w3]) (pc' := 9) [(.iload_n 3, vi 0, 8), (.iconst (-1), vi (-1), 9)] (by decide +kernel) rfl rfl ?_
    refine sm_gd (fun h2 => ?_)
    refine sm_case (V g mX4_putObject d 163 [(0, vr (some (gw g))), (1, vi u1), (2, vi u2), (3, vi w3)] [] σ τ Q) (V g mX4_putObject d 12 [(0, vr (some (gw g))), (1, vi u1), (2, vi u2), (3, vi w3)] [] σ τ Q) ?_ ?_ (fun f85 p86 n87 => ?_)
    · exact sm_vret rfl (by decide +kernel) (fun h => hRET _ h)
    · refine sm_b (l' := [(0, vr (some (gw g))), (1, vi u1), (2, vi u2), (3, vi w3)]) (st' := [vi u2, vi u1, vi w3, vr (some (gw g))]) (pc' := 16) [(.aload_n 0, vi 0, 13), (.iload_n 3, vi 0, 14), (.iload_n 1, vi 0, 15), (.iload_n 2, vi 0, 16)] (by decide +kernel) rfl rfl ?_
      refine sm_cv (N := mX4_member) (d' := d - 1) (fun r => (some (vi r.1))) (fun _ => σ) (fun r => r.2) [vi w3, vi u1, vi u2] [] rfl (by decide +kernel) q1989 q1991 qs122 (Or.inl ⟨rfl, q1992⟩) (show okN yX4_member 3 = true by decide +kernel) (fun H hR => hR.rvw G.1 G.2.1) rfl rfl (by omega) rfl (fun Q' => m_member_ok G (d - 1) (by omega) w3 u1 u2 τ Q') (fun y5 => ?_)
      refine sm_b (l' := [(0, vr (some (gw g))), (1, vi u1), (2, vi u2), (3, vi w3), (4, vi y5.1)]) (st' := [vi ((-1)), vi y5.1]) (pc' := 24) [(.istore 4, vi 0, 21), (.iload 4, vi 0, 23), (.iconst (-1), vi (-1), 24)] (by decide +kernel) rfl rfl ?_
      refine sm_bind1 (fun (v11 : TT) => V g mX4_putObject d 148 [(0, vr (some (gw g))), (1, vi u1), (2, vi u2), (3, vi w3)] [] σ v11 Q) (fun v11 => ?_) (fun K12 j13 => ?_)
      · refine sm_b (l' := [(0, vr (some (gw g))), (1, vi u1), (2, vi u2), (3, vi w3)]) (st' := [vr (some (gw g)), vi u1, vr (some (gw g))]) (pc' := 151) [(.aload_n 0, vi 0, 149), (.iload_n 1, vi 0, 150), (.aload_n 0, vi 0, 151)] (by decide +kernel) rfl rfl ?_
        refine sm_tg (k := 24) (x := vr (some (gT g 24))) G.2.1 q1442 rfl rfl (by decide +kernel) ?_
        refine sm_b (l' := [(0, vr (some (gw g))), (1, vi u1), (2, vi u2), (3, vi w3)]) (st' := [vi w3, vr (some (gT g 24)), vi u1, vr (some (gw g))]) (pc' := 155) [(.iload_n 3, vi 0, 155)] (by decide +kernel) rfl rfl ?_
        refine sm_gd (fun h15 => ?_)
        refine sm_ial (k := 24) G.2.1 (by decide) rfl (ibt (k := 24) h15) h15 (by decide +kernel) ?_
        refine sm_cv (N := mX4_after) (d' := d - 1) (fun r => (some (vi r))) (fun _ => σ) (fun _ => v11) [vi u1, vi (tA v11 24 w3.toNat)] [] rfl (by decide +kernel) q1821 q1823 qs87 (Or.inl ⟨rfl, q1824⟩) (show okN yX4_after 2 = true by decide +kernel) (fun H hR => hR.rvw G.1 G.2.1) rfl rfl (by omega) rfl (fun Q' => m_after_ok G (d - 1) (by omega) u1 (tA v11 24 w3.toNat) v11 Q') (fun y16 => ?_)
        refine sm_b (l' := [(0, vr (some (gw g))), (1, vi u1), (2, vi u2), (3, vi y16)]) (st' := []) (pc' := 7) [(.istore_n 3, vi 0, 160), (.goto (-153), vi 0, 7)] (by decide +kernel) rfl rfl ?_
        exact ih y16 v11
      · refine sm_gd (fun h6 => ?_)
        refine sm_case (V g mX4_putObject d 27 [(0, vr (some (gw g))), (1, vi u1), (2, vi u2), (3, vi w3), (4, vi y5.1)] [] σ y5.2 Q) (V g mX4_putObject d 30 [(0, vr (some (gw g))), (1, vi u1), (2, vi u2), (3, vi w3), (4, vi y5.1)] [] σ y5.2 Q) ?_ ?_ (fun f81 p82 n83 => ?_)
        · refine sm_b (l' := [(0, vr (some (gw g))), (1, vi u1), (2, vi u2), (3, vi w3), (4, vi y5.1)]) (st' := []) (pc' := 148) [(.goto 121, vi 0, 148)] (by decide +kernel) rfl rfl ?_
          refine sm_pick [0, 1, 2, 3] (l' := [(0, vr (some (gw g))), (1, vi u1), (2, vi u2), (3, vi w3)]) rfl ?_
          exact sm_leaf (fun h => j13 _ h)
        · refine sm_b (l' := [(0, vr (some (gw g))), (1, vi u1), (2, vi u2), (3, vi w3), (4, vi y5.1)]) (st' := [vr (some (gw g))]) (pc' := 31) [(.aload_n 0, vi 0, 31)] (by decide +kernel) rfl rfl ?_
          refine sm_tg (k := 29) (x := vr (some (gT g 29))) G.2.1 q1447 rfl rfl (by decide +kernel) ?_
          refine sm_b (l' := [(0, vr (some (gw g))), (1, vi u1), (2, vi u2), (3, vi w3), (4, vi y5.1)]) (st' := [vi w3, vr (some (gT g 29))]) (pc' := 35) [(.iload_n 3, vi 0, 35)] (by decide +kernel) rfl rfl ?_
          refine sm_gd (fun h17 => ?_)
          refine sm_zal (k := 29) G.2.1 (by decide) rfl (ibt (k := 29) h17) h17 (by decide +kernel) ?_
          refine sm_gd (fun h18 => ?_)
          refine sm_case (V g mX4_putObject d 49 [(0, vr (some (gw g))), (1, vi u1), (2, vi u2), (3, vi w3), (4, vi y5.1)] [] σ y5.2 Q) (V g mX4_putObject d 39 [(0, vr (some (gw g))), (1, vi u1), (2, vi u2), (3, vi w3), (4, vi y5.1)] [] σ y5.2 Q) ?_ ?_ (fun f77 p78 n79 => ?_)
          · refine sm_b (l' := [(0, vr (some (gw g))), (1, vi u1), (2, vi u2), (3, vi w3), (4, vi y5.1)]) (st' := [vr (some (gw g))]) (pc' := 50) [(.aload_n 0, vi 0, 50)] (by decide +kernel) rfl rfl ?_
            refine sm_tg (k := 30) (x := vr (some (gT g 30))) G.2.1 q1448 rfl rfl (by decide +kernel) ?_
            refine sm_b (l' := [(0, vr (some (gw g))), (1, vi u1), (2, vi u2), (3, vi w3), (4, vi y5.1)]) (st' := [vi w3, vr (some (gT g 30))]) (pc' := 54) [(.iload_n 3, vi 0, 54)] (by decide +kernel) rfl rfl ?_
            refine sm_zal (k := 30) G.2.1 (by decide) rfl (ibt (k := 30) h17) h17 (by decide +kernel) ?_
            refine sm_bind1 (fun (v27 : Int) => V g mX4_putObject d 95 [(0, vr (some (gw g))), (1, vi u1), (2, vi u2), (3, vi w3), (4, vi y5.1)] [vi v27] σ y5.2 Q) (fun v27 => ?_) (fun K28 j29 => ?_)
            · refine sm_b (l' := [(0, vr (some (gw g))), (1, vi u1), (2, vi u2), (3, vi w3), (4, vi y5.1), (5, vi v27)]) (st' := [vi v27]) (pc' := 99) [(.istore 5, vi 0, 97), (.iload 5, vi 0, 99)] (by decide +kernel) rfl rfl ?_
              refine sm_bindS (fun (v33 : TT) => V g mX4_putObject d 141 [(0, vr (some (gw g))), (1, vi u1), (2, vi u2), (3, vi w3), (4, vi y5.1)] [] σ v33 Q) (fun v33 => ?_) (fun K34 o36 j35 => ?_)
              · refine sm_b (l' := [(0, vr (some (gw g))), (1, vi u1), (2, vi u2), (3, vi w3), (4, vi y5.1)]) (st' := [vi y5.1, vi w3, vr (some (gw g))]) (pc' := 145) [(.aload_n 0, vi 0, 142), (.iload_n 3, vi 0, 143), (.iload 4, vi 0, 145)] (by decide +kernel) rfl rfl ?_
                refine sm_cv (N := mX4_putValue) (d' := d - 1) (fun r => none) (fun _ => σ) (fun r => r) [vi w3, vi y5.1] [] rfl (by decide +kernel) q2011 q2013 qs127 (Or.inl ⟨rfl, q2014⟩) (show okN yX4_putValue 2 = true by decide +kernel) (fun H hR => hR.rvw G.1 G.2.1) rfl rfl (by omega) rfl (fun Q' => m_putValue_ok G (D := D) rec hrec (d - 1) (by omega) (by omega) w3 y5.1 v33 Q') (fun y37 => ?_)
                refine sm_pick [0, 1, 2, 3] (l' := [(0, vr (some (gw g))), (1, vi u1), (2, vi u2), (3, vi w3)]) rfl ?_
                exact sm_leaf (fun h => j13 _ h)
              · refine sm_gd (fun h31 => ?_)
                refine sm_case (V g mX4_putObject d 102 [(0, vr (some (gw g))), (1, vi u1), (2, vi u2), (3, vi w3), (4, vi y5.1), (5, vi v27)] [] σ y5.2 Q) (V g mX4_putObject d 141 [(0, vr (some (gw g))), (1, vi u1), (2, vi u2), (3, vi w3), (4, vi y5.1), (5, vi v27)] [] σ y5.2 Q) ?_ ?_ (fun f59 p60 n61 => ?_)
                · refine sm_b (l' := [(0, vr (some (gw g))), (1, vi u1), (2, vi u2), (3, vi w3), (4, vi y5.1), (5, vi v27)]) (st' := [vi 1, vi y5.1, vi w3, vr (some (gw g))]) (pc' := 107) [(.aload_n 0, vi 0, 103), (.iload_n 3, vi 0, 104), (.iload 4, vi 0, 106), (.iconst 1, vi 1, 107)] (by decide +kernel) rfl rfl ?_
                  refine sm_cv (N := mX4_value) (d' := d - 1) (fun r => (some (vi r.1))) (fun _ => σ) (fun r => r.2) [vi w3, vi y5.1, vi 1] [] rfl (by decide +kernel) q1936 q1938 qs111 (Or.inl ⟨rfl, q1939⟩) (show okN yX4_value 3 = true by decide +kernel) (fun H hR => hR.rvw G.1 G.2.1) rfl rfl (by omega) rfl (fun Q' => m_value_ok G (D := 45) (m_object 12) (m_object_ok G 12) (d - 1) (by omega) (by omega) w3 y5.1 1 y5.2 Q') (fun y38 => ?_)
                  refine sm_b (l' := [(0, vr (some (gw g))), (1, vi u1), (2, vi u2), (3, vi w3), (4, vi y5.1), (5, vi v27)]) (st' := [vi w3, vr (some (gw g))]) (pc' := 113) [(.pop, vi 0, 111), (.aload_n 0, vi 0, 112), (.iload_n 3, vi 0, 113)] (by decide +kernel) rfl rfl ?_
                  refine sm_cv (N := mX4_isPlain) (d' := d - 1) (fun r => (some (vi r))) (fun _ => σ) (fun _ => y38.2) [vi w3] [] rfl (by decide +kernel) q1786 q1788 qs80 (Or.inl ⟨rfl, q1789⟩) (show okN yX4_isPlain 1 = true by decide +kernel) (fun H hR => hR.rvw G.1 G.2.1) rfl rfl (by omega) rfl (fun Q' => m_isPlain_ok G (d - 1) (by omega) w3 y38.2 Q') (fun y39 => ?_)
                  refine sm_gd (fun h40 => ?_)
                  refine sm_case (V g mX4_putObject d 131 [(0, vr (some (gw g))), (1, vi u1), (2, vi u2), (3, vi w3), (4, vi y5.1), (5, vi v27)] [] σ y38.2 Q) (V g mX4_putObject d 119 [(0, vr (some (gw g))), (1, vi u1), (2, vi u2), (3, vi w3), (4, vi y5.1), (5, vi v27)] [] σ y38.2 Q) ?_ ?_ (fun f55 p56 n57 => ?_)
                  · refine sm_b (l' := [(0, vr (some (gw g))), (1, vi u1), (2, vi u2), (3, vi w3), (4, vi y5.1), (5, vi v27)]) (st' := [vr (some (gw g))]) (pc' := 132) [(.aload_n 0, vi 0, 132)] (by decide +kernel) rfl rfl ?_
                    refine sm_tg (k := 57) (x := vi (tI y38.2 57)) G.2.1 q1475 rfl rfl (by decide +kernel) ?_
                    refine sm_gd (fun h44 => ?_)
                    refine sm_case (V g mX4_putObject d 138 [(0, vr (some (gw g))), (1, vi u1), (2, vi u2), (3, vi w3), (4, vi y5.1), (5, vi v27)] [] σ y38.2 Q) (V g mX4_putObject d 141 [(0, vr (some (gw g))), (1, vi u1), (2, vi u2), (3, vi w3), (4, vi y5.1), (5, vi v27)] [] σ y38.2 Q) ?_ ?_ (fun f46 p47 n48 => ?_)
                    · refine sm_b (l' := [(0, vr (some (gw g))), (1, vi u1), (2, vi u2), (3, vi w3), (4, vi y5.1), (5, vi v27)]) (st' := []) (pc' := 148) [(.goto 10, vi 0, 148)] (by decide +kernel) rfl rfl ?_
                      refine sm_pick [0, 1, 2, 3] (l' := [(0, vr (some (gw g))), (1, vi u1), (2, vi u2), (3, vi w3)]) rfl ?_
                      exact sm_leaf (fun h => j13 _ (o36 _ h))
                    · refine sm_pick [0, 1, 2, 3, 4] (l' := [(0, vr (some (gw g))), (1, vi u1), (2, vi u2), (3, vi w3), (4, vi y5.1)]) rfl ?_
                      exact sm_leaf (fun h => j35 _ h)
                    refine sm_if_ne (off := 6) (tgt := 141) h44 (by decide +kernel) (fun c49 => ?_) (fun c49 => ?_)
                    · exact n48 c49
                    · exact p47 c49
                  · refine sm_b (l' := [(0, vr (some (gw g))), (1, vi u1), (2, vi u2), (3, vi w3), (4, vi y5.1), (5, vi v27)]) (st' := [vr (some (gw g))]) (pc' := 120) [(.aload_n 0, vi 0, 120)] (by decide +kernel) rfl rfl ?_
                    refine sm_tg (k := 59) (x := vl (tJ y38.2 59)) G.2.1 q1477 rfl rfl (by decide +kernel) ?_
                    refine sm_b (l' := [(0, vr (some (gw g))), (1, vi u1), (2, vi u2), (3, vi w3), (4, vi y5.1), (5, vi v27)]) (st' := [vl 0, vl (tJ y38.2 59)]) (pc' := 124) [(.lconst 0, vl 0, 124)] (by decide +kernel) rfl rfl ?_
                    refine sm_case (V g mX4_putObject d 128 [(0, vr (some (gw g))), (1, vi u1), (2, vi u2), (3, vi w3), (4, vi y5.1), (5, vi v27)] [] σ y38.2 Q) (V g mX4_putObject d 141 [(0, vr (some (gw g))), (1, vi u1), (2, vi u2), (3, vi w3), (4, vi y5.1), (5, vi v27)] [] σ y38.2 Q) ?_ ?_ (fun f51 p52 n53 => ?_)
                    · refine sm_b (l' := [(0, vr (some (gw g))), (1, vi u1), (2, vi u2), (3, vi w3), (4, vi y5.1), (5, vi v27)]) (st' := []) (pc' := 148) [(.goto 20, vi 0, 148)] (by decide +kernel) rfl rfl ?_
                      refine sm_pick [0, 1, 2, 3] (l' := [(0, vr (some (gw g))), (1, vi u1), (2, vi u2), (3, vi w3)]) rfl ?_
                      exact sm_leaf (fun h => j13 _ (o36 _ h))
                    · refine sm_pick [0, 1, 2, 3, 4] (l' := [(0, vr (some (gw g))), (1, vi u1), (2, vi u2), (3, vi w3), (4, vi y5.1)]) rfl ?_
                      exact sm_leaf (fun h => j35 _ h)
                    refine sm_lc_ne (off := 16) (tgt := 141) (by decide +kernel) (by decide +kernel) (fun c54 => ?_) (fun c54 => ?_)
                    · exact n53 c54
                    · exact p52 c54
                  refine sm_if_eq (off := 15) (tgt := 131) h40 (by decide +kernel) (fun c58 => ?_) (fun c58 => ?_)
                  · exact p56 c58
                  · exact n57 c58
                · refine sm_pick [0, 1, 2, 3, 4] (l' := [(0, vr (some (gw g))), (1, vi u1), (2, vi u2), (3, vi w3), (4, vi y5.1)]) rfl ?_
                  exact sm_leaf (fun h => j35 _ h)
                refine sm_if_ne (off := 42) (tgt := 141) h31 (by decide +kernel) (fun c62 => ?_) (fun c62 => ?_)
                · exact n61 c62
                · exact p60 c62
            · refine sm_gd (fun h22 => ?_)
              refine sm_gd (fun h24 => ?_)
              refine sm_case (V g mX4_putObject d 68 [(0, vr (some (gw g))), (1, vi u1), (2, vi u2), (3, vi w3), (4, vi y5.1)] [] σ y5.2 Q) (V g mX4_putObject d 90 [(0, vr (some (gw g))), (1, vi u1), (2, vi u2), (3, vi w3), (4, vi y5.1)] [] σ y5.2 Q) ?_ ?_ (fun f71 p72 n73 => ?_)
              · refine sm_b (l' := [(0, vr (some (gw g))), (1, vi u1), (2, vi u2), (3, vi w3), (4, vi y5.1)]) (st' := [vr (some (gw g))]) (pc' := 69) [(.aload_n 0, vi 0, 69)] (by decide +kernel) rfl rfl ?_
                refine sm_tg (k := 28) (x := vr (some (gT g 28))) G.2.1 q1446 rfl rfl (by decide +kernel) ?_
                refine sm_b (l' := [(0, vr (some (gw g))), (1, vi u1), (2, vi u2), (3, vi w3), (4, vi y5.1)]) (st' := [vi w3, vr (some (gT g 28))]) (pc' := 73) [(.iload_n 3, vi 0, 73)] (by decide +kernel) rfl rfl ?_
                refine sm_ial (k := 28) G.2.1 (by decide) rfl (ibt (k := 28) h17) h17 (by decide +kernel) ?_
                refine sm_b (l' := [(0, vr (some (gw g))), (1, vi u1), (2, vi u2), (3, vi w3), (4, vi y5.1)]) (st' := [vi 16, vi (tA y5.2 28 w3.toNat)]) (pc' := 76) [(.bipush 16, vi 16, 76)] (by decide +kernel) rfl rfl ?_
                refine sm_gd (fun h63 => ?_)
                refine sm_case (V g mX4_putObject d 94 [(0, vr (some (gw g))), (1, vi u1), (2, vi u2), (3, vi w3), (4, vi y5.1)] [] σ y5.2 Q) (V g mX4_putObject d 90 [(0, vr (some (gw g))), (1, vi u1), (2, vi u2), (3, vi w3), (4, vi y5.1)] [] σ y5.2 Q) ?_ ?_ (fun f66 p67 n68 => ?_)
                · refine sm_b (l' := [(0, vr (some (gw g))), (1, vi u1), (2, vi u2), (3, vi w3), (4, vi y5.1)]) (st' := [vi 0]) (pc' := 95) [(.iconst 0, vi 0, 95)] (by decide +kernel) rfl rfl ?_
                  exact sm_leaf (fun h => j29 _ h)
                · refine sm_b (l' := [(0, vr (some (gw g))), (1, vi u1), (2, vi u2), (3, vi w3), (4, vi y5.1)]) (st' := [vi 1]) (pc' := 95) [(.iconst 1, vi 1, 91), (.goto 4, vi 0, 95)] (by decide +kernel) rfl rfl ?_
                  exact sm_leaf (fun h => j29 _ h)
                refine sm_icmp_lt (off := 18) (tgt := 94) h63 (by decide) (by decide +kernel) (fun c69 => ?_) (fun c69 => ?_)
                · exact p67 (Or.inl c69)
                · refine sm_b (l' := [(0, vr (some (gw g))), (1, vi u1), (2, vi u2), (3, vi w3), (4, vi y5.1)]) (st' := [vr (some (gw g))]) (pc' := 80) [(.aload_n 0, vi 0, 80)] (by decide +kernel) rfl rfl ?_
                  refine sm_tg (k := 28) (x := vr (some (gT g 28))) G.2.1 q1446 rfl rfl (by decide +kernel) ?_
                  refine sm_b (l' := [(0, vr (some (gw g))), (1, vi u1), (2, vi u2), (3, vi w3), (4, vi y5.1)]) (st' := [vi w3, vr (some (gT g 28))]) (pc' := 84) [(.iload_n 3, vi 0, 84)] (by decide +kernel) rfl rfl ?_
                  refine sm_ial (k := 28) G.2.1 (by decide) rfl (ibt (k := 28) h17) h17 (by decide +kernel) ?_
                  refine sm_b (l' := [(0, vr (some (gw g))), (1, vi u1), (2, vi u2), (3, vi w3), (4, vi y5.1)]) (st' := [vi 32, vi (tA y5.2 28 w3.toNat)]) (pc' := 87) [(.bipush 32, vi 32, 87)] (by decide +kernel) rfl rfl ?_
                  refine sm_icmp_ge (off := 7) (tgt := 94) h63 (by decide) (by decide +kernel) (fun c70 => ?_) (fun c70 => ?_)
                  · exact p67 (Or.inr c70)
                  · exact n68 (fun q => q.elim c69 c70)
              · refine sm_b (l' := [(0, vr (some (gw g))), (1, vi u1), (2, vi u2), (3, vi w3), (4, vi y5.1)]) (st' := [vi 1]) (pc' := 95) [(.iconst 1, vi 1, 91), (.goto 4, vi 0, 95)] (by decide +kernel) rfl rfl ?_
                exact sm_leaf (fun h => j29 _ h)
              refine sm_if_ne (off := 35) (tgt := 90) h22 (by decide +kernel) (fun c74 => ?_) (fun c74 => ?_)
              · exact n73 (fun q => c74 q.1)
              · have w23 : (tA y5.2 30 w3.toNat) = 0 := c74
                refine sm_b (l' := [(0, vr (some (gw g))), (1, vi u1), (2, vi u2), (3, vi w3), (4, vi y5.1)]) (st' := [vr (some (gw g))]) (pc' := 59) [(.aload_n 0, vi 0, 59)] (by decide +kernel) rfl rfl ?_
                refine sm_tg (k := 27) (x := vr (some (gT g 27))) G.2.1 q1445 rfl rfl (by decide +kernel) ?_
                refine sm_b (l' := [(0, vr (some (gw g))), (1, vi u1), (2, vi u2), (3, vi w3), (4, vi y5.1)]) (st' := [vi w3, vr (some (gT g 27))]) (pc' := 63) [(.iload_n 3, vi 0, 63)] (by decide +kernel) rfl rfl ?_
                refine sm_ial (k := 27) G.2.1 (by decide) rfl (ibt (k := 27) h17) h17 (by decide +kernel) ?_
                refine sm_b (l' := [(0, vr (some (gw g))), (1, vi u1), (2, vi u2), (3, vi w3), (4, vi y5.1)]) (st' := [vi ((-1)), vi (tA y5.2 27 w3.toNat)]) (pc' := 65) [(.iconst (-1), vi (-1), 65)] (by decide +kernel) rfl rfl ?_
                refine sm_icmp_ne (off := 25) (tgt := 90) (h24 w23) (by decide) (by decide +kernel) (fun c75 => ?_) (fun c75 => ?_)
                · exact n73 (fun q => c75 q.2)
                · exact p72 ⟨c74, c75⟩
          · refine sm_b (l' := [(0, vr (some (gw g))), (1, vi u1), (2, vi u2), (3, vi w3), (4, vi y5.1)]) (st' := [vi y5.1, vi w3, vr (some (gw g))]) (pc' := 43) [(.aload_n 0, vi 0, 40), (.iload_n 3, vi 0, 41), (.iload 4, vi 0, 43)] (by decide +kernel) rfl rfl ?_
            refine sm_cv (N := mX4_putArray) (d' := d - 1) (fun r => none) (fun _ => σ) (fun r => r) [vi w3, vi y5.1] [] rfl (by decide +kernel) q1993 q1995 qs123 (Or.inl ⟨rfl, q1996⟩) (show okN yX4_putArray 2 = true by decide +kernel) (fun H hR => hR.rvw G.1 G.2.1) rfl rfl (by omega) rfl (fun Q' => m_putArray_ok G (D := D) rec hrec (d - 1) (by omega) (by omega) w3 y5.1 y5.2 Q') (fun y76 => ?_)
            refine sm_b (l' := [(0, vr (some (gw g))), (1, vi u1), (2, vi u2), (3, vi w3), (4, vi y5.1)]) (st' := []) (pc' := 148) [(.goto 102, vi 0, 148)] (by decide +kernel) rfl rfl ?_
            refine sm_pick [0, 1, 2, 3] (l' := [(0, vr (some (gw g))), (1, vi u1), (2, vi u2), (3, vi w3)]) rfl ?_
            exact sm_leaf (fun h => j13 _ h)
          refine sm_if_eq (off := 13) (tgt := 49) h18 (by decide +kernel) (fun c80 => ?_) (fun c80 => ?_)
          · exact p78 c80
          · exact n79 c80
        refine sm_icmp_ne (off := 6) (tgt := 30) h6 (by decide) (by decide +kernel) (fun c84 => ?_) (fun c84 => ?_)
        · exact n83 c84
        · exact p82 c84
    refine sm_icmp_eq (off := 154) (tgt := 163) h2 (by decide) (by decide +kernel) (fun c88 => ?_) (fun c88 => ?_)
    · exact p86 c88
    · exact n87 c88
set_option maxHeartbeats 4000000 in
theorem m_putObjectb_ok {g : GE} (G : GG g) {D : Nat} (rec : Int → Int → TT → Option (TT)) (hrec : ∀ (d : Nat), D ≤ d → ∀ {σ : ST} (a1 : Int) (a2 : Int) (τ : TT) (Q' : VQ), Sm (V g mX4_putObject d 0 [(0, vr (some (gw g))), (1, vi a1), (2, vi a2)] [] σ τ Q') (rec a1 a2 τ) (fun r => Q'.1 none σ r)) {σ : ST} (d : Nat) (hd1 : D + 3 ≤ d) (hd2 : 49 ≤ d) (a1 : Int) (a2 : Int)  (τ : TT) (Q : VQ) : Sm (V g mX4_putObject d 0 [(0, vr (some (gw g))), (1, vi a1), (2, vi a2)] [] σ τ Q) (m_putObjectb rec a1 a2 τ) (fun r => Q.1 none σ r) := by
  unfold m_putObjectb
  refine sm_top (fun K hRET => ?_)
  refine sm_b (l' := [(0, vr (some (gw g))), (1, vi a1), (2, vi a2)]) (st' := [vi 0, vi a1, vr (some (gw g))]) (pc' := 3) [(.aload_n 0, vi 0, 1), (.iload_n 1, vi 0, 2), (.iconst 0, vi 0, 3)] (by decide +kernel) rfl rfl ?_
  refine sm_cv (N := mX4_after) (d' := d - 1) (fun r => (some (vi r))) (fun _ => σ) (fun _ => τ) [vi a1, vi 0] [] rfl (by decide +kernel) q1821 q1823 qs87 (Or.inl ⟨rfl, q1824⟩) (show okN yX4_after 2 = true by decide +kernel) (fun H hR => hR.rvw G.1 G.2.1) rfl rfl (by omega) rfl (fun Q' => m_after_ok G (d - 1) (by omega) a1 0 τ Q') (fun y1 => ?_)
  refine sm_b (l' := [(0, vr (some (gw g))), (1, vi a1), (2, vi a2), (3, vi y1)]) (st' := []) (pc' := 7) [(.istore_n 3, vi 0, 7)] (by decide +kernel) rfl rfl ?_
  exact m_putObject_L7_ok G rec hrec d hd1 hd2 a1 a2  (fun r h => hRET _ h) FU y1 τ
def m_putObject : Nat → Int → Int → TT → Option (TT)
  | 0 => fun _ _ _ => none
  | n + 1 => fun a1 a2 τ => m_putObjectb (m_putObject n) a1 a2 τ
set_option maxHeartbeats 4000000 in
theorem m_putObject_ok {g : GE} (G : GG g) (n : Nat) : ∀ (d : Nat), 49 + 3 * n ≤ d → ∀ {σ : ST} (a1 : Int) (a2 : Int) (τ : TT) (Q : VQ), Sm (V g mX4_putObject d 0 [(0, vr (some (gw g))), (1, vi a1), (2, vi a2)] [] σ τ Q) (m_putObject n a1 a2 τ) (fun r => Q.1 none σ r) := by
  induction n with
  | zero => intro d hd σ a1 a2 τ Q; exact sm_none
  | succ n ih =>
    intro d hd σ a1 a2 τ Q
    exact m_putObjectb_ok G (D := 49 + 3 * n) (m_putObject n) ih d (by omega) (by omega) a1 a2 τ Q
def m_toWire (a1 : Int) (τ : TT) : Option (Int × TT) := nm (uI τ 0 0) fun τ1 => nm (uI τ1 6 0) fun τ2 => gd (rg a1) (gd (¬ (a1 < 0) → rg (tI τ2 35)) (gd (¬ ((a1 < 0) ∨ ((tI τ2 35) ≤ a1)) → ok (m_isText 2 0 (tI τ2 5) τ2)) (gd (¬ ((a1 < 0) ∨ ((tI τ2 35) ≤ a1)) → rg (vv (m_isText 2 0 (tI τ2 5) τ2))) (if ((a1 < 0) ∨ ((tI τ2 35) ≤ a1)) ∨ ((vv (m_isText 2 0 (tI τ2 5) τ2)) = 0) then (some (((-1), τ2))) else (Option.bind (m_blanks 0 τ2) fun y12 => Option.bind (m_object 12 a1 y12 1 τ2) fun y13 => gd (rg y13.1) (gd (¬ (y13.1 = ((-1))) → ok (m_blanks y13.1 y13.2)) (gd (¬ (y13.1 = ((-1))) → rg (vv (m_blanks y13.1 y13.2))) (gd (¬ (y13.1 = ((-1))) → rg (tI y13.2 5)) (if (y13.1 = ((-1))) ∨ (¬ ((tI y13.2 5) ≤ (vv (m_blanks y13.1 y13.2)))) then (some (((-1), y13.2))) else (Option.bind (m_putObject 12 a1 y12 y13.2) fun y21 => some ((tI y21 6, y21))))))))))))
set_option maxHeartbeats 4000000 in
theorem m_toWire_ok {g : GE} (G : GG g) {σ : ST} (d : Nat) (hd1 : 86 ≤ d) (a1 : Int)  (τ : TT) (Q : VQ) : Sm (V g mX4_toWire d 0 [(0, vr (some (gw g))), (1, vi a1)] [] σ τ Q) (m_toWire a1 τ) (fun r => Q.1 (some (vi r.1)) σ r.2) := by
  unfold m_toWire
  refine sm_top (fun K hRET => ?_)
  refine sm_b (l' := [(0, vr (some (gw g))), (1, vi a1)]) (st' := [vi 0, vr (some (gw g))]) (pc' := 2) [(.aload_n 0, vi 0, 1), (.iconst 0, vi 0, 2)] (by decide +kernel) rfl rfl ?_
  refine sm_tpi (k := 0) G.2.1 q1418 rfl rfl rfl (tp_0 g τ 0) (by decide +kernel) ?_
  refine sm_nmt (fun τ1 => ?_)
  refine sm_b (l' := [(0, vr (some (gw g))), (1, vi a1)]) (st' := [vi 0, vr (some (gw g))]) (pc' := 7) [(.aload_n 0, vi 0, 6), (.iconst 0, vi 0, 7)] (by decide +kernel) rfl rfl ?_
  refine sm_tpi (k := 6) G.2.1 q1424 rfl rfl rfl (tp_6 g τ1 0) (by decide +kernel) ?_
  refine sm_nmt (fun τ2 => ?_)
  refine sm_b (l' := [(0, vr (some (gw g))), (1, vi a1)]) (st' := [vi a1]) (pc' := 11) [(.iload_n 1, vi 0, 11)] (by decide +kernel) rfl rfl ?_
  refine sm_gd (fun h3 => ?_)
  refine sm_gd (fun h5 => ?_)
  refine sm_gd (fun h7 => ?_)
  refine sm_gd (fun h8 => ?_)
  refine sm_case (V g mX4_toWire d 38 [(0, vr (some (gw g))), (1, vi a1)] [] σ τ2 Q) (V g mX4_toWire d 40 [(0, vr (some (gw g))), (1, vi a1)] [] σ τ2 Q) ?_ ?_ (fun f27 p28 n29 => ?_)
  · refine sm_b (l' := [(0, vr (some (gw g))), (1, vi a1)]) (st' := [vi ((-1))]) (pc' := 39) [(.iconst (-1), vi (-1), 39)] (by decide +kernel) rfl rfl ?_
    exact sm_iret rfl (by decide +kernel) (fun h => hRET _ h)
  · refine sm_b (l' := [(0, vr (some (gw g))), (1, vi a1)]) (st' := [vi 0, vr (some (gw g))]) (pc' := 42) [(.aload_n 0, vi 0, 41), (.iconst 0, vi 0, 42)] (by decide +kernel) rfl rfl ?_
    refine sm_cv (N := mX4_blanks) (d' := d - 1) (fun r => (some (vi r))) (fun _ => σ) (fun _ => τ2) [vi 0] [] rfl (by decide +kernel) q1894 q1896 qs101 (Or.inl ⟨rfl, q1897⟩) (show okN yX4_blanks 1 = true by decide +kernel) (fun H hR => hR.rvw G.1 G.2.1) rfl rfl (by omega) rfl (fun Q' => m_blanks_ok G (d - 1) (by omega) 0 τ2 Q') (fun y12 => ?_)
    refine sm_b (l' := [(0, vr (some (gw g))), (1, vi a1), (2, vi y12)]) (st' := [vi 1, vi y12, vi a1, vr (some (gw g))]) (pc' := 50) [(.istore_n 2, vi 0, 46), (.aload_n 0, vi 0, 47), (.iload_n 1, vi 0, 48), (.iload_n 2, vi 0, 49), (.iconst 1, vi 1, 50)] (by decide +kernel) rfl rfl ?_
    refine sm_cv (N := mX4_object) (d' := d - 1) (fun r => (some (vi r.1))) (fun _ => σ) (fun r => r.2) [vi a1, vi y12, vi 1] [] rfl (by decide +kernel) q1898 q1900 qs102 (Or.inl ⟨rfl, q1901⟩) (show okN yX4_object 3 = true by decide +kernel) (fun H hR => hR.rvw G.1 G.2.1) rfl rfl (by omega) rfl (fun Q' => m_object_ok G 12 (d - 1) (by omega) a1 y12 1 τ2 Q') (fun y13 => ?_)
    refine sm_b (l' := [(0, vr (some (gw g))), (1, vi a1), (2, vi y12), (3, vi y13.1)]) (st' := [vi ((-1)), vi y13.1]) (pc' := 56) [(.istore_n 3, vi 0, 54), (.iload_n 3, vi 0, 55), (.iconst (-1), vi (-1), 56)] (by decide +kernel) rfl rfl ?_
    refine sm_gd (fun h14 => ?_)
    refine sm_gd (fun h16 => ?_)
    refine sm_gd (fun h17 => ?_)
    refine sm_gd (fun h18 => ?_)
    refine sm_case (V g mX4_toWire d 71 [(0, vr (some (gw g))), (1, vi a1), (2, vi y12), (3, vi y13.1)] [] σ y13.2 Q) (V g mX4_toWire d 73 [(0, vr (some (gw g))), (1, vi a1), (2, vi y12), (3, vi y13.1)] [] σ y13.2 Q) ?_ ?_ (fun f22 p23 n24 => ?_)
    · refine sm_b (l' := [(0, vr (some (gw g))), (1, vi a1), (2, vi y12), (3, vi y13.1)]) (st' := [vi ((-1))]) (pc' := 72) [(.iconst (-1), vi (-1), 72)] (by decide +kernel) rfl rfl ?_
      exact sm_iret rfl (by decide +kernel) (fun h => hRET _ h)
    · refine sm_b (l' := [(0, vr (some (gw g))), (1, vi a1), (2, vi y12), (3, vi y13.1)]) (st' := [vi y12, vi a1, vr (some (gw g))]) (pc' := 76) [(.aload_n 0, vi 0, 74), (.iload_n 1, vi 0, 75), (.iload_n 2, vi 0, 76)] (by decide +kernel) rfl rfl ?_
      refine sm_cv (N := mX4_putObject) (d' := d - 1) (fun r => none) (fun _ => σ) (fun r => r) [vi a1, vi y12] [] rfl (by decide +kernel) q1985 q1987 qs121 (Or.inl ⟨rfl, q1988⟩) (show okN yX4_putObject 2 = true by decide +kernel) (fun H hR => hR.rvw G.1 G.2.1) rfl rfl (by omega) rfl (fun Q' => m_putObject_ok G 12 (d - 1) (by omega) a1 y12 y13.2 Q') (fun y21 => ?_)
      refine sm_b (l' := [(0, vr (some (gw g))), (1, vi a1), (2, vi y12), (3, vi y13.1)]) (st' := [vr (some (gw g))]) (pc' := 80) [(.aload_n 0, vi 0, 80)] (by decide +kernel) rfl rfl ?_
      refine sm_tg (k := 6) (x := vi (tI y21 6)) G.2.1 q1424 rfl rfl (by decide +kernel) ?_
      exact sm_iret rfl (by decide +kernel) (fun h => hRET _ h)
    refine sm_icmp_eq (off := 15) (tgt := 71) h14 (by decide) (by decide +kernel) (fun c25 => ?_) (fun c25 => ?_)
    · exact p23 (Or.inl c25)
    · have w15 : ¬ (y13.1 = ((-1))) := c25
      refine sm_b (l' := [(0, vr (some (gw g))), (1, vi a1), (2, vi y12), (3, vi y13.1)]) (st' := [vi y13.1, vr (some (gw g))]) (pc' := 61) [(.aload_n 0, vi 0, 60), (.iload_n 3, vi 0, 61)] (by decide +kernel) rfl rfl ?_
      refine sm_cvp (N := mX4_blanks) (d' := d - 1) (fun r => (some (vi r))) (some (vi (vv (m_blanks y13.1 y13.2)))) (h16 w15) (fun y h => by rw [vv_some h]) [vi y13.1] [] rfl (by decide +kernel) q1894 q1896 qs101 (Or.inl ⟨rfl, q1897⟩) (show okN yX4_blanks 1 = true by decide +kernel) (fun H hR => hR.rvw G.1 G.2.1) rfl rfl (by omega) rfl (fun Q' => m_blanks_ok G (d - 1) (by omega) y13.1 y13.2 Q') ?_
      refine sm_b (l' := [(0, vr (some (gw g))), (1, vi a1), (2, vi y12), (3, vi y13.1)]) (st' := [vr (some (gw g)), vi (vv (m_blanks y13.1 y13.2))]) (pc' := 65) [(.aload_n 0, vi 0, 65)] (by decide +kernel) rfl rfl ?_
      refine sm_tg (k := 5) (x := vi (tI y13.2 5)) G.2.1 q1423 rfl rfl (by decide +kernel) ?_
      refine sm_icmp_ge (off := 5) (tgt := 73) (h17 w15) (h18 w15) (by decide +kernel) (fun c26 => ?_) (fun c26 => ?_)
      · exact n24 (fun q => q.elim c25 (fun q => q c26))
      · exact p23 (Or.inr c26)
  refine sm_if_lt (off := 27) (tgt := 38) h3 (by decide +kernel) (fun c30 => ?_) (fun c30 => ?_)
  · exact p28 (Or.inl (Or.inl c30))
  · have w4 : ¬ (a1 < 0) := c30
    refine sm_b (l' := [(0, vr (some (gw g))), (1, vi a1)]) (st' := [vr (some (gw g)), vi a1]) (pc' := 16) [(.iload_n 1, vi 0, 15), (.aload_n 0, vi 0, 16)] (by decide +kernel) rfl rfl ?_
    refine sm_tg (k := 35) (x := vi (tI τ2 35)) G.2.1 q1453 rfl rfl (by decide +kernel) ?_
    refine sm_icmp_ge (off := 19) (tgt := 38) h3 (h5 w4) (by decide +kernel) (fun c31 => ?_) (fun c31 => ?_)
    · exact p28 (Or.inl (Or.inr c31))
    · have w6 : ¬ ((a1 < 0) ∨ ((tI τ2 35) ≤ a1)) := (fun q => q.elim c30 c31)
      refine sm_b (l' := [(0, vr (some (gw g))), (1, vi a1)]) (st' := [vr (some (gw g)), vr (some (gw g))]) (pc' := 24) [(.aload_n 0, vi 0, 23), (.aload_n 0, vi 0, 24)] (by decide +kernel) rfl rfl ?_
      refine sm_tg (k := 2) (x := vr (some (gT g 2))) G.2.1 q1420 rfl rfl (by decide +kernel) ?_
      refine sm_b (l' := [(0, vr (some (gw g))), (1, vi a1)]) (st' := [vr (some (gw g)), vi 0, vr (some (gT g 2)), vr (some (gw g))]) (pc' := 29) [(.iconst 0, vi 0, 28), (.aload_n 0, vi 0, 29)] (by decide +kernel) rfl rfl ?_
      refine sm_tg (k := 5) (x := vi (tI τ2 5)) G.2.1 q1423 rfl rfl (by decide +kernel) ?_
      refine sm_cvp (N := mX4_isText) (d' := d - 1) (fun r => (some (vi r))) (some (vi (vv (m_isText 2 0 (tI τ2 5) τ2)))) (h7 w6) (fun y h => by rw [vv_some h]) [vr (some (gT g 2)), vi 0, vi (tI τ2 5)] [] rfl (by decide +kernel) q1790 q1792 qs81 (Or.inl ⟨rfl, q1793⟩) (show okN yX4_isText 3 = true by decide +kernel) (fun H hR => hR.rvw G.1 G.2.1) rfl rfl (by omega) rfl (fun Q' => m_isText_ok G (d - 1) (by omega) 2 0 (tI τ2 5) (by decide) rfl τ2 Q') ?_
      refine sm_if_ne (off := 5) (tgt := 40) (h8 w6) (by decide +kernel) (fun c32 => ?_) (fun c32 => ?_)
      · exact n29 (fun q => q.elim (fun q => q.elim c30 c31) c32)
      · exact p28 (Or.inr c32)
