set_option maxRecDepth 100000
/-! the reference: X4_turn, X4_output -/
def m_turn_L19  : Nat → Int → TT → Option (TT)
  | 0, _, _ => none
  | n + 1, w1, τ => gd (rg w1) (gd (rg (tI τ 6)) (if (tI τ 6) ≤ w1 then (some τ) else (gd (ib w1 4000) (gd (ib w1 1000) (nm (uA τ 2 w1.toNat (tA τ 3 w1.toNat)) fun τ17 => m_turn_L19 n (w1 + 1) τ17)))))
def m_turn  (τ : TT) : Option (Int × TT) := nm (uI τ 0 0) fun τ1 => gd (rg (tI τ1 6)) (if (tI τ1 6) ≤ 1000 then (Option.bind (m_turn_L19  FU 0 τ1) fun (v5 : TT) => nm (uI v5 5 (tI v5 6)) fun τ9 => some ((1, τ9))) else (some ((0, τ1))))
set_option maxHeartbeats 4000000 in
theorem m_turn_L19_ok {g : GE} (G : GG g) {σ : ST} {Q : VQ} (d : Nat) (hd1 : 0 ≤ d)   {K : TT → Prop} (hE45 : ∀ v10 : TT, K (v10) → V g mX4_turn d 45 [(0, vr (some (gw g)))] [] σ v10 Q) : ∀ (n : Nat) (w1 : Int) (τ : TT), Sm (V g mX4_turn d 19 [(0, vr (some (gw g))), (1, vi w1)] [] σ τ Q) (m_turn_L19 n w1 τ) K := by
  intro n
  induction n with
  | zero => intro w1 τ; exact sm_none
  | succ n ih =>
    intro w1 τ
    rw [m_turn_L19.eq_2]
    refine sm_b (l' := [(0, vr (some (gw g))), (1, vi w1)]) (st' := [vr (some (gw g)), vi w1]) (pc' := 21) [(.iload_n 1, vi 0, 20), (.aload_n 0, vi 0, 21)] (by decide +kernel) rfl rfl ?_
    refine sm_tg (k := 6) (x := vi (tI τ 6)) G.2.1 q1424 rfl rfl (by decide +kernel) ?_
    refine sm_gd (fun h11 => ?_)
    refine sm_gd (fun h12 => ?_)
    refine sm_case (V g mX4_turn d 45 [(0, vr (some (gw g))), (1, vi w1)] [] σ τ Q) (V g mX4_turn d 27 [(0, vr (some (gw g))), (1, vi w1)] [] σ τ Q) ?_ ?_ (fun f18 p19 n20 => ?_)
    · refine sm_pick [0] (l' := [(0, vr (some (gw g)))]) rfl ?_
      exact sm_leaf (fun h => hE45 _ h)
    · refine sm_b (l' := [(0, vr (some (gw g))), (1, vi w1)]) (st' := [vr (some (gw g))]) (pc' := 28) [(.aload_n 0, vi 0, 28)] (by decide +kernel) rfl rfl ?_
      refine sm_tg (k := 2) (x := vr (some (gT g 2))) G.2.1 q1420 rfl rfl (by decide +kernel) ?_
      refine sm_b (l' := [(0, vr (some (gw g))), (1, vi w1)]) (st' := [vr (some (gw g)), vi w1, vr (some (gT g 2))]) (pc' := 33) [(.iload_n 1, vi 0, 32), (.aload_n 0, vi 0, 33)] (by decide +kernel) rfl rfl ?_
      refine sm_tg (k := 3) (x := vr (some (gT g 3))) G.2.1 q1421 rfl rfl (by decide +kernel) ?_
      refine sm_b (l' := [(0, vr (some (gw g))), (1, vi w1)]) (st' := [vi w1, vr (some (gT g 3)), vi w1, vr (some (gT g 2))]) (pc' := 37) [(.iload_n 1, vi 0, 37)] (by decide +kernel) rfl rfl ?_
      refine sm_gd (fun h15 => ?_)
      refine sm_ial (k := 3) G.2.1 (by decide) rfl (ibt (k := 3) h15) h15 (by decide +kernel) ?_
      refine sm_gd (fun h16 => ?_)
      refine sm_ias (k := 2) G.2.1 (by decide) rfl (ibt (k := 2) h16) h16 (by decide +kernel) ?_
      refine sm_nmt (fun τ17 => ?_)
      refine sm_b (l' := [(0, vr (some (gw g))), (1, vi (w1 + 1))]) (st' := []) (pc' := 19) [(.iinc 1 1, vi 1, 42), (.goto (-23), vi 0, 19)] (by decide +kernel) rfl rfl ?_
      exact ih (w1 + 1) τ17
    refine sm_icmp_ge (off := 21) (tgt := 45) h11 h12 (by decide +kernel) (fun c21 => ?_) (fun c21 => ?_)
    · exact p19 c21
    · exact n20 c21
set_option maxHeartbeats 4000000 in
theorem m_turn_ok {g : GE} (G : GG g) {σ : ST} (d : Nat) (hd1 : 0 ≤ d)   (τ : TT) (Q : VQ) : Sm (V g mX4_turn d 0 [(0, vr (some (gw g)))] [] σ τ Q) (m_turn τ) (fun r => Q.1 (some (vi r.1)) σ r.2) := by
  unfold m_turn
  refine sm_top (fun K hRET => ?_)
  refine sm_b (l' := [(0, vr (some (gw g)))]) (st' := [vi 0, vr (some (gw g))]) (pc' := 2) [(.aload_n 0, vi 0, 1), (.iconst 0, vi 0, 2)] (by decide +kernel) rfl rfl ?_
  refine sm_tpi (k := 0) G.2.1 q1418 rfl rfl rfl (tp_0 g τ 0) (by decide +kernel) ?_
  refine sm_nmt (fun τ1 => ?_)
  refine sm_b (l' := [(0, vr (some (gw g)))]) (st' := [vr (some (gw g))]) (pc' := 6) [(.aload_n 0, vi 0, 6)] (by decide +kernel) rfl rfl ?_
  refine sm_tg (k := 6) (x := vi (tI τ1 6)) G.2.1 q1424 rfl rfl (by decide +kernel) ?_
  refine sm_b (l' := [(0, vr (some (gw g)))]) (st' := [vi 1000, vi (tI τ1 6)]) (pc' := 12) [(.sipush 1000, vi 1000, 12)] (by decide +kernel) rfl rfl ?_
  refine sm_gd (fun h2 => ?_)
  refine sm_case (V g mX4_turn d 17 [(0, vr (some (gw g)))] [] σ τ1 Q) (V g mX4_turn d 15 [(0, vr (some (gw g)))] [] σ τ1 Q) ?_ ?_ (fun f22 p23 n24 => ?_)
  · refine sm_b (l' := [(0, vr (some (gw g))), (1, vi 0)]) (st' := []) (pc' := 19) [(.iconst 0, vi 0, 18), (.istore_n 1, vi 0, 19)] (by decide +kernel) rfl rfl ?_
    refine sm_bind1 (fun (v5 : TT) => V g mX4_turn d 45 [(0, vr (some (gw g)))] [] σ v5 Q) (fun v5 => ?_) (fun K6 j7 => ?_)
    · refine sm_b (l' := [(0, vr (some (gw g)))]) (st' := [vr (some (gw g)), vr (some (gw g))]) (pc' := 47) [(.aload_n 0, vi 0, 46), (.aload_n 0, vi 0, 47)] (by decide +kernel) rfl rfl ?_
      refine sm_tg (k := 6) (x := vi (tI v5 6)) G.2.1 q1424 rfl rfl (by decide +kernel) ?_
      refine sm_tpi (k := 5) G.2.1 q1423 rfl rfl rfl (tp_5 g v5 (tI v5 6)) (by decide +kernel) ?_
      refine sm_nmt (fun τ9 => ?_)
      refine sm_b (l' := [(0, vr (some (gw g)))]) (st' := [vi 1]) (pc' := 54) [(.iconst 1, vi 1, 54)] (by decide +kernel) rfl rfl ?_
      exact sm_zret rfl (by decide +kernel) (by decide) (fun h => hRET _ h)
    · exact m_turn_L19_ok G d hd1   (fun _ h => j7 _ h) FU 0 τ1
  · refine sm_b (l' := [(0, vr (some (gw g)))]) (st' := [vi 0]) (pc' := 16) [(.iconst 0, vi 0, 16)] (by decide +kernel) rfl rfl ?_
    exact sm_zret rfl (by decide +kernel) (by decide) (fun h => hRET _ h)
  refine sm_icmp_le (off := 5) (tgt := 17) h2 (by decide) (by decide +kernel) (fun c25 => ?_) (fun c25 => ?_)
  · exact p23 c25
  · exact n24 c25
def m_output (a1 : Int) (τ : TT) : Option (Int × TT) := nm (uI τ 0 0) fun τ1 => gd (rg a1) (gd (¬ (a1 < 0) → rg (tI τ1 6)) (if (a1 < 0) ∨ (¬ (a1 < (tI τ1 6))) then (some (((-1), τ1))) else (gd (ib a1 4000) (some ((tA τ1 3 a1.toNat, τ1))))))
set_option maxHeartbeats 4000000 in
theorem m_output_ok {g : GE} (G : GG g) {σ : ST} (d : Nat) (hd1 : 0 ≤ d) (a1 : Int)  (τ : TT) (Q : VQ) : Sm (V g mX4_output d 0 [(0, vr (some (gw g))), (1, vi a1)] [] σ τ Q) (m_output a1 τ) (fun r => Q.1 (some (vi r.1)) σ r.2) := by
  unfold m_output
  refine sm_top (fun K hRET => ?_)
  refine sm_b (l' := [(0, vr (some (gw g))), (1, vi a1)]) (st' := [vi 0, vr (some (gw g))]) (pc' := 2) [(.aload_n 0, vi 0, 1), (.iconst 0, vi 0, 2)] (by decide +kernel) rfl rfl ?_
  refine sm_tpi (k := 0) G.2.1 q1418 rfl rfl rfl (tp_0 g τ 0) (by decide +kernel) ?_
  refine sm_nmt (fun τ1 => ?_)
  refine sm_b (l' := [(0, vr (some (gw g))), (1, vi a1)]) (st' := [vi a1]) (pc' := 6) [(.iload_n 1, vi 0, 6)] (by decide +kernel) rfl rfl ?_
  refine sm_gd (fun h2 => ?_)
  refine sm_gd (fun h4 => ?_)
  refine sm_case (V g mX4_output d 17 [(0, vr (some (gw g))), (1, vi a1)] [] σ τ1 Q) (V g mX4_output d 21 [(0, vr (some (gw g))), (1, vi a1)] [] σ τ1 Q) ?_ ?_ (fun f9 p10 n11 => ?_)
  · refine sm_b (l' := [(0, vr (some (gw g))), (1, vi a1)]) (st' := [vi ((-1))]) (pc' := 27) [(.iconst (-1), vi (-1), 18), (.goto 9, vi 0, 27)] (by decide +kernel) rfl rfl ?_
    exact sm_iret rfl (by decide +kernel) (fun h => hRET _ h)
  · refine sm_b (l' := [(0, vr (some (gw g))), (1, vi a1)]) (st' := [vr (some (gw g))]) (pc' := 22) [(.aload_n 0, vi 0, 22)] (by decide +kernel) rfl rfl ?_
    refine sm_tg (k := 3) (x := vr (some (gT g 3))) G.2.1 q1421 rfl rfl (by decide +kernel) ?_
    refine sm_b (l' := [(0, vr (some (gw g))), (1, vi a1)]) (st' := [vi a1, vr (some (gT g 3))]) (pc' := 26) [(.iload_n 1, vi 0, 26)] (by decide +kernel) rfl rfl ?_
    refine sm_gd (fun h8 => ?_)
    refine sm_ial (k := 3) G.2.1 (by decide) rfl (ibt (k := 3) h8) h8 (by decide +kernel) ?_
    exact sm_iret rfl (by decide +kernel) (fun h => hRET _ h)
  refine sm_if_lt (off := 11) (tgt := 17) h2 (by decide +kernel) (fun c12 => ?_) (fun c12 => ?_)
  · exact p10 (Or.inl c12)
  · have w3 : ¬ (a1 < 0) := c12
    refine sm_b (l' := [(0, vr (some (gw g))), (1, vi a1)]) (st' := [vr (some (gw g)), vi a1]) (pc' := 11) [(.iload_n 1, vi 0, 10), (.aload_n 0, vi 0, 11)] (by decide +kernel) rfl rfl ?_
    refine sm_tg (k := 6) (x := vi (tI τ1 6)) G.2.1 q1424 rfl rfl (by decide +kernel) ?_
    refine sm_icmp_lt (off := 7) (tgt := 21) h2 (h4 w3) (by decide +kernel) (fun c13 => ?_) (fun c13 => ?_)
    · exact n11 (fun q => q.elim c12 (fun q => q c13))
    · exact p10 (Or.inr c13)
