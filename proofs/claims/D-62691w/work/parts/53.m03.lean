set_option maxRecDepth 100000
/-! the reference: X4_named, X4_fieldsNamed, X4_namesTwice -/
def m_named_L109 (u1 : Int) (u2 : Int) (τ : TT) : Nat → Int → Int → Option (Int)
  | 0, _, _ => none
  | n + 1, w3, w4 => gd (rg w4) (gd (rg (tI τ 37)) (if (tI τ 37) ≤ w4 then (some w3) else (gd (ib w4 40) (gd (ib (tA τ 21 w4.toNat) 6) (Option.bind (gd (rg (tA τ 18 (tA τ 21 w4.toNat).toNat)) (gd (rg u2) (gd ((tA τ 18 (tA τ 21 w4.toNat).toNat) = u2 → ok (m_same (tA τ 19 w4.toNat) u1 τ)) (gd ((tA τ 18 (tA τ 21 w4.toNat).toNat) = u2 → rg (vv (m_same (tA τ 19 w4.toNat) u1 τ))) (if ((tA τ 18 (tA τ 21 w4.toNat).toNat) = u2) ∧ (¬ ((vv (m_same (tA τ 19 w4.toNat) u1 τ)) = 0)) then (some 1) else (some 0)))))) fun (v26 : Int) => nm (w3 + v26) fun x30 => m_named_L109 u1 u2 τ n x30 (w4 + 1))))))
def m_named_L57 (u1 : Int) (u2 : Int) (τ : TT) : Nat → Int → Int → Option (Int)
  | 0, _, _ => none
  | n + 1, w3, w4 => gd (rg w4) (gd (rg (tI τ 36)) (if (tI τ 36) ≤ w4 then (some w3) else (gd (ib w4 6) (Option.bind (gd (rg (tA τ 18 w4.toNat)) (gd (rg u2) (gd ((tA τ 18 w4.toNat) = u2 → ok (m_same (tA τ 17 w4.toNat) u1 τ)) (gd ((tA τ 18 w4.toNat) = u2 → rg (vv (m_same (tA τ 17 w4.toNat) u1 τ))) (if ((tA τ 18 w4.toNat) = u2) ∧ (¬ ((vv (m_same (tA τ 17 w4.toNat) u1 τ)) = 0)) then (some 1) else (some 0)))))) fun (v55 : Int) => nm (w3 + v55) fun x59 => m_named_L57 u1 u2 τ n x59 (w4 + 1)))))
def m_named_L5 (u1 : Int) (u2 : Int) (τ : TT) : Nat → Int → Int → Option (Int)
  | 0, _, _ => none
  | n + 1, w3, w4 => gd (rg w4) (gd (rg (tI τ 35)) (if (tI τ 35) ≤ w4 then (some w3) else (gd (ib w4 10) (Option.bind (gd (rg (tA τ 16 w4.toNat)) (gd (rg u2) (gd ((tA τ 16 w4.toNat) = u2 → ok (m_same (tA τ 15 w4.toNat) u1 τ)) (gd ((tA τ 16 w4.toNat) = u2 → rg (vv (m_same (tA τ 15 w4.toNat) u1 τ))) (if ((tA τ 16 w4.toNat) = u2) ∧ (¬ ((vv (m_same (tA τ 15 w4.toNat) u1 τ)) = 0)) then (some 1) else (some 0)))))) fun (v84 : Int) => nm (w3 + v84) fun x88 => m_named_L5 u1 u2 τ n x88 (w4 + 1)))))
def m_named (a1 : Int) (a2 : Int) (τ : TT) : Option (Int) := Option.bind (m_named_L5 a1 a2 τ FU 0 0) fun (v1 : Int) => Option.bind (m_named_L57 a1 a2 τ FU v1 0) fun (v5 : Int) => m_named_L109 a1 a2 τ FU v5 0
set_option maxHeartbeats 4000000 in
theorem m_named_L109_ok {g : GE} (G : GG g) {σ : ST} {Q : VQ} (d : Nat) (hd1 : 1 ≤ d) (u1 : Int) (u2 : Int) (τ : TT)  {K : Int → Prop} (hRET : ∀ r : Int, K (r) → Q.1 (some (vi r)) σ τ) : ∀ (n : Nat) (w3 : Int) (w4 : Int), Sm (V g mX4_named d 109 [(0, vr (some (gw g))), (1, vi u1), (2, vi u2), (3, vi w3), (4, vi w4)] [] σ τ Q) (m_named_L109 u1 u2 τ n w3 w4) K := by
  intro n
  induction n with
  | zero => intro w3 w4; exact sm_none
  | succ n ih =>
    intro w3 w4
    rw [m_named_L109.eq_2]
    refine sm_b (l' := [(0, vr (some (gw g))), (1, vi u1), (2, vi u2), (3, vi w3), (4, vi w4)]) (st' := [vr (some (gw g)), vi w4]) (pc' := 112) [(.iload 4, vi 0, 111), (.aload_n 0, vi 0, 112)] (by decide +kernel) rfl rfl ?_
    refine sm_tg (k := 37) (x := vi (tI τ 37)) G.2.1 q1455 rfl rfl (by decide +kernel) ?_
    refine sm_gd (fun h9 => ?_)
    refine sm_gd (fun h10 => ?_)
    refine sm_case (V g mX4_named d 163 [(0, vr (some (gw g))), (1, vi u1), (2, vi u2), (3, vi w3), (4, vi w4)] [] σ τ Q) (V g mX4_named d 118 [(0, vr (some (gw g))), (1, vi u1), (2, vi u2), (3, vi w3), (4, vi w4)] [] σ τ Q) ?_ ?_ (fun f36 p37 n38 => ?_)
    · refine sm_b (l' := [(0, vr (some (gw g))), (1, vi u1), (2, vi u2), (3, vi w3), (4, vi w4)]) (st' := [vi w3]) (pc' := 164) [(.iload_n 3, vi 0, 164)] (by decide +kernel) rfl rfl ?_
      exact sm_iret rfl (by decide +kernel) (fun h => hRET _ h)
    · refine sm_b (l' := [(0, vr (some (gw g))), (1, vi u1), (2, vi u2), (3, vi w3), (4, vi w4)]) (st' := [vr (some (gw g)), vi w3]) (pc' := 120) [(.iload_n 3, vi 0, 119), (.aload_n 0, vi 0, 120)] (by decide +kernel) rfl rfl ?_
      refine sm_tg (k := 18) (x := vr (some (gT g 18))) G.2.1 q1436 rfl rfl (by decide +kernel) ?_
      refine sm_b (l' := [(0, vr (some (gw g))), (1, vi u1), (2, vi u2), (3, vi w3), (4, vi w4)]) (st' := [vr (some (gw g)), vr (some (gT g 18)), vi w3]) (pc' := 124) [(.aload_n 0, vi 0, 124)] (by decide +kernel) rfl rfl ?_
      refine sm_tg (k := 21) (x := vr (some (gT g 21))) G.2.1 q1439 rfl rfl (by decide +kernel) ?_
      refine sm_b (l' := [(0, vr (some (gw g))), (1, vi u1), (2, vi u2), (3, vi w3), (4, vi w4)]) (st' := [vi w4, vr (some (gT g 21)), vr (some (gT g 18)), vi w3]) (pc' := 129) [(.iload 4, vi 0, 129)] (by decide +kernel) rfl rfl ?_
      refine sm_gd (fun h17 => ?_)
      refine sm_ial (k := 21) G.2.1 (by decide) rfl (ibt (k := 21) h17) h17 (by decide +kernel) ?_
      refine sm_gd (fun h18 => ?_)
      refine sm_ial (k := 18) G.2.1 (by decide) rfl (ibt (k := 18) h18) h18 (by decide +kernel) ?_
      refine sm_b (l' := [(0, vr (some (gw g))), (1, vi u1), (2, vi u2), (3, vi w3), (4, vi w4)]) (st' := [vi u2, vi (tA τ 18 (tA τ 21 w4.toNat).toNat), vi w3]) (pc' := 132) [(.iload_n 2, vi 0, 132)] (by decide +kernel) rfl rfl ?_
      refine sm_bind1 (fun (v26 : Int) => V g mX4_named d 155 [(0, vr (some (gw g))), (1, vi u1), (2, vi u2), (4, vi w4)] [vi v26, vi w3] σ τ Q) (fun v26 => ?_) (fun K27 j28 => ?_)
      · refine sm_b (l' := [(0, vr (some (gw g))), (1, vi u1), (2, vi u2), (4, vi w4)]) (st' := [vi (w3 + v26)]) (pc' := 156) [(.iadd, vi 0, 156)] (by decide +kernel) rfl rfl ?_
        refine sm_nmi (fun x30 => ?_)
        refine sm_b (l' := [(0, vr (some (gw g))), (1, vi u1), (2, vi u2), (4, vi (w4 + 1)), (3, vi x30)]) (st' := []) (pc' := 109) [(.istore_n 3, vi 0, 157), (.iinc 4 1, vi 1, 160), (.goto (-51), vi 0, 109)] (by decide +kernel) rfl rfl ?_
        refine sm_pick [0, 1, 2, 4, 3] (l' := [(0, vr (some (gw g))), (1, vi u1), (2, vi u2), (3, vi x30), (4, vi (w4 + 1))]) rfl ?_
        exact ih x30 (w4 + 1)
      · refine sm_gd (fun h19 => ?_)
        refine sm_gd (fun h20 => ?_)
        refine sm_gd (fun h22 => ?_)
        refine sm_gd (fun h23 => ?_)
        refine sm_case (V g mX4_named d 150 [(0, vr (some (gw g))), (1, vi u1), (2, vi u2), (3, vi w3), (4, vi w4)] [vi w3] σ τ Q) (V g mX4_named d 154 [(0, vr (some (gw g))), (1, vi u1), (2, vi u2), (3, vi w3), (4, vi w4)] [vi w3] σ τ Q) ?_ ?_ (fun f31 p32 n33 => ?_)
        · refine sm_b (l' := [(0, vr (some (gw g))), (1, vi u1), (2, vi u2), (3, vi w3), (4, vi w4)]) (st' := [vi 1, vi w3]) (pc' := 155) [(.iconst 1, vi 1, 151), (.goto 4, vi 0, 155)] (by decide +kernel) rfl rfl ?_
          refine sm_pick [0, 1, 2, 4] (l' := [(0, vr (some (gw g))), (1, vi u1), (2, vi u2), (4, vi w4)]) rfl ?_
          exact sm_leaf (fun h => j28 _ h)
        · refine sm_b (l' := [(0, vr (some (gw g))), (1, vi u1), (2, vi u2), (3, vi w3), (4, vi w4)]) (st' := [vi 0, vi w3]) (pc' := 155) [(.iconst 0, vi 0, 155)] (by decide +kernel) rfl rfl ?_
          refine sm_pick [0, 1, 2, 4] (l' := [(0, vr (some (gw g))), (1, vi u1), (2, vi u2), (4, vi w4)]) rfl ?_
          exact sm_leaf (fun h => j28 _ h)
        refine sm_icmp_ne (off := 22) (tgt := 154) h19 h20 (by decide +kernel) (fun c34 => ?_) (fun c34 => ?_)
        · exact n33 (fun q => c34 q.1)
        · have w21 : (tA τ 18 (tA τ 21 w4.toNat).toNat) = u2 := c34
          refine sm_b (l' := [(0, vr (some (gw g))), (1, vi u1), (2, vi u2), (3, vi w3), (4, vi w4)]) (st' := [vr (some (gw g)), vr (some (gw g)), vi w3]) (pc' := 137) [(.aload_n 0, vi 0, 136), (.aload_n 0, vi 0, 137)] (by decide +kernel) rfl rfl ?_
          refine sm_tg (k := 19) (x := vr (some (gT g 19))) G.2.1 q1437 rfl rfl (by decide +kernel) ?_
          refine sm_b (l' := [(0, vr (some (gw g))), (1, vi u1), (2, vi u2), (3, vi w3), (4, vi w4)]) (st' := [vi w4, vr (some (gT g 19)), vr (some (gw g)), vi w3]) (pc' := 142) [(.iload 4, vi 0, 142)] (by decide +kernel) rfl rfl ?_
          refine sm_ial (k := 19) G.2.1 (by decide) rfl (ibt (k := 19) h17) h17 (by decide +kernel) ?_
          refine sm_b (l' := [(0, vr (some (gw g))), (1, vi u1), (2, vi u2), (3, vi w3), (4, vi w4)]) (st' := [vi u1, vi (tA τ 19 w4.toNat), vr (some (gw g)), vi w3]) (pc' := 144) [(.iload_n 1, vi 0, 144)] (by decide +kernel) rfl rfl ?_
          refine sm_cvp (N := mX4_same) (d' := d - 1) (fun r => (some (vi r))) (some (vi (vv (m_same (tA τ 19 w4.toNat) u1 τ)))) (h22 w21) (fun y h => by rw [vv_some h]) [vi (tA τ 19 w4.toNat), vi u1] [vi w3] rfl (by decide +kernel) q1706 q1708 qs65 (Or.inl ⟨rfl, q1709⟩) (show okN yX4_same 2 = true by decide +kernel) (fun H hR => hR.rvw G.1 G.2.1) rfl rfl (by omega) rfl (fun Q' => m_same_ok G (d - 1) (by omega) (tA τ 19 w4.toNat) u1 τ Q') ?_
          refine sm_if_eq (off := 7) (tgt := 154) (h23 w21) (by decide +kernel) (fun c35 => ?_) (fun c35 => ?_)
          · exact n33 (fun q => (fun q => q c35) q.2)
          · exact p32 ⟨c34, c35⟩
    refine sm_icmp_ge (off := 48) (tgt := 163) h9 h10 (by decide +kernel) (fun c39 => ?_) (fun c39 => ?_)
    · exact p37 c39
    · exact n38 c39
set_option maxHeartbeats 4000000 in
theorem m_named_L57_ok {g : GE} (G : GG g) {σ : ST} {Q : VQ} (d : Nat) (hd1 : 1 ≤ d) (u1 : Int) (u2 : Int) (τ : TT)  {K : Int → Prop} (hE106 : ∀ v40 : Int, K (v40) → V g mX4_named d 106 [(0, vr (some (gw g))), (1, vi u1), (2, vi u2), (3, vi v40)] [] σ τ Q) : ∀ (n : Nat) (w3 : Int) (w4 : Int), Sm (V g mX4_named d 57 [(0, vr (some (gw g))), (1, vi u1), (2, vi u2), (3, vi w3), (4, vi w4)] [] σ τ Q) (m_named_L57 u1 u2 τ n w3 w4) K := by
  intro n
  induction n with
  | zero => intro w3 w4; exact sm_none
  | succ n ih =>
    intro w3 w4
    rw [m_named_L57.eq_2]
    refine sm_b (l' := [(0, vr (some (gw g))), (1, vi u1), (2, vi u2), (3, vi w3), (4, vi w4)]) (st' := [vr (some (gw g)), vi w4]) (pc' := 60) [(.iload 4, vi 0, 59), (.aload_n 0, vi 0, 60)] (by decide +kernel) rfl rfl ?_
    refine sm_tg (k := 36) (x := vi (tI τ 36)) G.2.1 q1454 rfl rfl (by decide +kernel) ?_
    refine sm_gd (fun h41 => ?_)
    refine sm_gd (fun h42 => ?_)
    refine sm_case (V g mX4_named d 106 [(0, vr (some (gw g))), (1, vi u1), (2, vi u2), (3, vi w3), (4, vi w4)] [] σ τ Q) (V g mX4_named d 66 [(0, vr (some (gw g))), (1, vi u1), (2, vi u2), (3, vi w3), (4, vi w4)] [] σ τ Q) ?_ ?_ (fun f65 p66 n67 => ?_)
    · refine sm_pick [0, 1, 2, 3] (l' := [(0, vr (some (gw g))), (1, vi u1), (2, vi u2), (3, vi w3)]) rfl ?_
      exact sm_leaf (fun h => hE106 _ h)
    · refine sm_b (l' := [(0, vr (some (gw g))), (1, vi u1), (2, vi u2), (3, vi w3), (4, vi w4)]) (st' := [vr (some (gw g)), vi w3]) (pc' := 68) [(.iload_n 3, vi 0, 67), (.aload_n 0, vi 0, 68)] (by decide +kernel) rfl rfl ?_
      refine sm_tg (k := 18) (x := vr (some (gT g 18))) G.2.1 q1436 rfl rfl (by decide +kernel) ?_
      refine sm_b (l' := [(0, vr (some (gw g))), (1, vi u1), (2, vi u2), (3, vi w3), (4, vi w4)]) (st' := [vi w4, vr (some (gT g 18)), vi w3]) (pc' := 73) [(.iload 4, vi 0, 73)] (by decide +kernel) rfl rfl ?_
      refine sm_gd (fun h47 => ?_)
      refine sm_ial (k := 18) G.2.1 (by decide) rfl (ibt (k := 18) h47) h47 (by decide +kernel) ?_
      refine sm_b (l' := [(0, vr (some (gw g))), (1, vi u1), (2, vi u2), (3, vi w3), (4, vi w4)]) (st' := [vi u2, vi (tA τ 18 w4.toNat), vi w3]) (pc' := 75) [(.iload_n 2, vi 0, 75)] (by decide +kernel) rfl rfl ?_
      refine sm_bind1 (fun (v55 : Int) => V g mX4_named d 98 [(0, vr (some (gw g))), (1, vi u1), (2, vi u2), (4, vi w4)] [vi v55, vi w3] σ τ Q) (fun v55 => ?_) (fun K56 j57 => ?_)
      · refine sm_b (l' := [(0, vr (some (gw g))), (1, vi u1), (2, vi u2), (4, vi w4)]) (st' := [vi (w3 + v55)]) (pc' := 99) [(.iadd, vi 0, 99)] (by decide +kernel) rfl rfl ?_
        refine sm_nmi (fun x59 => ?_)
        refine sm_b (l' := [(0, vr (some (gw g))), (1, vi u1), (2, vi u2), (4, vi (w4 + 1)), (3, vi x59)]) (st' := []) (pc' := 57) [(.istore_n 3, vi 0, 100), (.iinc 4 1, vi 1, 103), (.goto (-46), vi 0, 57)] (by decide +kernel) rfl rfl ?_
        refine sm_pick [0, 1, 2, 4, 3] (l' := [(0, vr (some (gw g))), (1, vi u1), (2, vi u2), (3, vi x59), (4, vi (w4 + 1))]) rfl ?_
        exact ih x59 (w4 + 1)
      · refine sm_gd (fun h48 => ?_)
        refine sm_gd (fun h49 => ?_)
        refine sm_gd (fun h51 => ?_)
        refine sm_gd (fun h52 => ?_)
        refine sm_case (V g mX4_named d 93 [(0, vr (some (gw g))), (1, vi u1), (2, vi u2), (3, vi w3), (4, vi w4)] [vi w3] σ τ Q) (V g mX4_named d 97 [(0, vr (some (gw g))), (1, vi u1), (2, vi u2), (3, vi w3), (4, vi w4)] [vi w3] σ τ Q) ?_ ?_ (fun f60 p61 n62 => ?_)
        · refine sm_b (l' := [(0, vr (some (gw g))), (1, vi u1), (2, vi u2), (3, vi w3), (4, vi w4)]) (st' := [vi 1, vi w3]) (pc' := 98) [(.iconst 1, vi 1, 94), (.goto 4, vi 0, 98)] (by decide +kernel) rfl rfl ?_
          refine sm_pick [0, 1, 2, 4] (l' := [(0, vr (some (gw g))), (1, vi u1), (2, vi u2), (4, vi w4)]) rfl ?_
          exact sm_leaf (fun h => j57 _ h)
        · refine sm_b (l' := [(0, vr (some (gw g))), (1, vi u1), (2, vi u2), (3, vi w3), (4, vi w4)]) (st' := [vi 0, vi w3]) (pc' := 98) [(.iconst 0, vi 0, 98)] (by decide +kernel) rfl rfl ?_
          refine sm_pick [0, 1, 2, 4] (l' := [(0, vr (some (gw g))), (1, vi u1), (2, vi u2), (4, vi w4)]) rfl ?_
          exact sm_leaf (fun h => j57 _ h)
        refine sm_icmp_ne (off := 22) (tgt := 97) h48 h49 (by decide +kernel) (fun c63 => ?_) (fun c63 => ?_)
        · exact n62 (fun q => c63 q.1)
        · have w50 : (tA τ 18 w4.toNat) = u2 := c63
          refine sm_b (l' := [(0, vr (some (gw g))), (1, vi u1), (2, vi u2), (3, vi w3), (4, vi w4)]) (st' := [vr (some (gw g)), vr (some (gw g)), vi w3]) (pc' := 80) [(.aload_n 0, vi 0, 79), (.aload_n 0, vi 0, 80)] (by decide +kernel) rfl rfl ?_
          refine sm_tg (k := 17) (x := vr (some (gT g 17))) G.2.1 q1435 rfl rfl (by decide +kernel) ?_
          refine sm_b (l' := [(0, vr (some (gw g))), (1, vi u1), (2, vi u2), (3, vi w3), (4, vi w4)]) (st' := [vi w4, vr (some (gT g 17)), vr (some (gw g)), vi w3]) (pc' := 85) [(.iload 4, vi 0, 85)] (by decide +kernel) rfl rfl ?_
          refine sm_ial (k := 17) G.2.1 (by decide) rfl (ibt (k := 17) h47) h47 (by decide +kernel) ?_
          refine sm_b (l' := [(0, vr (some (gw g))), (1, vi u1), (2, vi u2), (3, vi w3), (4, vi w4)]) (st' := [vi u1, vi (tA τ 17 w4.toNat), vr (some (gw g)), vi w3]) (pc' := 87) [(.iload_n 1, vi 0, 87)] (by decide +kernel) rfl rfl ?_
          refine sm_cvp (N := mX4_same) (d' := d - 1) (fun r => (some (vi r))) (some (vi (vv (m_same (tA τ 17 w4.toNat) u1 τ)))) (h51 w50) (fun y h => by rw [vv_some h]) [vi (tA τ 17 w4.toNat), vi u1] [vi w3] rfl (by decide +kernel) q1706 q1708 qs65 (Or.inl ⟨rfl, q1709⟩) (show okN yX4_same 2 = true by decide +kernel) (fun H hR => hR.rvw G.1 G.2.1) rfl rfl (by omega) rfl (fun Q' => m_same_ok G (d - 1) (by omega) (tA τ 17 w4.toNat) u1 τ Q') ?_
          refine sm_if_eq (off := 7) (tgt := 97) (h52 w50) (by decide +kernel) (fun c64 => ?_) (fun c64 => ?_)
          · exact n62 (fun q => (fun q => q c64) q.2)
          · exact p61 ⟨c63, c64⟩
    refine sm_icmp_ge (off := 43) (tgt := 106) h41 h42 (by decide +kernel) (fun c68 => ?_) (fun c68 => ?_)
    · exact p66 c68
    · exact n67 c68
set_option maxHeartbeats 4000000 in
theorem m_named_L5_ok {g : GE} (G : GG g) {σ : ST} {Q : VQ} (d : Nat) (hd1 : 1 ≤ d) (u1 : Int) (u2 : Int) (τ : TT)  {K : Int → Prop} (hE54 : ∀ v69 : Int, K (v69) → V g mX4_named d 54 [(0, vr (some (gw g))), (1, vi u1), (2, vi u2), (3, vi v69)] [] σ τ Q) : ∀ (n : Nat) (w3 : Int) (w4 : Int), Sm (V g mX4_named d 5 [(0, vr (some (gw g))), (1, vi u1), (2, vi u2), (3, vi w3), (4, vi w4)] [] σ τ Q) (m_named_L5 u1 u2 τ n w3 w4) K := by
  intro n
  induction n with
  | zero => intro w3 w4; exact sm_none
  | succ n ih =>
    intro w3 w4
    rw [m_named_L5.eq_2]
    refine sm_b (l' := [(0, vr (some (gw g))), (1, vi u1), (2, vi u2), (3, vi w3), (4, vi w4)]) (st' := [vr (some (gw g)), vi w4]) (pc' := 8) [(.iload 4, vi 0, 7), (.aload_n 0, vi 0, 8)] (by decide +kernel) rfl rfl ?_
    refine sm_tg (k := 35) (x := vi (tI τ 35)) G.2.1 q1453 rfl rfl (by decide +kernel) ?_
    refine sm_gd (fun h70 => ?_)
    refine sm_gd (fun h71 => ?_)
    refine sm_case (V g mX4_named d 54 [(0, vr (some (gw g))), (1, vi u1), (2, vi u2), (3, vi w3), (4, vi w4)] [] σ τ Q) (V g mX4_named d 14 [(0, vr (some (gw g))), (1, vi u1), (2, vi u2), (3, vi w3), (4, vi w4)] [] σ τ Q) ?_ ?_ (fun f94 p95 n96 => ?_)
    · refine sm_pick [0, 1, 2, 3] (l' := [(0, vr (some (gw g))), (1, vi u1), (2, vi u2), (3, vi w3)]) rfl ?_
      exact sm_leaf (fun h => hE54 _ h)
    · refine sm_b (l' := [(0, vr (some (gw g))), (1, vi u1), (2, vi u2), (3, vi w3), (4, vi w4)]) (st' := [vr (some (gw g)), vi w3]) (pc' := 16) [(.iload_n 3, vi 0, 15), (.aload_n 0, vi 0, 16)] (by decide +kernel) rfl rfl ?_
      refine sm_tg (k := 16) (x := vr (some (gT g 16))) G.2.1 q1434 rfl rfl (by decide +kernel) ?_
      refine sm_b (l' := [(0, vr (some (gw g))), (1, vi u1), (2, vi u2), (3, vi w3), (4, vi w4)]) (st' := [vi w4, vr (some (gT g 16)), vi w3]) (pc' := 21) [(.iload 4, vi 0, 21)] (by decide +kernel) rfl rfl ?_
      refine sm_gd (fun h76 => ?_)
      refine sm_ial (k := 16) G.2.1 (by decide) rfl (ibt (k := 16) h76) h76 (by decide +kernel) ?_
      refine sm_b (l' := [(0, vr (some (gw g))), (1, vi u1), (2, vi u2), (3, vi w3), (4, vi w4)]) (st' := [vi u2, vi (tA τ 16 w4.toNat), vi w3]) (pc' := 23) [(.iload_n 2, vi 0, 23)] (by decide +kernel) rfl rfl ?_
      refine sm_bind1 (fun (v84 : Int) => V g mX4_named d 46 [(0, vr (some (gw g))), (1, vi u1), (2, vi u2), (4, vi w4)] [vi v84, vi w3] σ τ Q) (fun v84 => ?_) (fun K85 j86 => ?_)
      · refine sm_b (l' := [(0, vr (some (gw g))), (1, vi u1), (2, vi u2), (4, vi w4)]) (st' := [vi (w3 + v84)]) (pc' := 47) [(.iadd, vi 0, 47)] (by decide +kernel) rfl rfl ?_
        refine sm_nmi (fun x88 => ?_)
        refine sm_b (l' := [(0, vr (some (gw g))), (1, vi u1), (2, vi u2), (4, vi (w4 + 1)), (3, vi x88)]) (st' := []) (pc' := 5) [(.istore_n 3, vi 0, 48), (.iinc 4 1, vi 1, 51), (.goto (-46), vi 0, 5)] (by decide +kernel) rfl rfl ?_
        refine sm_pick [0, 1, 2, 4, 3] (l' := [(0, vr (some (gw g))), (1, vi u1), (2, vi u2), (3, vi x88), (4, vi (w4 + 1))]) rfl ?_
        exact ih x88 (w4 + 1)
      · refine sm_gd (fun h77 => ?_)
        refine sm_gd (fun h78 => ?_)
        refine sm_gd (fun h80 => ?_)
        refine sm_gd (fun h81 => ?_)
        refine sm_case (V g mX4_named d 41 [(0, vr (some (gw g))), (1, vi u1), (2, vi u2), (3, vi w3), (4, vi w4)] [vi w3] σ τ Q) (V g mX4_named d 45 [(0, vr (some (gw g))), (1, vi u1), (2, vi u2), (3, vi w3), (4, vi w4)] [vi w3] σ τ Q) ?_ ?_ (fun f89 p90 n91 => ?_)
        · refine sm_b (l' := [(0, vr (some (gw g))), (1, vi u1), (2, vi u2), (3, vi w3), (4, vi w4)]) (st' := [vi 1, vi w3]) (pc' := 46) [(.iconst 1, vi 1, 42), (.goto 4, vi 0, 46)] (by decide +kernel) rfl rfl ?_
          refine sm_pick [0, 1, 2, 4] (l' := [(0, vr (some (gw g))), (1, vi u1), (2, vi u2), (4, vi w4)]) rfl ?_
          exact sm_leaf (fun h => j86 _ h)
        · refine sm_b (l' := [(0, vr (some (gw g))), (1, vi u1), (2, vi u2), (3, vi w3), (4, vi w4)]) (st' := [vi 0, vi w3]) (pc' := 46) [(.iconst 0, vi 0, 46)] (by decide +kernel) rfl rfl ?_
          refine sm_pick [0, 1, 2, 4] (l' := [(0, vr (some (gw g))), (1, vi u1), (2, vi u2), (4, vi w4)]) rfl ?_
          exact sm_leaf (fun h => j86 _ h)
        refine sm_icmp_ne (off := 22) (tgt := 45) h77 h78 (by decide +kernel) (fun c92 => ?_) (fun c92 => ?_)
        · exact n91 (fun q => c92 q.1)
        · have w79 : (tA τ 16 w4.toNat) = u2 := c92
          refine sm_b (l' := [(0, vr (some (gw g))), (1, vi u1), (2, vi u2), (3, vi w3), (4, vi w4)]) (st' := [vr (some (gw g)), vr (some (gw g)), vi w3]) (pc' := 28) [(.aload_n 0, vi 0, 27), (.aload_n 0, vi 0, 28)] (by decide +kernel) rfl rfl ?_
          refine sm_tg (k := 15) (x := vr (some (gT g 15))) G.2.1 q1433 rfl rfl (by decide +kernel) ?_
          refine sm_b (l' := [(0, vr (some (gw g))), (1, vi u1), (2, vi u2), (3, vi w3), (4, vi w4)]) (st' := [vi w4, vr (some (gT g 15)), vr (some (gw g)), vi w3]) (pc' := 33) [(.iload 4, vi 0, 33)] (by decide +kernel) rfl rfl ?_
          refine sm_ial (k := 15) G.2.1 (by decide) rfl (ibt (k := 15) h76) h76 (by decide +kernel) ?_
          refine sm_b (l' := [(0, vr (some (gw g))), (1, vi u1), (2, vi u2), (3, vi w3), (4, vi w4)]) (st' := [vi u1, vi (tA τ 15 w4.toNat), vr (some (gw g)), vi w3]) (pc' := 35) [(.iload_n 1, vi 0, 35)] (by decide +kernel) rfl rfl ?_
          refine sm_cvp (N := mX4_same) (d' := d - 1) (fun r => (some (vi r))) (some (vi (vv (m_same (tA τ 15 w4.toNat) u1 τ)))) (h80 w79) (fun y h => by rw [vv_some h]) [vi (tA τ 15 w4.toNat), vi u1] [vi w3] rfl (by decide +kernel) q1706 q1708 qs65 (Or.inl ⟨rfl, q1709⟩) (show okN yX4_same 2 = true by decide +kernel) (fun H hR => hR.rvw G.1 G.2.1) rfl rfl (by omega) rfl (fun Q' => m_same_ok G (d - 1) (by omega) (tA τ 15 w4.toNat) u1 τ Q') ?_
          refine sm_if_eq (off := 7) (tgt := 45) (h81 w79) (by decide +kernel) (fun c93 => ?_) (fun c93 => ?_)
          · exact n91 (fun q => (fun q => q c93) q.2)
          · exact p90 ⟨c92, c93⟩
    refine sm_icmp_ge (off := 43) (tgt := 54) h70 h71 (by decide +kernel) (fun c97 => ?_) (fun c97 => ?_)
    · exact p95 c97
    · exact n96 c97
set_option maxHeartbeats 4000000 in
theorem m_named_ok {g : GE} (G : GG g) {σ : ST} (d : Nat) (hd1 : 1 ≤ d) (a1 : Int) (a2 : Int)  (τ : TT) (Q : VQ) : Sm (V g mX4_named d 0 [(0, vr (some (gw g))), (1, vi a1), (2, vi a2)] [] σ τ Q) (m_named a1 a2 τ) (fun r => Q.1 (some (vi r)) σ τ) := by
  unfold m_named
  refine sm_top (fun K hRET => ?_)
  refine sm_b (l' := [(0, vr (some (gw g))), (1, vi a1), (2, vi a2), (3, vi 0), (4, vi 0)]) (st' := []) (pc' := 5) [(.iconst 0, vi 0, 1), (.istore_n 3, vi 0, 2), (.iconst 0, vi 0, 3), (.istore 4, vi 0, 5)] (by decide +kernel) rfl rfl ?_
  refine sm_bind1 (fun (v1 : Int) => V g mX4_named d 54 [(0, vr (some (gw g))), (1, vi a1), (2, vi a2), (3, vi v1)] [] σ τ Q) (fun v1 => ?_) (fun K2 j3 => ?_)
  · refine sm_b (l' := [(0, vr (some (gw g))), (1, vi a1), (2, vi a2), (3, vi v1), (4, vi 0)]) (st' := []) (pc' := 57) [(.iconst 0, vi 0, 55), (.istore 4, vi 0, 57)] (by decide +kernel) rfl rfl ?_
    refine sm_bind1 (fun (v5 : Int) => V g mX4_named d 106 [(0, vr (some (gw g))), (1, vi a1), (2, vi a2), (3, vi v5)] [] σ τ Q) (fun v5 => ?_) (fun K6 j7 => ?_)
    · refine sm_b (l' := [(0, vr (some (gw g))), (1, vi a1), (2, vi a2), (3, vi v5), (4, vi 0)]) (st' := []) (pc' := 109) [(.iconst 0, vi 0, 107), (.istore 4, vi 0, 109)] (by decide +kernel) rfl rfl ?_
      exact m_named_L109_ok G d hd1 a1 a2 τ  (fun r h => hRET _ h) FU v5 0
    · exact m_named_L57_ok G d hd1 a1 a2 τ  (fun _ h => j7 _ h) FU v1 0
  · exact m_named_L5_ok G d hd1 a1 a2 τ  (fun _ h => j3 _ h) FU 0 0
def m_fieldsNamed_L57 (u1 : Int) (u2 : Int) (τ : TT) : Nat → Int → Int → Option (Int)
  | 0, _, _ => none
  | n + 1, w3, w4 => gd (rg w4) (gd (rg (tI τ 39)) (if (tI τ 39) ≤ w4 then (some w3) else (gd (ib w4 12) (Option.bind (gd (rg (tA τ 32 w4.toNat)) (gd (rg u2) (gd ((tA τ 32 w4.toNat) = u2 → ok (m_same (tA τ 31 w4.toNat) u1 τ)) (gd ((tA τ 32 w4.toNat) = u2 → rg (vv (m_same (tA τ 31 w4.toNat) u1 τ))) (if ((tA τ 32 w4.toNat) = u2) ∧ (¬ ((vv (m_same (tA τ 31 w4.toNat) u1 τ)) = 0)) then (some 1) else (some 0)))))) fun (v20 : Int) => nm (w3 + v20) fun x24 => m_fieldsNamed_L57 u1 u2 τ n x24 (w4 + 1)))))
def m_fieldsNamed_L5 (u1 : Int) (u2 : Int) (τ : TT) : Nat → Int → Int → Option (Int)
  | 0, _, _ => none
  | n + 1, w3, w4 => gd (rg w4) (gd (rg (tI τ 38)) (if (tI τ 38) ≤ w4 then (some w3) else (gd (ib w4 50) (Option.bind (gd (rg (tA τ 23 w4.toNat)) (gd (rg u2) (gd ((tA τ 23 w4.toNat) = u2 → ok (m_same (tA τ 22 w4.toNat) u1 τ)) (gd ((tA τ 23 w4.toNat) = u2 → rg (vv (m_same (tA τ 22 w4.toNat) u1 τ))) (if ((tA τ 23 w4.toNat) = u2) ∧ (¬ ((vv (m_same (tA τ 22 w4.toNat) u1 τ)) = 0)) then (some 1) else (some 0)))))) fun (v49 : Int) => nm (w3 + v49) fun x53 => m_fieldsNamed_L5 u1 u2 τ n x53 (w4 + 1)))))
def m_fieldsNamed (a1 : Int) (a2 : Int) (τ : TT) : Option (Int) := Option.bind (m_fieldsNamed_L5 a1 a2 τ FU 0 0) fun (v1 : Int) => m_fieldsNamed_L57 a1 a2 τ FU v1 0
set_option maxHeartbeats 4000000 in
theorem m_fieldsNamed_L57_ok {g : GE} (G : GG g) {σ : ST} {Q : VQ} (d : Nat) (hd1 : 1 ≤ d) (u1 : Int) (u2 : Int) (τ : TT)  {K : Int → Prop} (hRET : ∀ r : Int, K (r) → Q.1 (some (vi r)) σ τ) : ∀ (n : Nat) (w3 : Int) (w4 : Int), Sm (V g mX4_fieldsNamed d 57 [(0, vr (some (gw g))), (1, vi u1), (2, vi u2), (3, vi w3), (4, vi w4)] [] σ τ Q) (m_fieldsNamed_L57 u1 u2 τ n w3 w4) K := by
  intro n
  induction n with
  | zero => intro w3 w4; exact sm_none
  | succ n ih =>
    intro w3 w4
    rw [m_fieldsNamed_L57.eq_2]
    refine sm_b (l' := [(0, vr (some (gw g))), (1, vi u1), (2, vi u2), (3, vi w3), (4, vi w4)]) (st' := [vr (some (gw g)), vi w4]) (pc' := 60) [(.iload 4, vi 0, 59), (.aload_n 0, vi 0, 60)] (by decide +kernel) rfl rfl ?_
    refine sm_tg (k := 39) (x := vi (tI τ 39)) G.2.1 q1457 rfl rfl (by decide +kernel) ?_
    refine sm_gd (fun h5 => ?_)
    refine sm_gd (fun h6 => ?_)
    refine sm_case (V g mX4_fieldsNamed d 106 [(0, vr (some (gw g))), (1, vi u1), (2, vi u2), (3, vi w3), (4, vi w4)] [] σ τ Q) (V g mX4_fieldsNamed d 66 [(0, vr (some (gw g))), (1, vi u1), (2, vi u2), (3, vi w3), (4, vi w4)] [] σ τ Q) ?_ ?_ (fun f30 p31 n32 => ?_)
    · refine sm_b (l' := [(0, vr (some (gw g))), (1, vi u1), (2, vi u2), (3, vi w3), (4, vi w4)]) (st' := [vi w3]) (pc' := 107) [(.iload_n 3, vi 0, 107)] (by decide +kernel) rfl rfl ?_
      exact sm_iret rfl (by decide +kernel) (fun h => hRET _ h)
    · refine sm_b (l' := [(0, vr (some (gw g))), (1, vi u1), (2, vi u2), (3, vi w3), (4, vi w4)]) (st' := [vr (some (gw g)), vi w3]) (pc' := 68) [(.iload_n 3, vi 0, 67), (.aload_n 0, vi 0, 68)] (by decide +kernel) rfl rfl ?_
      refine sm_tg (k := 32) (x := vr (some (gT g 32))) G.2.1 q1450 rfl rfl (by decide +kernel) ?_
      refine sm_b (l' := [(0, vr (some (gw g))), (1, vi u1), (2, vi u2), (3, vi w3), (4, vi w4)]) (st' := [vi w4, vr (some (gT g 32)), vi w3]) (pc' := 73) [(.iload 4, vi 0, 73)] (by decide +kernel) rfl rfl ?_
      refine sm_gd (fun h12 => ?_)
      refine sm_ial (k := 32) G.2.1 (by decide) rfl (ibt (k := 32) h12) h12 (by decide +kernel) ?_
      refine sm_b (l' := [(0, vr (some (gw g))), (1, vi u1), (2, vi u2), (3, vi w3), (4, vi w4)]) (st' := [vi u2, vi (tA τ 32 w4.toNat), vi w3]) (pc' := 75) [(.iload_n 2, vi 0, 75)] (by decide +kernel) rfl rfl ?_
      refine sm_bind1 (fun (v20 : Int) => V g mX4_fieldsNamed d 98 [(0, vr (some (gw g))), (1, vi u1), (2, vi u2), (4, vi w4)] [vi v20, vi w3] σ τ Q) (fun v20 => ?_) (fun K21 j22 => ?_)
      · refine sm_b (l' := [(0, vr (some (gw g))), (1, vi u1), (2, vi u2), (4, vi w4)]) (st' := [vi (w3 + v20)]) (pc' := 99) [(.iadd, vi 0, 99)] (by decide +kernel) rfl rfl ?_
        refine sm_nmi (fun x24 => ?_)
        refine sm_b (l' := [(0, vr (some (gw g))), (1, vi u1), (2, vi u2), (4, vi (w4 + 1)), (3, vi x24)]) (st' := []) (pc' := 57) [(.istore_n 3, vi 0, 100), (.iinc 4 1, vi 1, 103), (.goto (-46), vi 0, 57)] (by decide +kernel) rfl rfl ?_
        refine sm_pick [0, 1, 2, 4, 3] (l' := [(0, vr (some (gw g))), (1, vi u1), (2, vi u2), (3, vi x24), (4, vi (w4 + 1))]) rfl ?_
        exact ih x24 (w4 + 1)
      · refine sm_gd (fun h13 => ?_)
        refine sm_gd (fun h14 => ?_)
        refine sm_gd (fun h16 => ?_)
        refine sm_gd (fun h17 => ?_)
        refine sm_case (V g mX4_fieldsNamed d 93 [(0, vr (some (gw g))), (1, vi u1), (2, vi u2), (3, vi w3), (4, vi w4)] [vi w3] σ τ Q) (V g mX4_fieldsNamed d 97 [(0, vr (some (gw g))), (1, vi u1), (2, vi u2), (3, vi w3), (4, vi w4)] [vi w3] σ τ Q) ?_ ?_ (fun f25 p26 n27 => ?_)
        · refine sm_b (l' := [(0, vr (some (gw g))), (1, vi u1), (2, vi u2), (3, vi w3), (4, vi w4)]) (st' := [vi 1, vi w3]) (pc' := 98) [(.iconst 1, vi 1, 94), (.goto 4, vi 0, 98)] (by decide +kernel) rfl rfl ?_
          refine sm_pick [0, 1, 2, 4] (l' := [(0, vr (some (gw g))), (1, vi u1), (2, vi u2), (4, vi w4)]) rfl ?_
          exact sm_leaf (fun h => j22 _ h)
        · refine sm_b (l' := [(0, vr (some (gw g))), (1, vi u1), (2, vi u2), (3, vi w3), (4, vi w4)]) (st' := [vi 0, vi w3]) (pc' := 98) [(.iconst 0, vi 0, 98)] (by decide +kernel) rfl rfl ?_
          refine sm_pick [0, 1, 2, 4] (l' := [(0, vr (some (gw g))), (1, vi u1), (2, vi u2), (4, vi w4)]) rfl ?_
          exact sm_leaf (fun h => j22 _ h)
        refine sm_icmp_ne (off := 22) (tgt := 97) h13 h14 (by decide +kernel) (fun c28 => ?_) (fun c28 => ?_)
        · exact n27 (fun q => c28 q.1)
        · have w15 : (tA τ 32 w4.toNat) = u2 := c28
          refine sm_b (l' := [(0, vr (some (gw g))), (1, vi u1), (2, vi u2), (3, vi w3), (4, vi w4)]) (st' := [vr (some (gw g)), vr (some (gw g)), vi w3]) (pc' := 80) [(.aload_n 0, vi 0, 79), (.aload_n 0, vi 0, 80)] (by decide +kernel) rfl rfl ?_
          refine sm_tg (k := 31) (x := vr (some (gT g 31))) G.2.1 q1449 rfl rfl (by decide +kernel) ?_
          refine sm_b (l' := [(0, vr (some (gw g))), (1, vi u1), (2, vi u2), (3, vi w3), (4, vi w4)]) (st' := [vi w4, vr (some (gT g 31)), vr (some (gw g)), vi w3]) (pc' := 85) [(.iload 4, vi 0, 85)] (by decide +kernel) rfl rfl ?_
          refine sm_ial (k := 31) G.2.1 (by decide) rfl (ibt (k := 31) h12) h12 (by decide +kernel) ?_
          refine sm_b (l' := [(0, vr (some (gw g))), (1, vi u1), (2, vi u2), (3, vi w3), (4, vi w4)]) (st' := [vi u1, vi (tA τ 31 w4.toNat), vr (some (gw g)), vi w3]) (pc' := 87) [(.iload_n 1, vi 0, 87)] (by decide +kernel) rfl rfl ?_
          refine sm_cvp (N := mX4_same) (d' := d - 1) (fun r => (some (vi r))) (some (vi (vv (m_same (tA τ 31 w4.toNat) u1 τ)))) (h16 w15) (fun y h => by rw [vv_some h]) [vi (tA τ 31 w4.toNat), vi u1] [vi w3] rfl (by decide +kernel) q1706 q1708 qs65 (Or.inl ⟨rfl, q1709⟩) (show okN yX4_same 2 = true by decide +kernel) (fun H hR => hR.rvw G.1 G.2.1) rfl rfl (by omega) rfl (fun Q' => m_same_ok G (d - 1) (by omega) (tA τ 31 w4.toNat) u1 τ Q') ?_
          refine sm_if_eq (off := 7) (tgt := 97) (h17 w15) (by decide +kernel) (fun c29 => ?_) (fun c29 => ?_)
          · exact n27 (fun q => (fun q => q c29) q.2)
          · exact p26 ⟨c28, c29⟩
    refine sm_icmp_ge (off := 43) (tgt := 106) h5 h6 (by decide +kernel) (fun c33 => ?_) (fun c33 => ?_)
    · exact p31 c33
    · exact n32 c33
set_option maxHeartbeats 4000000 in
theorem m_fieldsNamed_L5_ok {g : GE} (G : GG g) {σ : ST} {Q : VQ} (d : Nat) (hd1 : 1 ≤ d) (u1 : Int) (u2 : Int) (τ : TT)  {K : Int → Prop} (hE54 : ∀ v34 : Int, K (v34) → V g mX4_fieldsNamed d 54 [(0, vr (some (gw g))), (1, vi u1), (2, vi u2), (3, vi v34)] [] σ τ Q) : ∀ (n : Nat) (w3 : Int) (w4 : Int), Sm (V g mX4_fieldsNamed d 5 [(0, vr (some (gw g))), (1, vi u1), (2, vi u2), (3, vi w3), (4, vi w4)] [] σ τ Q) (m_fieldsNamed_L5 u1 u2 τ n w3 w4) K := by
  intro n
  induction n with
  | zero => intro w3 w4; exact sm_none
  | succ n ih =>
    intro w3 w4
    rw [m_fieldsNamed_L5.eq_2]
    refine sm_b (l' := [(0, vr (some (gw g))), (1, vi u1), (2, vi u2), (3, vi w3), (4, vi w4)]) (st' := [vr (some (gw g)), vi w4]) (pc' := 8) [(.iload 4, vi 0, 7), (.aload_n 0, vi 0, 8)] (by decide +kernel) rfl rfl ?_
    refine sm_tg (k := 38) (x := vi (tI τ 38)) G.2.1 q1456 rfl rfl (by decide +kernel) ?_
    refine sm_gd (fun h35 => ?_)
    refine sm_gd (fun h36 => ?_)
    refine sm_case (V g mX4_fieldsNamed d 54 [(0, vr (some (gw g))), (1, vi u1), (2, vi u2), (3, vi w3), (4, vi w4)] [] σ τ Q) (V g mX4_fieldsNamed d 14 [(0, vr (some (gw g))), (1, vi u1), (2, vi u2), (3, vi w3), (4, vi w4)] [] σ τ Q) ?_ ?_ (fun f59 p60 n61 => ?_)
    · refine sm_pick [0, 1, 2, 3] (l' := [(0, vr (some (gw g))), (1, vi u1), (2, vi u2), (3, vi w3)]) rfl ?_
      exact sm_leaf (fun h => hE54 _ h)
    · refine sm_b (l' := [(0, vr (some (gw g))), (1, vi u1), (2, vi u2), (3, vi w3), (4, vi w4)]) (st' := [vr (some (gw g)), vi w3]) (pc' := 16) [(.iload_n 3, vi 0, 15), (.aload_n 0, vi 0, 16)] (by decide +kernel) rfl rfl ?_
      refine sm_tg (k := 23) (x := vr (some (gT g 23))) G.2.1 q1441 rfl rfl (by decide +kernel) ?_
      refine sm_b (l' := [(0, vr (some (gw g))), (1, vi u1), (2, vi u2), (3, vi w3), (4, vi w4)]) (st' := [vi w4, vr (some (gT g 23)), vi w3]) (pc' := 21) [(.iload 4, vi 0, 21)] (by decide +kernel) rfl rfl ?_
      refine sm_gd (fun h41 => ?_)
      refine sm_ial (k := 23) G.2.1 (by decide) rfl (ibt (k := 23) h41) h41 (by decide +kernel) ?_
      refine sm_b (l' := [(0, vr (some (gw g))), (1, vi u1), (2, vi u2), (3, vi w3), (4, vi w4)]) (st' := [vi u2, vi (tA τ 23 w4.toNat), vi w3]) (pc' := 23) [(.iload_n 2, vi 0, 23)] (by decide +kernel) rfl rfl ?_
      refine sm_bind1 (fun (v49 : Int) => V g mX4_fieldsNamed d 46 [(0, vr (some (gw g))), (1, vi u1), (2, vi u2), (4, vi w4)] [vi v49, vi w3] σ τ Q) (fun v49 => ?_) (fun K50 j51 => ?_)
      · refine sm_b (l' := [(0, vr (some (gw g))), (1, vi u1), (2, vi u2), (4, vi w4)]) (st' := [vi (w3 + v49)]) (pc' := 47) [(.iadd, vi 0, 47)] (by decide +kernel) rfl rfl ?_
        refine sm_nmi (fun x53 => ?_)
        refine sm_b (l' := [(0, vr (some (gw g))), (1, vi u1), (2, vi u2), (4, vi (w4 + 1)), (3, vi x53)]) (st' := []) (pc' := 5) [(.istore_n 3, vi 0, 48), (.iinc 4 1, vi 1, 51), (.goto (-46), vi 0, 5)] (by decide +kernel) rfl rfl ?_
        refine sm_pick [0, 1, 2, 4, 3] (l' := [(0, vr (some (gw g))), (1, vi u1), (2, vi u2), (3, vi x53), (4, vi (w4 + 1))]) rfl ?_
        exact ih x53 (w4 + 1)
      · refine sm_gd (fun h42 => ?_)
        refine sm_gd (fun h43 => ?_)
        refine sm_gd (fun h45 => ?_)
        refine sm_gd (fun h46 => ?_)
        refine sm_case (V g mX4_fieldsNamed d 41 [(0, vr (some (gw g))), (1, vi u1), (2, vi u2), (3, vi w3), (4, vi w4)] [vi w3] σ τ Q) (V g mX4_fieldsNamed d 45 [(0, vr (some (gw g))), (1, vi u1), (2, vi u2), (3, vi w3), (4, vi w4)] [vi w3] σ τ Q) ?_ ?_ (fun f54 p55 n56 => ?_)
        · refine sm_b (l' := [(0, vr (some (gw g))), (1, vi u1), (2, vi u2), (3, vi w3), (4, vi w4)]) (st' := [vi 1, vi w3]) (pc' := 46) [(.iconst 1, vi 1, 42), (.goto 4, vi 0, 46)] (by decide +kernel) rfl rfl ?_
          refine sm_pick [0, 1, 2, 4] (l' := [(0, vr (some (gw g))), (1, vi u1), (2, vi u2), (4, vi w4)]) rfl ?_
          exact sm_leaf (fun h => j51 _ h)
        · refine sm_b (l' := [(0, vr (some (gw g))), (1, vi u1), (2, vi u2), (3, vi w3), (4, vi w4)]) (st' := [vi 0, vi w3]) (pc' := 46) [(.iconst 0, vi 0, 46)] (by decide +kernel) rfl rfl ?_
          refine sm_pick [0, 1, 2, 4] (l' := [(0, vr (some (gw g))), (1, vi u1), (2, vi u2), (4, vi w4)]) rfl ?_
          exact sm_leaf (fun h => j51 _ h)
        refine sm_icmp_ne (off := 22) (tgt := 45) h42 h43 (by decide +kernel) (fun c57 => ?_) (fun c57 => ?_)
        · exact n56 (fun q => c57 q.1)
        · have w44 : (tA τ 23 w4.toNat) = u2 := c57
          refine sm_b (l' := [(0, vr (some (gw g))), (1, vi u1), (2, vi u2), (3, vi w3), (4, vi w4)]) (st' := [vr (some (gw g)), vr (some (gw g)), vi w3]) (pc' := 28) [(.aload_n 0, vi 0, 27), (.aload_n 0, vi 0, 28)] (by decide +kernel) rfl rfl ?_
          refine sm_tg (k := 22) (x := vr (some (gT g 22))) G.2.1 q1440 rfl rfl (by decide +kernel) ?_
          refine sm_b (l' := [(0, vr (some (gw g))), (1, vi u1), (2, vi u2), (3, vi w3), (4, vi w4)]) (st' := [vi w4, vr (some (gT g 22)), vr (some (gw g)), vi w3]) (pc' := 33) [(.iload 4, vi 0, 33)] (by decide +kernel) rfl rfl ?_
          refine sm_ial (k := 22) G.2.1 (by decide) rfl (ibt (k := 22) h41) h41 (by decide +kernel) ?_
          refine sm_b (l' := [(0, vr (some (gw g))), (1, vi u1), (2, vi u2), (3, vi w3), (4, vi w4)]) (st' := [vi u1, vi (tA τ 22 w4.toNat), vr (some (gw g)), vi w3]) (pc' := 35) [(.iload_n 1, vi 0, 35)] (by decide +kernel) rfl rfl ?_
          refine sm_cvp (N := mX4_same) (d' := d - 1) (fun r => (some (vi r))) (some (vi (vv (m_same (tA τ 22 w4.toNat) u1 τ)))) (h45 w44) (fun y h => by rw [vv_some h]) [vi (tA τ 22 w4.toNat), vi u1] [vi w3] rfl (by decide +kernel) q1706 q1708 qs65 (Or.inl ⟨rfl, q1709⟩) (show okN yX4_same 2 = true by decide +kernel) (fun H hR => hR.rvw G.1 G.2.1) rfl rfl (by omega) rfl (fun Q' => m_same_ok G (d - 1) (by omega) (tA τ 22 w4.toNat) u1 τ Q') ?_
          refine sm_if_eq (off := 7) (tgt := 45) (h46 w44) (by decide +kernel) (fun c58 => ?_) (fun c58 => ?_)
          · exact n56 (fun q => (fun q => q c58) q.2)
          · exact p55 ⟨c57, c58⟩
    refine sm_icmp_ge (off := 43) (tgt := 54) h35 h36 (by decide +kernel) (fun c62 => ?_) (fun c62 => ?_)
    · exact p60 c62
    · exact n61 c62
set_option maxHeartbeats 4000000 in
theorem m_fieldsNamed_ok {g : GE} (G : GG g) {σ : ST} (d : Nat) (hd1 : 1 ≤ d) (a1 : Int) (a2 : Int)  (τ : TT) (Q : VQ) : Sm (V g mX4_fieldsNamed d 0 [(0, vr (some (gw g))), (1, vi a1), (2, vi a2)] [] σ τ Q) (m_fieldsNamed a1 a2 τ) (fun r => Q.1 (some (vi r)) σ τ) := by
  unfold m_fieldsNamed
  refine sm_top (fun K hRET => ?_)
  refine sm_b (l' := [(0, vr (some (gw g))), (1, vi a1), (2, vi a2), (3, vi 0), (4, vi 0)]) (st' := []) (pc' := 5) [(.iconst 0, vi 0, 1), (.istore_n 3, vi 0, 2), (.iconst 0, vi 0, 3), (.istore 4, vi 0, 5)] (by decide +kernel) rfl rfl ?_
  refine sm_bind1 (fun (v1 : Int) => V g mX4_fieldsNamed d 54 [(0, vr (some (gw g))), (1, vi a1), (2, vi a2), (3, vi v1)] [] σ τ Q) (fun v1 => ?_) (fun K2 j3 => ?_)
  · refine sm_b (l' := [(0, vr (some (gw g))), (1, vi a1), (2, vi a2), (3, vi v1), (4, vi 0)]) (st' := []) (pc' := 57) [(.iconst 0, vi 0, 55), (.istore 4, vi 0, 57)] (by decide +kernel) rfl rfl ?_
    exact m_fieldsNamed_L57_ok G d hd1 a1 a2 τ  (fun r h => hRET _ h) FU v1 0
  · exact m_fieldsNamed_L5_ok G d hd1 a1 a2 τ  (fun _ h => j3 _ h) FU 0 0
def m_namesTwice_L193 (τ : TT) : Nat → Int → Int → Option (Int)
  | 0, _, _ => none
  | n + 1, w1, w2 => gd (rg w2) (gd (rg (tI τ 39)) (if (tI τ 39) ≤ w2 then (gd (zb w1) (some w1)) else (Option.bind (gd (rg w1) (gd (w1 = 0 → ib w2 12) (gd (w1 = 0 → ok (m_fieldsNamed (tA τ 31 w2.toNat) (tA τ 32 w2.toNat) τ)) (gd (w1 = 0 → rg (vv (m_fieldsNamed (tA τ 31 w2.toNat) (tA τ 32 w2.toNat) τ))) (if (w1 = 0) ∧ ((vv (m_fieldsNamed (tA τ 31 w2.toNat) (tA τ 32 w2.toNat) τ)) ≤ 1) then (some 0) else (some 1)))))) fun (v30 : Int) => m_namesTwice_L193 τ n v30 (w2 + 1))))
def m_namesTwice_L147 (τ : TT) : Nat → Int → Int → Option (Int)
  | 0, _, _ => none
  | n + 1, w1, w2 => gd (rg w2) (gd (rg (tI τ 38)) (if (tI τ 38) ≤ w2 then (some w1) else (Option.bind (gd (rg w1) (gd (w1 = 0 → ib w2 50) (gd (w1 = 0 → ok (m_fieldsNamed (tA τ 22 w2.toNat) (tA τ 23 w2.toNat) τ)) (gd (w1 = 0 → rg (vv (m_fieldsNamed (tA τ 22 w2.toNat) (tA τ 23 w2.toNat) τ))) (if (w1 = 0) ∧ ((vv (m_fieldsNamed (tA τ 22 w2.toNat) (tA τ 23 w2.toNat) τ)) ≤ 1) then (some 0) else (some 1)))))) fun (v55 : Int) => m_namesTwice_L147 τ n v55 (w2 + 1))))
def m_namesTwice_L96 (τ : TT) : Nat → Int → Int → Option (Int)
  | 0, _, _ => none
  | n + 1, w1, w2 => gd (rg w2) (gd (rg (tI τ 37)) (if (tI τ 37) ≤ w2 then (some w1) else (Option.bind (gd (rg w1) (gd (w1 = 0 → ib w2 40) (gd (w1 = 0 → ib (tA τ 21 w2.toNat) 6) (gd (w1 = 0 → ok (m_named (tA τ 19 w2.toNat) (tA τ 18 (tA τ 21 w2.toNat).toNat) τ)) (gd (w1 = 0 → rg (vv (m_named (tA τ 19 w2.toNat) (tA τ 18 (tA τ 21 w2.toNat).toNat) τ))) (if (w1 = 0) ∧ ((vv (m_named (tA τ 19 w2.toNat) (tA τ 18 (tA τ 21 w2.toNat).toNat) τ)) ≤ 1) then (some 0) else (some 1))))))) fun (v81 : Int) => m_namesTwice_L96 τ n v81 (w2 + 1))))
def m_namesTwice_L50 (τ : TT) : Nat → Int → Int → Option (Int)
  | 0, _, _ => none
  | n + 1, w1, w2 => gd (rg w2) (gd (rg (tI τ 36)) (if (tI τ 36) ≤ w2 then (some w1) else (Option.bind (gd (rg w1) (gd (w1 = 0 → ib w2 6) (gd (w1 = 0 → ok (m_named (tA τ 17 w2.toNat) (tA τ 18 w2.toNat) τ)) (gd (w1 = 0 → rg (vv (m_named (tA τ 17 w2.toNat) (tA τ 18 w2.toNat) τ))) (if (w1 = 0) ∧ ((vv (m_named (tA τ 17 w2.toNat) (tA τ 18 w2.toNat) τ)) ≤ 1) then (some 0) else (some 1)))))) fun (v106 : Int) => m_namesTwice_L50 τ n v106 (w2 + 1))))
def m_namesTwice_L4 (τ : TT) : Nat → Int → Int → Option (Int)
  | 0, _, _ => none
  | n + 1, w1, w2 => gd (rg w2) (gd (rg (tI τ 35)) (if (tI τ 35) ≤ w2 then (some w1) else (Option.bind (gd (rg w1) (gd (w1 = 0 → ib w2 10) (gd (w1 = 0 → ok (m_named (tA τ 15 w2.toNat) (tA τ 16 w2.toNat) τ)) (gd (w1 = 0 → rg (vv (m_named (tA τ 15 w2.toNat) (tA τ 16 w2.toNat) τ))) (if (w1 = 0) ∧ ((vv (m_named (tA τ 15 w2.toNat) (tA τ 16 w2.toNat) τ)) ≤ 1) then (some 0) else (some 1)))))) fun (v131 : Int) => m_namesTwice_L4 τ n v131 (w2 + 1))))
def m_namesTwice  (τ : TT) : Option (Int) := Option.bind (m_namesTwice_L4 τ FU 0 0) fun (v1 : Int) => Option.bind (m_namesTwice_L50 τ FU v1 0) fun (v5 : Int) => Option.bind (m_namesTwice_L96 τ FU v5 0) fun (v9 : Int) => Option.bind (m_namesTwice_L147 τ FU v9 0) fun (v13 : Int) => m_namesTwice_L193 τ FU v13 0
set_option maxHeartbeats 4000000 in
theorem m_namesTwice_L193_ok {g : GE} (G : GG g) {σ : ST} {Q : VQ} (d : Nat) (hd1 : 2 ≤ d) (τ : TT)  {K : Int → Prop} (hRET : ∀ r : Int, K (r) → Q.1 (some (vi r)) σ τ) : ∀ (n : Nat) (w1 : Int) (w2 : Int), Sm (V g mX4_namesTwice d 193 [(0, vr (some (gw g))), (1, vi w1), (2, vi w2)] [] σ τ Q) (m_namesTwice_L193 τ n w1 w2) K := by
  intro n
  induction n with
  | zero => intro w1 w2; exact sm_none
  | succ n ih =>
    intro w1 w2
    rw [m_namesTwice_L193.eq_2]
    refine sm_b (l' := [(0, vr (some (gw g))), (1, vi w1), (2, vi w2)]) (st' := [vr (some (gw g)), vi w2]) (pc' := 195) [(.iload_n 2, vi 0, 194), (.aload_n 0, vi 0, 195)] (by decide +kernel) rfl rfl ?_
    refine sm_tg (k := 39) (x := vi (tI τ 39)) G.2.1 q1457 rfl rfl (by decide +kernel) ?_
    refine sm_gd (fun h17 => ?_)
    refine sm_gd (fun h18 => ?_)
    refine sm_case (V g mX4_namesTwice d 237 [(0, vr (some (gw g))), (1, vi w1), (2, vi w2)] [] σ τ Q) (V g mX4_namesTwice d 201 [(0, vr (some (gw g))), (1, vi w1), (2, vi w2)] [] σ τ Q) ?_ ?_ (fun f39 p40 n41 => ?_)
    · refine sm_b (l' := [(0, vr (some (gw g))), (1, vi w1), (2, vi w2)]) (st' := [vi w1]) (pc' := 238) [(.iload_n 1, vi 0, 238)] (by decide +kernel) rfl rfl ?_
      refine sm_gd (fun h22 => ?_)
      exact sm_zret rfl (by decide +kernel) h22 (fun h => hRET _ h)
    · refine sm_b (l' := [(0, vr (some (gw g))), (1, vi w1), (2, vi w2)]) (st' := [vi w1]) (pc' := 202) [(.iload_n 1, vi 0, 202)] (by decide +kernel) rfl rfl ?_
      refine sm_bind1 (fun (v30 : Int) => V g mX4_namesTwice d 230 [(0, vr (some (gw g))), (2, vi w2)] [vi v30] σ τ Q) (fun v30 => ?_) (fun K31 j32 => ?_)
      · refine sm_b (l' := [(0, vr (some (gw g))), (2, vi (w2 + 1)), (1, vi v30)]) (st' := []) (pc' := 193) [(.istore_n 1, vi 0, 231), (.iinc 2 1, vi 1, 234), (.goto (-41), vi 0, 193)] (by decide +kernel) rfl rfl ?_
        refine sm_pick [0, 2, 1] (l' := [(0, vr (some (gw g))), (1, vi v30), (2, vi (w2 + 1))]) rfl ?_
        exact ih v30 (w2 + 1)
      · refine sm_gd (fun h23 => ?_)
        refine sm_gd (fun h25 => ?_)
        refine sm_gd (fun h26 => ?_)
        refine sm_gd (fun h27 => ?_)
        refine sm_case (V g mX4_namesTwice d 229 [(0, vr (some (gw g))), (1, vi w1), (2, vi w2)] [] σ τ Q) (V g mX4_namesTwice d 225 [(0, vr (some (gw g))), (1, vi w1), (2, vi w2)] [] σ τ Q) ?_ ?_ (fun f34 p35 n36 => ?_)
        · refine sm_b (l' := [(0, vr (some (gw g))), (1, vi w1), (2, vi w2)]) (st' := [vi 0]) (pc' := 230) [(.iconst 0, vi 0, 230)] (by decide +kernel) rfl rfl ?_
          refine sm_pick [0, 2] (l' := [(0, vr (some (gw g))), (2, vi w2)]) rfl ?_
          exact sm_leaf (fun h => j32 _ h)
        · refine sm_b (l' := [(0, vr (some (gw g))), (1, vi w1), (2, vi w2)]) (st' := [vi 1]) (pc' := 230) [(.iconst 1, vi 1, 226), (.goto 4, vi 0, 230)] (by decide +kernel) rfl rfl ?_
          refine sm_pick [0, 2] (l' := [(0, vr (some (gw g))), (2, vi w2)]) rfl ?_
          exact sm_leaf (fun h => j32 _ h)
        refine sm_if_ne (off := 23) (tgt := 225) h23 (by decide +kernel) (fun c37 => ?_) (fun c37 => ?_)
        · exact n36 (fun q => c37 q.1)
        · have w24 : w1 = 0 := c37
          refine sm_b (l' := [(0, vr (some (gw g))), (1, vi w1), (2, vi w2)]) (st' := [vr (some (gw g)), vr (some (gw g))]) (pc' := 207) [(.aload_n 0, vi 0, 206), (.aload_n 0, vi 0, 207)] (by decide +kernel) rfl rfl ?_
          refine sm_tg (k := 31) (x := vr (some (gT g 31))) G.2.1 q1449 rfl rfl (by decide +kernel) ?_
          refine sm_b (l' := [(0, vr (some (gw g))), (1, vi w1), (2, vi w2)]) (st' := [vi w2, vr (some (gT g 31)), vr (some (gw g))]) (pc' := 211) [(.iload_n 2, vi 0, 211)] (by decide +kernel) rfl rfl ?_
          refine sm_ial (k := 31) G.2.1 (by decide) rfl (ibt (k := 31) (h25 w24)) (h25 w24) (by decide +kernel) ?_
          refine sm_b (l' := [(0, vr (some (gw g))), (1, vi w1), (2, vi w2)]) (st' := [vr (some (gw g)), vi (tA τ 31 w2.toNat), vr (some (gw g))]) (pc' := 213) [(.aload_n 0, vi 0, 213)] (by decide +kernel) rfl rfl ?_
          refine sm_tg (k := 32) (x := vr (some (gT g 32))) G.2.1 q1450 rfl rfl (by decide +kernel) ?_
          refine sm_b (l' := [(0, vr (some (gw g))), (1, vi w1), (2, vi w2)]) (st' := [vi w2, vr (some (gT g 32)), vi (tA τ 31 w2.toNat), vr (some (gw g))]) (pc' := 217) [(.iload_n 2, vi 0, 217)] (by decide +kernel) rfl rfl ?_
          refine sm_ial (k := 32) G.2.1 (by decide) rfl (ibt (k := 32) (h25 w24)) (h25 w24) (by decide +kernel) ?_
          refine sm_cvp (N := mX4_fieldsNamed) (d' := d - 1) (fun r => (some (vi r))) (some (vi (vv (m_fieldsNamed (tA τ 31 w2.toNat) (tA τ 32 w2.toNat) τ)))) (h26 w24) (fun y h => by rw [vv_some h]) [vi (tA τ 31 w2.toNat), vi (tA τ 32 w2.toNat)] [] rfl (by decide +kernel) q1710 q1712 qs66 (Or.inl ⟨rfl, q1713⟩) (show okN yX4_fieldsNamed 2 = true by decide +kernel) (fun H hR => hR.rvw G.1 G.2.1) rfl rfl (by omega) rfl (fun Q' => m_fieldsNamed_ok G (d - 1) (by omega) (tA τ 31 w2.toNat) (tA τ 32 w2.toNat) τ Q') ?_
          refine sm_b (l' := [(0, vr (some (gw g))), (1, vi w1), (2, vi w2)]) (st' := [vi 1, vi (vv (m_fieldsNamed (tA τ 31 w2.toNat) (tA τ 32 w2.toNat) τ))]) (pc' := 222) [(.iconst 1, vi 1, 222)] (by decide +kernel) rfl rfl ?_
          refine sm_icmp_le (off := 7) (tgt := 229) (h27 w24) (by decide) (by decide +kernel) (fun c38 => ?_) (fun c38 => ?_)
          · exact p35 ⟨c37, c38⟩
          · exact n36 (fun q => c38 q.2)
    refine sm_icmp_ge (off := 39) (tgt := 237) h17 h18 (by decide +kernel) (fun c42 => ?_) (fun c42 => ?_)
    · exact p40 c42
    · exact n41 c42
set_option maxHeartbeats 4000000 in
theorem m_namesTwice_L147_ok {g : GE} (G : GG g) {σ : ST} {Q : VQ} (d : Nat) (hd1 : 2 ≤ d) (τ : TT)  {K : Int → Prop} (hE191 : ∀ v43 : Int, K (v43) → V g mX4_namesTwice d 191 [(0, vr (some (gw g))), (1, vi v43)] [] σ τ Q) : ∀ (n : Nat) (w1 : Int) (w2 : Int), Sm (V g mX4_namesTwice d 147 [(0, vr (some (gw g))), (1, vi w1), (2, vi w2)] [] σ τ Q) (m_namesTwice_L147 τ n w1 w2) K := by
  intro n
  induction n with
  | zero => intro w1 w2; exact sm_none
  | succ n ih =>
    intro w1 w2
    rw [m_namesTwice_L147.eq_2]
    refine sm_b (l' := [(0, vr (some (gw g))), (1, vi w1), (2, vi w2)]) (st' := [vr (some (gw g)), vi w2]) (pc' := 149) [(.iload_n 2, vi 0, 148), (.aload_n 0, vi 0, 149)] (by decide +kernel) rfl rfl ?_
    refine sm_tg (k := 38) (x := vi (tI τ 38)) G.2.1 q1456 rfl rfl (by decide +kernel) ?_
    refine sm_gd (fun h44 => ?_)
    refine sm_gd (fun h45 => ?_)
    refine sm_case (V g mX4_namesTwice d 191 [(0, vr (some (gw g))), (1, vi w1), (2, vi w2)] [] σ τ Q) (V g mX4_namesTwice d 155 [(0, vr (some (gw g))), (1, vi w1), (2, vi w2)] [] σ τ Q) ?_ ?_ (fun f64 p65 n66 => ?_)
    · refine sm_pick [0, 1] (l' := [(0, vr (some (gw g))), (1, vi w1)]) rfl ?_
      exact sm_leaf (fun h => hE191 _ h)
    · refine sm_b (l' := [(0, vr (some (gw g))), (1, vi w1), (2, vi w2)]) (st' := [vi w1]) (pc' := 156) [(.iload_n 1, vi 0, 156)] (by decide +kernel) rfl rfl ?_
      refine sm_bind1 (fun (v55 : Int) => V g mX4_namesTwice d 184 [(0, vr (some (gw g))), (2, vi w2)] [vi v55] σ τ Q) (fun v55 => ?_) (fun K56 j57 => ?_)
      · refine sm_b (l' := [(0, vr (some (gw g))), (2, vi (w2 + 1)), (1, vi v55)]) (st' := []) (pc' := 147) [(.istore_n 1, vi 0, 185), (.iinc 2 1, vi 1, 188), (.goto (-41), vi 0, 147)] (by decide +kernel) rfl rfl ?_
        refine sm_pick [0, 2, 1] (l' := [(0, vr (some (gw g))), (1, vi v55), (2, vi (w2 + 1))]) rfl ?_
        exact ih v55 (w2 + 1)
      · refine sm_gd (fun h48 => ?_)
        refine sm_gd (fun h50 => ?_)
        refine sm_gd (fun h51 => ?_)
        refine sm_gd (fun h52 => ?_)
        refine sm_case (V g mX4_namesTwice d 183 [(0, vr (some (gw g))), (1, vi w1), (2, vi w2)] [] σ τ Q) (V g mX4_namesTwice d 179 [(0, vr (some (gw g))), (1, vi w1), (2, vi w2)] [] σ τ Q) ?_ ?_ (fun f59 p60 n61 => ?_)
        · refine sm_b (l' := [(0, vr (some (gw g))), (1, vi w1), (2, vi w2)]) (st' := [vi 0]) (pc' := 184) [(.iconst 0, vi 0, 184)] (by decide +kernel) rfl rfl ?_
          refine sm_pick [0, 2] (l' := [(0, vr (some (gw g))), (2, vi w2)]) rfl ?_
          exact sm_leaf (fun h => j57 _ h)
        · refine sm_b (l' := [(0, vr (some (gw g))), (1, vi w1), (2, vi w2)]) (st' := [vi 1]) (pc' := 184) [(.iconst 1, vi 1, 180), (.goto 4, vi 0, 184)] (by decide +kernel) rfl rfl ?_
          refine sm_pick [0, 2] (l' := [(0, vr (some (gw g))), (2, vi w2)]) rfl ?_
          exact sm_leaf (fun h => j57 _ h)
        refine sm_if_ne (off := 23) (tgt := 179) h48 (by decide +kernel) (fun c62 => ?_) (fun c62 => ?_)
        · exact n61 (fun q => c62 q.1)
        · have w49 : w1 = 0 := c62
          refine sm_b (l' := [(0, vr (some (gw g))), (1, vi w1), (2, vi w2)]) (st' := [vr (some (gw g)), vr (some (gw g))]) (pc' := 161) [(.aload_n 0, vi 0, 160), (.aload_n 0, vi 0, 161)] (by decide +kernel) rfl rfl ?_
          refine sm_tg (k := 22) (x := vr (some (gT g 22))) G.2.1 q1440 rfl rfl (by decide +kernel) ?_
          refine sm_b (l' := [(0, vr (some (gw g))), (1, vi w1), (2, vi w2)]) (st' := [vi w2, vr (some (gT g 22)), vr (some (gw g))]) (pc' := 165) [(.iload_n 2, vi 0, 165)] (by decide +kernel) rfl rfl ?_
          refine sm_ial (k := 22) G.2.1 (by decide) rfl (ibt (k := 22) (h50 w49)) (h50 w49) (by decide +kernel) ?_
          refine sm_b (l' := [(0, vr (some (gw g))), (1, vi w1), (2, vi w2)]) (st' := [vr (some (gw g)), vi (tA τ 22 w2.toNat), vr (some (gw g))]) (pc' := 167) [(.aload_n 0, vi 0, 167)] (by decide +kernel) rfl rfl ?_
          refine sm_tg (k := 23) (x := vr (some (gT g 23))) G.2.1 q1441 rfl rfl (by decide +kernel) ?_
          refine sm_b (l' := [(0, vr (some (gw g))), (1, vi w1), (2, vi w2)]) (st' := [vi w2, vr (some (gT g 23)), vi (tA τ 22 w2.toNat), vr (some (gw g))]) (pc' := 171) [(.iload_n 2, vi 0, 171)] (by decide +kernel) rfl rfl ?_
          refine sm_ial (k := 23) G.2.1 (by decide) rfl (ibt (k := 23) (h50 w49)) (h50 w49) (by decide +kernel) ?_
          refine sm_cvp (N := mX4_fieldsNamed) (d' := d - 1) (fun r => (some (vi r))) (some (vi (vv (m_fieldsNamed (tA τ 22 w2.toNat) (tA τ 23 w2.toNat) τ)))) (h51 w49) (fun y h => by rw [vv_some h]) [vi (tA τ 22 w2.toNat), vi (tA τ 23 w2.toNat)] [] rfl (by decide +kernel) q1710 q1712 qs66 (Or.inl ⟨rfl, q1713⟩) (show okN yX4_fieldsNamed 2 = true by decide +kernel) (fun H hR => hR.rvw G.1 G.2.1) rfl rfl (by omega) rfl (fun Q' => m_fieldsNamed_ok G (d - 1) (by omega) (tA τ 22 w2.toNat) (tA τ 23 w2.toNat) τ Q') ?_
          refine sm_b (l' := [(0, vr (some (gw g))), (1, vi w1), (2, vi w2)]) (st' := [vi 1, vi (vv (m_fieldsNamed (tA τ 22 w2.toNat) (tA τ 23 w2.toNat) τ))]) (pc' := 176) [(.iconst 1, vi 1, 176)] (by decide +kernel) rfl rfl ?_
          refine sm_icmp_le (off := 7) (tgt := 183) (h52 w49) (by decide) (by decide +kernel) (fun c63 => ?_) (fun c63 => ?_)
          · exact p60 ⟨c62, c63⟩
          · exact n61 (fun q => c63 q.2)
    refine sm_icmp_ge (off := 39) (tgt := 191) h44 h45 (by decide +kernel) (fun c67 => ?_) (fun c67 => ?_)
    · exact p65 c67
    · exact n66 c67
set_option maxHeartbeats 4000000 in
theorem m_namesTwice_L96_ok {g : GE} (G : GG g) {σ : ST} {Q : VQ} (d : Nat) (hd1 : 2 ≤ d) (τ : TT)  {K : Int → Prop} (hE145 : ∀ v68 : Int, K (v68) → V g mX4_namesTwice d 145 [(0, vr (some (gw g))), (1, vi v68)] [] σ τ Q) : ∀ (n : Nat) (w1 : Int) (w2 : Int), Sm (V g mX4_namesTwice d 96 [(0, vr (some (gw g))), (1, vi w1), (2, vi w2)] [] σ τ Q) (m_namesTwice_L96 τ n w1 w2) K := by
  intro n
  induction n with
  | zero => intro w1 w2; exact sm_none
  | succ n ih =>
    intro w1 w2
    rw [m_namesTwice_L96.eq_2]
    refine sm_b (l' := [(0, vr (some (gw g))), (1, vi w1), (2, vi w2)]) (st' := [vr (some (gw g)), vi w2]) (pc' := 98) [(.iload_n 2, vi 0, 97), (.aload_n 0, vi 0, 98)] (by decide +kernel) rfl rfl ?_
    refine sm_tg (k := 37) (x := vi (tI τ 37)) G.2.1 q1455 rfl rfl (by decide +kernel) ?_
    refine sm_gd (fun h69 => ?_)
    refine sm_gd (fun h70 => ?_)
    refine sm_case (V g mX4_namesTwice d 145 [(0, vr (some (gw g))), (1, vi w1), (2, vi w2)] [] σ τ Q) (V g mX4_namesTwice d 104 [(0, vr (some (gw g))), (1, vi w1), (2, vi w2)] [] σ τ Q) ?_ ?_ (fun f90 p91 n92 => ?_)
    · refine sm_pick [0, 1] (l' := [(0, vr (some (gw g))), (1, vi w1)]) rfl ?_
      exact sm_leaf (fun h => hE145 _ h)
    · refine sm_b (l' := [(0, vr (some (gw g))), (1, vi w1), (2, vi w2)]) (st' := [vi w1]) (pc' := 105) [(.iload_n 1, vi 0, 105)] (by decide +kernel) rfl rfl ?_
      refine sm_bind1 (fun (v81 : Int) => V g mX4_namesTwice d 138 [(0, vr (some (gw g))), (2, vi w2)] [vi v81] σ τ Q) (fun v81 => ?_) (fun K82 j83 => ?_)
      · refine sm_b (l' := [(0, vr (some (gw g))), (2, vi (w2 + 1)), (1, vi v81)]) (st' := []) (pc' := 96) [(.istore_n 1, vi 0, 139), (.iinc 2 1, vi 1, 142), (.goto (-46), vi 0, 96)] (by decide +kernel) rfl rfl ?_
        refine sm_pick [0, 2, 1] (l' := [(0, vr (some (gw g))), (1, vi v81), (2, vi (w2 + 1))]) rfl ?_
        exact ih v81 (w2 + 1)
      · refine sm_gd (fun h73 => ?_)
        refine sm_gd (fun h75 => ?_)
        refine sm_gd (fun h76 => ?_)
        refine sm_gd (fun h77 => ?_)
        refine sm_gd (fun h78 => ?_)
        refine sm_case (V g mX4_namesTwice d 137 [(0, vr (some (gw g))), (1, vi w1), (2, vi w2)] [] σ τ Q) (V g mX4_namesTwice d 133 [(0, vr (some (gw g))), (1, vi w1), (2, vi w2)] [] σ τ Q) ?_ ?_ (fun f85 p86 n87 => ?_)
        · refine sm_b (l' := [(0, vr (some (gw g))), (1, vi w1), (2, vi w2)]) (st' := [vi 0]) (pc' := 138) [(.iconst 0, vi 0, 138)] (by decide +kernel) rfl rfl ?_
          refine sm_pick [0, 2] (l' := [(0, vr (some (gw g))), (2, vi w2)]) rfl ?_
          exact sm_leaf (fun h => j83 _ h)
        · refine sm_b (l' := [(0, vr (some (gw g))), (1, vi w1), (2, vi w2)]) (st' := [vi 1]) (pc' := 138) [(.iconst 1, vi 1, 134), (.goto 4, vi 0, 138)] (by decide +kernel) rfl rfl ?_
          refine sm_pick [0, 2] (l' := [(0, vr (some (gw g))), (2, vi w2)]) rfl ?_
          exact sm_leaf (fun h => j83 _ h)
        refine sm_if_ne (off := 28) (tgt := 133) h73 (by decide +kernel) (fun c88 => ?_) (fun c88 => ?_)
        · exact n87 (fun q => c88 q.1)
        · have w74 : w1 = 0 := c88
          refine sm_b (l' := [(0, vr (some (gw g))), (1, vi w1), (2, vi w2)]) (st' := [vr (some (gw g)), vr (some (gw g))]) (pc' := 110) [(.aload_n 0, vi 0, 109), (.aload_n 0, vi 0, 110)] (by decide +kernel) rfl rfl ?_
          refine sm_tg (k := 19) (x := vr (some (gT g 19))) G.2.1 q1437 rfl rfl (by decide +kernel) ?_
          refine sm_b (l' := [(0, vr (some (gw g))), (1, vi w1), (2, vi w2)]) (st' := [vi w2, vr (some (gT g 19)), vr (some (gw g))]) (pc' := 114) [(.iload_n 2, vi 0, 114)] (by decide +kernel) rfl rfl ?_
          refine sm_ial (k := 19) G.2.1 (by decide) rfl (ibt (k := 19) (h75 w74)) (h75 w74) (by decide +kernel) ?_
          refine sm_b (l' := [(0, vr (some (gw g))), (1, vi w1), (2, vi w2)]) (st' := [vr (some (gw g)), vi (tA τ 19 w2.toNat), vr (some (gw g))]) (pc' := 116) [(.aload_n 0, vi 0, 116)] (by decide +kernel) rfl rfl ?_
          refine sm_tg (k := 18) (x := vr (some (gT g 18))) G.2.1 q1436 rfl rfl (by decide +kernel) ?_
          refine sm_b (l' := [(0, vr (some (gw g))), (1, vi w1), (2, vi w2)]) (st' := [vr (some (gw g)), vr (some (gT g 18)), vi (tA τ 19 w2.toNat), vr (some (gw g))]) (pc' := 120) [(.aload_n 0, vi 0, 120)] (by decide +kernel) rfl rfl ?_
          refine sm_tg (k := 21) (x := vr (some (gT g 21))) G.2.1 q1439 rfl rfl (by decide +kernel) ?_
          refine sm_b (l' := [(0, vr (some (gw g))), (1, vi w1), (2, vi w2)]) (st' := [vi w2, vr (some (gT g 21)), vr (some (gT g 18)), vi (tA τ 19 w2.toNat), vr (some (gw g))]) (pc' := 124) [(.iload_n 2, vi 0, 124)] (by decide +kernel) rfl rfl ?_
          refine sm_ial (k := 21) G.2.1 (by decide) rfl (ibt (k := 21) (h75 w74)) (h75 w74) (by decide +kernel) ?_
          refine sm_ial (k := 18) G.2.1 (by decide) rfl (ibt (k := 18) (h76 w74)) (h76 w74) (by decide +kernel) ?_
          refine sm_cvp (N := mX4_named) (d' := d - 1) (fun r => (some (vi r))) (some (vi (vv (m_named (tA τ 19 w2.toNat) (tA τ 18 (tA τ 21 w2.toNat).toNat) τ)))) (h77 w74) (fun y h => by rw [vv_some h]) [vi (tA τ 19 w2.toNat), vi (tA τ 18 (tA τ 21 w2.toNat).toNat)] [] rfl (by decide +kernel) q1702 q1704 qs64 (Or.inl ⟨rfl, q1705⟩) (show okN yX4_named 2 = true by decide +kernel) (fun H hR => hR.rvw G.1 G.2.1) rfl rfl (by omega) rfl (fun Q' => m_named_ok G (d - 1) (by omega) (tA τ 19 w2.toNat) (tA τ 18 (tA τ 21 w2.toNat).toNat) τ Q') ?_
          refine sm_b (l' := [(0, vr (some (gw g))), (1, vi w1), (2, vi w2)]) (st' := [vi 1, vi (vv (m_named (tA τ 19 w2.toNat) (tA τ 18 (tA τ 21 w2.toNat).toNat) τ))]) (pc' := 130) [(.iconst 1, vi 1, 130)] (by decide +kernel) rfl rfl ?_
          refine sm_icmp_le (off := 7) (tgt := 137) (h78 w74) (by decide) (by decide +kernel) (fun c89 => ?_) (fun c89 => ?_)
          · exact p86 ⟨c88, c89⟩
          · exact n87 (fun q => c89 q.2)
    refine sm_icmp_ge (off := 44) (tgt := 145) h69 h70 (by decide +kernel) (fun c93 => ?_) (fun c93 => ?_)
    · exact p91 c93
    · exact n92 c93
set_option maxHeartbeats 4000000 in
theorem m_namesTwice_L50_ok {g : GE} (G : GG g) {σ : ST} {Q : VQ} (d : Nat) (hd1 : 2 ≤ d) (τ : TT)  {K : Int → Prop} (hE94 : ∀ v94 : Int, K (v94) → V g mX4_namesTwice d 94 [(0, vr (some (gw g))), (1, vi v94)] [] σ τ Q) : ∀ (n : Nat) (w1 : Int) (w2 : Int), Sm (V g mX4_namesTwice d 50 [(0, vr (some (gw g))), (1, vi w1), (2, vi w2)] [] σ τ Q) (m_namesTwice_L50 τ n w1 w2) K := by
  intro n
  induction n with
  | zero => intro w1 w2; exact sm_none
  | succ n ih =>
    intro w1 w2
    rw [m_namesTwice_L50.eq_2]
    refine sm_b (l' := [(0, vr (some (gw g))), (1, vi w1), (2, vi w2)]) (st' := [vr (some (gw g)), vi w2]) (pc' := 52) [(.iload_n 2, vi 0, 51), (.aload_n 0, vi 0, 52)] (by decide +kernel) rfl rfl ?_
    refine sm_tg (k := 36) (x := vi (tI τ 36)) G.2.1 q1454 rfl rfl (by decide +kernel) ?_
    refine sm_gd (fun h95 => ?_)
    refine sm_gd (fun h96 => ?_)
    refine sm_case (V g mX4_namesTwice d 94 [(0, vr (some (gw g))), (1, vi w1), (2, vi w2)] [] σ τ Q) (V g mX4_namesTwice d 58 [(0, vr (some (gw g))), (1, vi w1), (2, vi w2)] [] σ τ Q) ?_ ?_ (fun f115 p116 n117 => ?_)
    · refine sm_pick [0, 1] (l' := [(0, vr (some (gw g))), (1, vi w1)]) rfl ?_
      exact sm_leaf (fun h => hE94 _ h)
    · refine sm_b (l' := [(0, vr (some (gw g))), (1, vi w1), (2, vi w2)]) (st' := [vi w1]) (pc' := 59) [(.iload_n 1, vi 0, 59)] (by decide +kernel) rfl rfl ?_
      refine sm_bind1 (fun (v106 : Int) => V g mX4_namesTwice d 87 [(0, vr (some (gw g))), (2, vi w2)] [vi v106] σ τ Q) (fun v106 => ?_) (fun K107 j108 => ?_)
      · refine sm_b (l' := [(0, vr (some (gw g))), (2, vi (w2 + 1)), (1, vi v106)]) (st' := []) (pc' := 50) [(.istore_n 1, vi 0, 88), (.iinc 2 1, vi 1, 91), (.goto (-41), vi 0, 50)] (by decide +kernel) rfl rfl ?_
        refine sm_pick [0, 2, 1] (l' := [(0, vr (some (gw g))), (1, vi v106), (2, vi (w2 + 1))]) rfl ?_
        exact ih v106 (w2 + 1)
      · refine sm_gd (fun h99 => ?_)
        refine sm_gd (fun h101 => ?_)
        refine sm_gd (fun h102 => ?_)
        refine sm_gd (fun h103 => ?_)
        refine sm_case (V g mX4_namesTwice d 86 [(0, vr (some (gw g))), (1, vi w1), (2, vi w2)] [] σ τ Q) (V g mX4_namesTwice d 82 [(0, vr (some (gw g))), (1, vi w1), (2, vi w2)] [] σ τ Q) ?_ ?_ (fun f110 p111 n112 => ?_)
        · refine sm_b (l' := [(0, vr (some (gw g))), (1, vi w1), (2, vi w2)]) (st' := [vi 0]) (pc' := 87) [(.iconst 0, vi 0, 87)] (by decide +kernel) rfl rfl ?_
          refine sm_pick [0, 2] (l' := [(0, vr (some (gw g))), (2, vi w2)]) rfl ?_
          exact sm_leaf (fun h => j108 _ h)
        · refine sm_b (l' := [(0, vr (some (gw g))), (1, vi w1), (2, vi w2)]) (st' := [vi 1]) (pc' := 87) [(.iconst 1, vi 1, 83), (.goto 4, vi 0, 87)] (by decide +kernel) rfl rfl ?_
          refine sm_pick [0, 2] (l' := [(0, vr (some (gw g))), (2, vi w2)]) rfl ?_
          exact sm_leaf (fun h => j108 _ h)
        refine sm_if_ne (off := 23) (tgt := 82) h99 (by decide +kernel) (fun c113 => ?_) (fun c113 => ?_)
        · exact n112 (fun q => c113 q.1)
        · have w100 : w1 = 0 := c113
          refine sm_b (l' := [(0, vr (some (gw g))), (1, vi w1), (2, vi w2)]) (st' := [vr (some (gw g)), vr (some (gw g))]) (pc' := 64) [(.aload_n 0, vi 0, 63), (.aload_n 0, vi 0, 64)] (by decide +kernel) rfl rfl ?_
          refine sm_tg (k := 17) (x := vr (some (gT g 17))) G.2.1 q1435 rfl rfl (by decide +kernel) ?_
          refine sm_b (l' := [(0, vr (some (gw g))), (1, vi w1), (2, vi w2)]) (st' := [vi w2, vr (some (gT g 17)), vr (some (gw g))]) (pc' := 68) [(.iload_n 2, vi 0, 68)] (by decide +kernel) rfl rfl ?_
          refine sm_ial (k := 17) G.2.1 (by decide) rfl (ibt (k := 17) (h101 w100)) (h101 w100) (by decide +kernel) ?_
          refine sm_b (l' := [(0, vr (some (gw g))), (1, vi w1), (2, vi w2)]) (st' := [vr (some (gw g)), vi (tA τ 17 w2.toNat), vr (some (gw g))]) (pc' := 70) [(.aload_n 0, vi 0, 70)] (by decide +kernel) rfl rfl ?_
          refine sm_tg (k := 18) (x := vr (some (gT g 18))) G.2.1 q1436 rfl rfl (by decide +kernel) ?_
          refine sm_b (l' := [(0, vr (some (gw g))), (1, vi w1), (2, vi w2)]) (st' := [vi w2, vr (some (gT g 18)), vi (tA τ 17 w2.toNat), vr (some (gw g))]) (pc' := 74) [(.iload_n 2, vi 0, 74)] (by decide +kernel) rfl rfl ?_
          refine sm_ial (k := 18) G.2.1 (by decide) rfl (ibt (k := 18) (h101 w100)) (h101 w100) (by decide +kernel) ?_
          refine sm_cvp (N := mX4_named) (d' := d - 1) (fun r => (some (vi r))) (some (vi (vv (m_named (tA τ 17 w2.toNat) (tA τ 18 w2.toNat) τ)))) (h102 w100) (fun y h => by rw [vv_some h]) [vi (tA τ 17 w2.toNat), vi (tA τ 18 w2.toNat)] [] rfl (by decide +kernel) q1702 q1704 qs64 (Or.inl ⟨rfl, q1705⟩) (show okN yX4_named 2 = true by decide +kernel) (fun H hR => hR.rvw G.1 G.2.1) rfl rfl (by omega) rfl (fun Q' => m_named_ok G (d - 1) (by omega) (tA τ 17 w2.toNat) (tA τ 18 w2.toNat) τ Q') ?_
          refine sm_b (l' := [(0, vr (some (gw g))), (1, vi w1), (2, vi w2)]) (st' := [vi 1, vi (vv (m_named (tA τ 17 w2.toNat) (tA τ 18 w2.toNat) τ))]) (pc' := 79) [(.iconst 1, vi 1, 79)] (by decide +kernel) rfl rfl ?_
          refine sm_icmp_le (off := 7) (tgt := 86) (h103 w100) (by decide) (by decide +kernel) (fun c114 => ?_) (fun c114 => ?_)
          · exact p111 ⟨c113, c114⟩
          · exact n112 (fun q => c114 q.2)
    refine sm_icmp_ge (off := 39) (tgt := 94) h95 h96 (by decide +kernel) (fun c118 => ?_) (fun c118 => ?_)
    · exact p116 c118
    · exact n117 c118
set_option maxHeartbeats 4000000 in
theorem m_namesTwice_L4_ok {g : GE} (G : GG g) {σ : ST} {Q : VQ} (d : Nat) (hd1 : 2 ≤ d) (τ : TT)  {K : Int → Prop} (hE48 : ∀ v119 : Int, K (v119) → V g mX4_namesTwice d 48 [(0, vr (some (gw g))), (1, vi v119)] [] σ τ Q) : ∀ (n : Nat) (w1 : Int) (w2 : Int), Sm (V g mX4_namesTwice d 4 [(0, vr (some (gw g))), (1, vi w1), (2, vi w2)] [] σ τ Q) (m_namesTwice_L4 τ n w1 w2) K := by
  intro n
  induction n with
  | zero => intro w1 w2; exact sm_none
  | succ n ih =>
    intro w1 w2
    rw [m_namesTwice_L4.eq_2]
    refine sm_b (l' := [(0, vr (some (gw g))), (1, vi w1), (2, vi w2)]) (st' := [vr (some (gw g)), vi w2]) (pc' := 6) [(.iload_n 2, vi 0, 5), (.aload_n 0, vi 0, 6)] (by decide +kernel) rfl rfl ?_
    refine sm_tg (k := 35) (x := vi (tI τ 35)) G.2.1 q1453 rfl rfl (by decide +kernel) ?_
    refine sm_gd (fun h120 => ?_)
    refine sm_gd (fun h121 => ?_)
    refine sm_case (V g mX4_namesTwice d 48 [(0, vr (some (gw g))), (1, vi w1), (2, vi w2)] [] σ τ Q) (V g mX4_namesTwice d 12 [(0, vr (some (gw g))), (1, vi w1), (2, vi w2)] [] σ τ Q) ?_ ?_ (fun f140 p141 n142 => ?_)
    · refine sm_pick [0, 1] (l' := [(0, vr (some (gw g))), (1, vi w1)]) rfl ?_
      exact sm_leaf (fun h => hE48 _ h)
    · refine sm_b (l' := [(0, vr (some (gw g))), (1, vi w1), (2, vi w2)]) (st' := [vi w1]) (pc' := 13) [(.iload_n 1, vi 0, 13)] (by decide +kernel) rfl rfl ?_
      refine sm_bind1 (fun (v131 : Int) => V g mX4_namesTwice d 41 [(0, vr (some (gw g))), (2, vi w2)] [vi v131] σ τ Q) (fun v131 => ?_) (fun K132 j133 => ?_)
      · refine sm_b (l' := [(0, vr (some (gw g))), (2, vi (w2 + 1)), (1, vi v131)]) (st' := []) (pc' := 4) [(.istore_n 1, vi 0, 42), (.iinc 2 1, vi 1, 45), (.goto (-41), vi 0, 4)] (by decide +kernel) rfl rfl ?_
        refine sm_pick [0, 2, 1] (l' := [(0, vr (some (gw g))), (1, vi v131), (2, vi (w2 + 1))]) rfl ?_
        exact ih v131 (w2 + 1)
      · refine sm_gd (fun h124 => ?_)
        refine sm_gd (fun h126 => ?_)
        refine sm_gd (fun h127 => ?_)
        refine sm_gd (fun h128 => ?_)
        refine sm_case (V g mX4_namesTwice d 40 [(0, vr (some (gw g))), (1, vi w1), (2, vi w2)] [] σ τ Q) (V g mX4_namesTwice d 36 [(0, vr (some (gw g))), (1, vi w1), (2, vi w2)] [] σ τ Q) ?_ ?_ (fun f135 p136 n137 => ?_)
        · refine sm_b (l' := [(0, vr (some (gw g))), (1, vi w1), (2, vi w2)]) (st' := [vi 0]) (pc' := 41) [(.iconst 0, vi 0, 41)] (by decide +kernel) rfl rfl ?_
          refine sm_pick [0, 2] (l' := [(0, vr (some (gw g))), (2, vi w2)]) rfl ?_
          exact sm_leaf (fun h => j133 _ h)
        · refine sm_b (l' := [(0, vr (some (gw g))), (1, vi w1), (2, vi w2)]) (st' := [vi 1]) (pc' := 41) [(.iconst 1, vi 1, 37), (.goto 4, vi 0, 41)] (by decide +kernel) rfl rfl ?_
          refine sm_pick [0, 2] (l' := [(0, vr (some (gw g))), (2, vi w2)]) rfl ?_
          exact sm_leaf (fun h => j133 _ h)
        refine sm_if_ne (off := 23) (tgt := 36) h124 (by decide +kernel) (fun c138 => ?_) (fun c138 => ?_)
        · exact n137 (fun q => c138 q.1)
        · have w125 : w1 = 0 := c138
          refine sm_b (l' := [(0, vr (some (gw g))), (1, vi w1), (2, vi w2)]) (st' := [vr (some (gw g)), vr (some (gw g))]) (pc' := 18) [(.aload_n 0, vi 0, 17), (.aload_n 0, vi 0, 18)] (by decide +kernel) rfl rfl ?_
          refine sm_tg (k := 15) (x := vr (some (gT g 15))) G.2.1 q1433 rfl rfl (by decide +kernel) ?_
          refine sm_b (l' := [(0, vr (some (gw g))), (1, vi w1), (2, vi w2)]) (st' := [vi w2, vr (some (gT g 15)), vr (some (gw g))]) (pc' := 22) [(.iload_n 2, vi 0, 22)] (by decide +kernel) rfl rfl ?_
          refine sm_ial (k := 15) G.2.1 (by decide) rfl (ibt (k := 15) (h126 w125)) (h126 w125) (by decide +kernel) ?_
          refine sm_b (l' := [(0, vr (some (gw g))), (1, vi w1), (2, vi w2)]) (st' := [vr (some (gw g)), vi (tA τ 15 w2.toNat), vr (some (gw g))]) (pc' := 24) [(.aload_n 0, vi 0, 24)] (by decide +kernel) rfl rfl ?_
          refine sm_tg (k := 16) (x := vr (some (gT g 16))) G.2.1 q1434 rfl rfl (by decide +kernel) ?_
          refine sm_b (l' := [(0, vr (some (gw g))), (1, vi w1), (2, vi w2)]) (st' := [vi w2, vr (some (gT g 16)), vi (tA τ 15 w2.toNat), vr (some (gw g))]) (pc' := 28) [(.iload_n 2, vi 0, 28)] (by decide +kernel) rfl rfl ?_
          refine sm_ial (k := 16) G.2.1 (by decide) rfl (ibt (k := 16) (h126 w125)) (h126 w125) (by decide +kernel) ?_
          refine sm_cvp (N := mX4_named) (d' := d - 1) (fun r => (some (vi r))) (some (vi (vv (m_named (tA τ 15 w2.toNat) (tA τ 16 w2.toNat) τ)))) (h127 w125) (fun y h => by rw [vv_some h]) [vi (tA τ 15 w2.toNat), vi (tA τ 16 w2.toNat)] [] rfl (by decide +kernel) q1702 q1704 qs64 (Or.inl ⟨rfl, q1705⟩) (show okN yX4_named 2 = true by decide +kernel) (fun H hR => hR.rvw G.1 G.2.1) rfl rfl (by omega) rfl (fun Q' => m_named_ok G (d - 1) (by omega) (tA τ 15 w2.toNat) (tA τ 16 w2.toNat) τ Q') ?_
          refine sm_b (l' := [(0, vr (some (gw g))), (1, vi w1), (2, vi w2)]) (st' := [vi 1, vi (vv (m_named (tA τ 15 w2.toNat) (tA τ 16 w2.toNat) τ))]) (pc' := 33) [(.iconst 1, vi 1, 33)] (by decide +kernel) rfl rfl ?_
          refine sm_icmp_le (off := 7) (tgt := 40) (h128 w125) (by decide) (by decide +kernel) (fun c139 => ?_) (fun c139 => ?_)
          · exact p136 ⟨c138, c139⟩
          · exact n137 (fun q => c139 q.2)
    refine sm_icmp_ge (off := 39) (tgt := 48) h120 h121 (by decide +kernel) (fun c143 => ?_) (fun c143 => ?_)
    · exact p141 c143
    · exact n142 c143
set_option maxHeartbeats 4000000 in
theorem m_namesTwice_ok {g : GE} (G : GG g) {σ : ST} (d : Nat) (hd1 : 2 ≤ d)   (τ : TT) (Q : VQ) : Sm (V g mX4_namesTwice d 0 [(0, vr (some (gw g)))] [] σ τ Q) (m_namesTwice τ) (fun r => Q.1 (some (vi r)) σ τ) := by
  unfold m_namesTwice
  refine sm_top (fun K hRET => ?_)
  refine sm_b (l' := [(0, vr (some (gw g))), (1, vi 0), (2, vi 0)]) (st' := []) (pc' := 4) [(.iconst 0, vi 0, 1), (.istore_n 1, vi 0, 2), (.iconst 0, vi 0, 3), (.istore_n 2, vi 0, 4)] (by decide +kernel) rfl rfl ?_
  refine sm_bind1 (fun (v1 : Int) => V g mX4_namesTwice d 48 [(0, vr (some (gw g))), (1, vi v1)] [] σ τ Q) (fun v1 => ?_) (fun K2 j3 => ?_)
  · refine sm_b (l' := [(0, vr (some (gw g))), (1, vi v1), (2, vi 0)]) (st' := []) (pc' := 50) [(.iconst 0, vi 0, 49), (.istore_n 2, vi 0, 50)] (by decide +kernel) rfl rfl ?_
    refine sm_bind1 (fun (v5 : Int) => V g mX4_namesTwice d 94 [(0, vr (some (gw g))), (1, vi v5)] [] σ τ Q) (fun v5 => ?_) (fun K6 j7 => ?_)
    · refine sm_b (l' := [(0, vr (some (gw g))), (1, vi v5), (2, vi 0)]) (st' := []) (pc' := 96) [(.iconst 0, vi 0, 95), (.istore_n 2, vi 0, 96)] (by decide +kernel) rfl rfl ?_
      refine sm_bind1 (fun (v9 : Int) => V g mX4_namesTwice d 145 [(0, vr (some (gw g))), (1, vi v9)] [] σ τ Q) (fun v9 => ?_) (fun K10 j11 => ?_)
      · refine sm_b (l' := [(0, vr (some (gw g))), (1, vi v9), (2, vi 0)]) (st' := []) (pc' := 147) [(.iconst 0, vi 0, 146), (.istore_n 2, vi 0, 147)] (by decide +kernel) rfl rfl ?_
        refine sm_bind1 (fun (v13 : Int) => V g mX4_namesTwice d 191 [(0, vr (some (gw g))), (1, vi v13)] [] σ τ Q) (fun v13 => ?_) (fun K14 j15 => ?_)
        · refine sm_b (l' := [(0, vr (some (gw g))), (1, vi v13), (2, vi 0)]) (st' := []) (pc' := 193) [(.iconst 0, vi 0, 192), (.istore_n 2, vi 0, 193)] (by decide +kernel) rfl rfl ?_
          exact m_namesTwice_L193_ok G d hd1 τ  (fun r h => hRET _ h) FU v13 0
        · exact m_namesTwice_L147_ok G d hd1 τ  (fun _ h => j15 _ h) FU v9 0
      · exact m_namesTwice_L96_ok G d hd1 τ  (fun _ h => j11 _ h) FU v5 0
    · exact m_namesTwice_L50_ok G d hd1 τ  (fun _ h => j7 _ h) FU v1 0
  · exact m_namesTwice_L4_ok G d hd1 τ  (fun _ h => j3 _ h) FU 0 0
