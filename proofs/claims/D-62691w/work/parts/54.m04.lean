set_option maxRecDepth 100000
/-! the reference: X4_hasWrongNumber, X4_scalarOf, X4_within, X4_kindOf -/
def m_hasWrongNumber_L111 (u2 : Int) (u3 : Int) (τ : TT) : Nat → Int → Int → Option (Int)
  | 0, _, _ => none
  | n + 1, w1, w4 => gd (rg w4) (gd (rg u2) (if u2 ≤ w4 then (some w1) else (Option.bind (gd (rg w1) (if w1 = 0 then (gd (ib w4 50) (gd (ib u2 50) (gd (rg (tA τ 23 w4.toNat)) (gd (rg (tA τ 23 u2.toNat)) (gd ((tA τ 23 w4.toNat) = (tA τ 23 u2.toNat) → rg (tA τ 24 w4.toNat)) (gd ((tA τ 23 w4.toNat) = (tA τ 23 u2.toNat) → rg u3) (if ((tA τ 23 w4.toNat) = (tA τ 23 u2.toNat)) ∧ ((tA τ 24 w4.toNat) = u3) then (some 1) else (some 0)))))))) else (some 1))) fun (v39 : Int) => m_hasWrongNumber_L111 u2 u3 τ n v39 (w4 + 1))))
def m_hasWrongNumber_L56 (u2 : Int) (u3 : Int) (τ : TT) : Nat → Int → Int → Option (Int)
  | 0, _, _ => none
  | n + 1, w1, w4 => gd (rg w4) (gd (rg (tI τ 40)) (if (tI τ 40) ≤ w4 then (some w1) else (Option.bind (gd (rg w1) (if w1 = 0 then (gd (ib w4 30) (gd (ib u2 50) (gd (rg (tA τ 34 w4.toNat)) (gd (rg (tA τ 23 u2.toNat)) (gd ((tA τ 34 w4.toNat) = (tA τ 23 u2.toNat) → rg (tA τ 33 w4.toNat)) (gd ((tA τ 34 w4.toNat) = (tA τ 23 u2.toNat) → rg u3) (if ((tA τ 34 w4.toNat) = (tA τ 23 u2.toNat)) ∧ ((tA τ 33 w4.toNat) = u3) then (some 1) else (some 0)))))))) else (some 1))) fun (v75 : Int) => m_hasWrongNumber_L56 u2 u3 τ n v75 (w4 + 1))))
def m_hasWrongNumber_L4 (τ : TT) : Nat → Int → Int → Option (Int)
  | 0, _, _ => none
  | n + 1, w1, w2 => gd (rg w2) (gd (rg (tI τ 38)) (if (tI τ 38) ≤ w2 then (gd (zb w1) (some w1)) else (gd (ib w2 50) (nm (tA τ 24 w2.toNat) fun x8 => Option.bind (gd (rg w1) (gd (w1 = 0 → rg x8) (gd ((w1 = 0) ∧ (¬ (x8 = 0)) → rg x8) (if ((w1 = 0) ∧ (¬ (x8 = 0))) ∧ (¬ (536870911 < x8)) then (gd (rg x8) (if (x8 < 19000) ∨ (19999 < x8) then (some 0) else (some 1))) else (some 1))))) fun (v16 : Int) => Option.bind (m_hasWrongNumber_L56 w2 x8 τ FU v16 0) fun (v20 : Int) => Option.bind (m_hasWrongNumber_L111 w2 x8 τ FU v20 0) fun (v24 : Int) => m_hasWrongNumber_L4 τ n v24 (w2 + 1)))))
def m_hasWrongNumber  (τ : TT) : Option (Int) := m_hasWrongNumber_L4 τ FU 0 0
set_option maxHeartbeats 4000000 in
theorem m_hasWrongNumber_L111_ok {g : GE} (G : GG g) {σ : ST} {Q : VQ} (d : Nat) (hd1 : 0 ≤ d) (u2 : Int) (u3 : Int) (τ : TT)  {K : Int → Prop} (hE160 : ∀ v28 : Int, K (v28) → V g mX4_hasWrongNumber d 160 [(0, vr (some (gw g))), (1, vi v28), (2, vi u2)] [] σ τ Q) : ∀ (n : Nat) (w1 : Int) (w4 : Int), Sm (V g mX4_hasWrongNumber d 111 [(0, vr (some (gw g))), (1, vi w1), (2, vi u2), (3, vi u3), (4, vi w4)] [] σ τ Q) (m_hasWrongNumber_L111 u2 u3 τ n w1 w4) K := by
  intro n
  induction n with
  | zero => intro w1 w4; exact sm_none
  | succ n ih =>
    intro w1 w4
    rw [m_hasWrongNumber_L111.eq_2]
    refine sm_b (l' := [(0, vr (some (gw g))), (1, vi w1), (2, vi u2), (3, vi u3), (4, vi w4)]) (st' := [vi u2, vi w4]) (pc' := 114) [(.iload 4, vi 0, 113), (.iload_n 2, vi 0, 114)] (by decide +kernel) rfl rfl ?_
    refine sm_gd (fun h29 => ?_)
    refine sm_gd (fun h30 => ?_)
    refine sm_case (V g mX4_hasWrongNumber d 160 [(0, vr (some (gw g))), (1, vi w1), (2, vi u2), (3, vi u3), (4, vi w4)] [] σ τ Q) (V g mX4_hasWrongNumber d 117 [(0, vr (some (gw g))), (1, vi w1), (2, vi u2), (3, vi u3), (4, vi w4)] [] σ τ Q) ?_ ?_ (fun f60 p61 n62 => ?_)
    · refine sm_pick [0, 1, 2] (l' := [(0, vr (some (gw g))), (1, vi w1), (2, vi u2)]) rfl ?_
      exact sm_leaf (fun h => hE160 _ h)
    · refine sm_b (l' := [(0, vr (some (gw g))), (1, vi w1), (2, vi u2), (3, vi u3), (4, vi w4)]) (st' := [vi w1]) (pc' := 118) [(.iload_n 1, vi 0, 118)] (by decide +kernel) rfl rfl ?_
      refine sm_bind1 (fun (v39 : Int) => V g mX4_hasWrongNumber d 153 [(0, vr (some (gw g))), (2, vi u2), (3, vi u3), (4, vi w4)] [vi v39] σ τ Q) (fun v39 => ?_) (fun K40 j41 => ?_)
      · refine sm_b (l' := [(0, vr (some (gw g))), (2, vi u2), (3, vi u3), (4, vi (w4 + 1)), (1, vi v39)]) (st' := []) (pc' := 111) [(.istore_n 1, vi 0, 154), (.iinc 4 1, vi 1, 157), (.goto (-46), vi 0, 111)] (by decide +kernel) rfl rfl ?_
        refine sm_pick [0, 4, 1, 2, 3] (l' := [(0, vr (some (gw g))), (1, vi v39), (2, vi u2), (3, vi u3), (4, vi (w4 + 1))]) rfl ?_
        exact ih v39 (w4 + 1)
      · refine sm_gd (fun h33 => ?_)
        refine sm_case (V g mX4_hasWrongNumber d 121 [(0, vr (some (gw g))), (1, vi w1), (2, vi u2), (3, vi u3), (4, vi w4)] [] σ τ Q) (V g mX4_hasWrongNumber d 148 [(0, vr (some (gw g))), (1, vi w1), (2, vi u2), (3, vi u3), (4, vi w4)] [] σ τ Q) ?_ ?_ (fun f56 p57 n58 => ?_)
        · refine sm_b (l' := [(0, vr (some (gw g))), (1, vi w1), (2, vi u2), (3, vi u3), (4, vi w4)]) (st' := [vr (some (gw g))]) (pc' := 122) [(.aload_n 0, vi 0, 122)] (by decide +kernel) rfl rfl ?_
          refine sm_tg (k := 23) (x := vr (some (gT g 23))) G.2.1 q1441 rfl rfl (by decide +kernel) ?_
          refine sm_b (l' := [(0, vr (some (gw g))), (1, vi w1), (2, vi u2), (3, vi u3), (4, vi w4)]) (st' := [vi w4, vr (some (gT g 23))]) (pc' := 127) [(.iload 4, vi 0, 127)] (by decide +kernel) rfl rfl ?_
          refine sm_gd (fun h43 => ?_)
          refine sm_ial (k := 23) G.2.1 (by decide) rfl (ibt (k := 23) h43) h43 (by decide +kernel) ?_
          refine sm_b (l' := [(0, vr (some (gw g))), (1, vi w1), (2, vi u2), (3, vi u3), (4, vi w4)]) (st' := [vr (some (gw g)), vi (tA τ 23 w4.toNat)]) (pc' := 129) [(.aload_n 0, vi 0, 129)] (by decide +kernel) rfl rfl ?_
          refine sm_tg (k := 23) (x := vr (some (gT g 23))) G.2.1 q1441 rfl rfl (by decide +kernel) ?_
          refine sm_b (l' := [(0, vr (some (gw g))), (1, vi w1), (2, vi u2), (3, vi u3), (4, vi w4)]) (st' := [vi u2, vr (some (gT g 23)), vi (tA τ 23 w4.toNat)]) (pc' := 133) [(.iload_n 2, vi 0, 133)] (by decide +kernel) rfl rfl ?_
          refine sm_gd (fun h44 => ?_)
          refine sm_ial (k := 23) G.2.1 (by decide) rfl (ibt (k := 23) h44) h44 (by decide +kernel) ?_
          refine sm_gd (fun h45 => ?_)
          refine sm_gd (fun h46 => ?_)
          refine sm_gd (fun h48 => ?_)
          refine sm_gd (fun h49 => ?_)
          refine sm_case (V g mX4_hasWrongNumber d 148 [(0, vr (some (gw g))), (1, vi w1), (2, vi u2), (3, vi u3), (4, vi w4)] [] σ τ Q) (V g mX4_hasWrongNumber d 152 [(0, vr (some (gw g))), (1, vi w1), (2, vi u2), (3, vi u3), (4, vi w4)] [] σ τ Q) ?_ ?_ (fun f51 p52 n53 => ?_)
          · refine sm_b (l' := [(0, vr (some (gw g))), (1, vi w1), (2, vi u2), (3, vi u3), (4, vi w4)]) (st' := [vi 1]) (pc' := 153) [(.iconst 1, vi 1, 149), (.goto 4, vi 0, 153)] (by decide +kernel) rfl rfl ?_
            refine sm_pick [0, 2, 3, 4] (l' := [(0, vr (some (gw g))), (2, vi u2), (3, vi u3), (4, vi w4)]) rfl ?_
            exact sm_leaf (fun h => j41 _ h)
          · refine sm_b (l' := [(0, vr (some (gw g))), (1, vi w1), (2, vi u2), (3, vi u3), (4, vi w4)]) (st' := [vi 0]) (pc' := 153) [(.iconst 0, vi 0, 153)] (by decide +kernel) rfl rfl ?_
            refine sm_pick [0, 2, 3, 4] (l' := [(0, vr (some (gw g))), (2, vi u2), (3, vi u3), (4, vi w4)]) rfl ?_
            exact sm_leaf (fun h => j41 _ h)
          refine sm_icmp_ne (off := 18) (tgt := 152) h45 h46 (by decide +kernel) (fun c54 => ?_) (fun c54 => ?_)
          · exact n53 (fun q => c54 q.1)
          · have w47 : (tA τ 23 w4.toNat) = (tA τ 23 u2.toNat) := c54
            refine sm_b (l' := [(0, vr (some (gw g))), (1, vi w1), (2, vi u2), (3, vi u3), (4, vi w4)]) (st' := [vr (some (gw g))]) (pc' := 138) [(.aload_n 0, vi 0, 138)] (by decide +kernel) rfl rfl ?_
            refine sm_tg (k := 24) (x := vr (some (gT g 24))) G.2.1 q1442 rfl rfl (by decide +kernel) ?_
            refine sm_b (l' := [(0, vr (some (gw g))), (1, vi w1), (2, vi u2), (3, vi u3), (4, vi w4)]) (st' := [vi w4, vr (some (gT g 24))]) (pc' := 143) [(.iload 4, vi 0, 143)] (by decide +kernel) rfl rfl ?_
            refine sm_ial (k := 24) G.2.1 (by decide) rfl (ibt (k := 24) h43) h43 (by decide +kernel) ?_
            refine sm_b (l' := [(0, vr (some (gw g))), (1, vi w1), (2, vi u2), (3, vi u3), (4, vi w4)]) (st' := [vi u3, vi (tA τ 24 w4.toNat)]) (pc' := 145) [(.iload_n 3, vi 0, 145)] (by decide +kernel) rfl rfl ?_
            refine sm_icmp_ne (off := 7) (tgt := 152) (h48 w47) (h49 w47) (by decide +kernel) (fun c55 => ?_) (fun c55 => ?_)
            · exact n53 (fun q => c55 q.2)
            · exact p52 ⟨c54, c55⟩
        · refine sm_b (l' := [(0, vr (some (gw g))), (1, vi w1), (2, vi u2), (3, vi u3), (4, vi w4)]) (st' := [vi 1]) (pc' := 153) [(.iconst 1, vi 1, 149), (.goto 4, vi 0, 153)] (by decide +kernel) rfl rfl ?_
          refine sm_pick [0, 2, 3, 4] (l' := [(0, vr (some (gw g))), (2, vi u2), (3, vi u3), (4, vi w4)]) rfl ?_
          exact sm_leaf (fun h => j41 _ h)
        refine sm_if_ne (off := 30) (tgt := 148) h33 (by decide +kernel) (fun c59 => ?_) (fun c59 => ?_)
        · exact n58 c59
        · exact p57 c59
    refine sm_icmp_ge (off := 46) (tgt := 160) h29 h30 (by decide +kernel) (fun c63 => ?_) (fun c63 => ?_)
    · exact p61 c63
    · exact n62 c63
set_option maxHeartbeats 4000000 in
theorem m_hasWrongNumber_L56_ok {g : GE} (G : GG g) {σ : ST} {Q : VQ} (d : Nat) (hd1 : 0 ≤ d) (u2 : Int) (u3 : Int) (τ : TT)  {K : Int → Prop} (hE108 : ∀ v64 : Int, K (v64) → V g mX4_hasWrongNumber d 108 [(0, vr (some (gw g))), (1, vi v64), (2, vi u2), (3, vi u3)] [] σ τ Q) : ∀ (n : Nat) (w1 : Int) (w4 : Int), Sm (V g mX4_hasWrongNumber d 56 [(0, vr (some (gw g))), (1, vi w1), (2, vi u2), (3, vi u3), (4, vi w4)] [] σ τ Q) (m_hasWrongNumber_L56 u2 u3 τ n w1 w4) K := by
  intro n
  induction n with
  | zero => intro w1 w4; exact sm_none
  | succ n ih =>
    intro w1 w4
    rw [m_hasWrongNumber_L56.eq_2]
    refine sm_b (l' := [(0, vr (some (gw g))), (1, vi w1), (2, vi u2), (3, vi u3), (4, vi w4)]) (st' := [vr (some (gw g)), vi w4]) (pc' := 59) [(.iload 4, vi 0, 58), (.aload_n 0, vi 0, 59)] (by decide +kernel) rfl rfl ?_
    refine sm_tg (k := 40) (x := vi (tI τ 40)) G.2.1 q1458 rfl rfl (by decide +kernel) ?_
    refine sm_gd (fun h65 => ?_)
    refine sm_gd (fun h66 => ?_)
    refine sm_case (V g mX4_hasWrongNumber d 108 [(0, vr (some (gw g))), (1, vi w1), (2, vi u2), (3, vi u3), (4, vi w4)] [] σ τ Q) (V g mX4_hasWrongNumber d 65 [(0, vr (some (gw g))), (1, vi w1), (2, vi u2), (3, vi u3), (4, vi w4)] [] σ τ Q) ?_ ?_ (fun f96 p97 n98 => ?_)
    · refine sm_pick [0, 1, 2, 3] (l' := [(0, vr (some (gw g))), (1, vi w1), (2, vi u2), (3, vi u3)]) rfl ?_
      exact sm_leaf (fun h => hE108 _ h)
    · refine sm_b (l' := [(0, vr (some (gw g))), (1, vi w1), (2, vi u2), (3, vi u3), (4, vi w4)]) (st' := [vi w1]) (pc' := 66) [(.iload_n 1, vi 0, 66)] (by decide +kernel) rfl rfl ?_
      refine sm_bind1 (fun (v75 : Int) => V g mX4_hasWrongNumber d 101 [(0, vr (some (gw g))), (2, vi u2), (3, vi u3), (4, vi w4)] [vi v75] σ τ Q) (fun v75 => ?_) (fun K76 j77 => ?_)
      · refine sm_b (l' := [(0, vr (some (gw g))), (2, vi u2), (3, vi u3), (4, vi (w4 + 1)), (1, vi v75)]) (st' := []) (pc' := 56) [(.istore_n 1, vi 0, 102), (.iinc 4 1, vi 1, 105), (.goto (-49), vi 0, 56)] (by decide +kernel) rfl rfl ?_
        refine sm_pick [0, 4, 1, 2, 3] (l' := [(0, vr (some (gw g))), (1, vi v75), (2, vi u2), (3, vi u3), (4, vi (w4 + 1))]) rfl ?_
        exact ih v75 (w4 + 1)
      · refine sm_gd (fun h69 => ?_)
        refine sm_case (V g mX4_hasWrongNumber d 69 [(0, vr (some (gw g))), (1, vi w1), (2, vi u2), (3, vi u3), (4, vi w4)] [] σ τ Q) (V g mX4_hasWrongNumber d 96 [(0, vr (some (gw g))), (1, vi w1), (2, vi u2), (3, vi u3), (4, vi w4)] [] σ τ Q) ?_ ?_ (fun f92 p93 n94 => ?_)
        · refine sm_b (l' := [(0, vr (some (gw g))), (1, vi w1), (2, vi u2), (3, vi u3), (4, vi w4)]) (st' := [vr (some (gw g))]) (pc' := 70) [(.aload_n 0, vi 0, 70)] (by decide +kernel) rfl rfl ?_
          refine sm_tg (k := 34) (x := vr (some (gT g 34))) G.2.1 q1452 rfl rfl (by decide +kernel) ?_
          refine sm_b (l' := [(0, vr (some (gw g))), (1, vi w1), (2, vi u2), (3, vi u3), (4, vi w4)]) (st' := [vi w4, vr (some (gT g 34))]) (pc' := 75) [(.iload 4, vi 0, 75)] (by decide +kernel) rfl rfl ?_
          refine sm_gd (fun h79 => ?_)
          refine sm_ial (k := 34) G.2.1 (by decide) rfl (ibt (k := 34) h79) h79 (by decide +kernel) ?_
          refine sm_b (l' := [(0, vr (some (gw g))), (1, vi w1), (2, vi u2), (3, vi u3), (4, vi w4)]) (st' := [vr (some (gw g)), vi (tA τ 34 w4.toNat)]) (pc' := 77) [(.aload_n 0, vi 0, 77)] (by decide +kernel) rfl rfl ?_
          refine sm_tg (k := 23) (x := vr (some (gT g 23))) G.2.1 q1441 rfl rfl (by decide +kernel) ?_
          refine sm_b (l' := [(0, vr (some (gw g))), (1, vi w1), (2, vi u2), (3, vi u3), (4, vi w4)]) (st' := [vi u2, vr (some (gT g 23)), vi (tA τ 34 w4.toNat)]) (pc' := 81) [(.iload_n 2, vi 0, 81)] (by decide +kernel) rfl rfl ?_
          refine sm_gd (fun h80 => ?_)
          refine sm_ial (k := 23) G.2.1 (by decide) rfl (ibt (k := 23) h80) h80 (by decide +kernel) ?_
          refine sm_gd (fun h81 => ?_)
          refine sm_gd (fun h82 => ?_)
          refine sm_gd (fun h84 => ?_)
          refine sm_gd (fun h85 => ?_)
          refine sm_case (V g mX4_hasWrongNumber d 96 [(0, vr (some (gw g))), (1, vi w1), (2, vi u2), (3, vi u3), (4, vi w4)] [] σ τ Q) (V g mX4_hasWrongNumber d 100 [(0, vr (some (gw g))), (1, vi w1), (2, vi u2), (3, vi u3), (4, vi w4)] [] σ τ Q) ?_ ?_ (fun f87 p88 n89 => ?_)
          · refine sm_b (l' := [(0, vr (some (gw g))), (1, vi w1), (2, vi u2), (3, vi u3), (4, vi w4)]) (st' := [vi 1]) (pc' := 101) [(.iconst 1, vi 1, 97), (.goto 4, vi 0, 101)] (by decide +kernel) rfl rfl ?_
            refine sm_pick [0, 2, 3, 4] (l' := [(0, vr (some (gw g))), (2, vi u2), (3, vi u3), (4, vi w4)]) rfl ?_
            exact sm_leaf (fun h => j77 _ h)
          · refine sm_b (l' := [(0, vr (some (gw g))), (1, vi w1), (2, vi u2), (3, vi u3), (4, vi w4)]) (st' := [vi 0]) (pc' := 101) [(.iconst 0, vi 0, 101)] (by decide +kernel) rfl rfl ?_
            refine sm_pick [0, 2, 3, 4] (l' := [(0, vr (some (gw g))), (2, vi u2), (3, vi u3), (4, vi w4)]) rfl ?_
            exact sm_leaf (fun h => j77 _ h)
          refine sm_icmp_ne (off := 18) (tgt := 100) h81 h82 (by decide +kernel) (fun c90 => ?_) (fun c90 => ?_)
          · exact n89 (fun q => c90 q.1)
          · have w83 : (tA τ 34 w4.toNat) = (tA τ 23 u2.toNat) := c90
            refine sm_b (l' := [(0, vr (some (gw g))), (1, vi w1), (2, vi u2), (3, vi u3), (4, vi w4)]) (st' := [vr (some (gw g))]) (pc' := 86) [(.aload_n 0, vi 0, 86)] (by decide +kernel) rfl rfl ?_
            refine sm_tg (k := 33) (x := vr (some (gT g 33))) G.2.1 q1451 rfl rfl (by decide +kernel) ?_
            refine sm_b (l' := [(0, vr (some (gw g))), (1, vi w1), (2, vi u2), (3, vi u3), (4, vi w4)]) (st' := [vi w4, vr (some (gT g 33))]) (pc' := 91) [(.iload 4, vi 0, 91)] (by decide +kernel) rfl rfl ?_
            refine sm_ial (k := 33) G.2.1 (by decide) rfl (ibt (k := 33) h79) h79 (by decide +kernel) ?_
            refine sm_b (l' := [(0, vr (some (gw g))), (1, vi w1), (2, vi u2), (3, vi u3), (4, vi w4)]) (st' := [vi u3, vi (tA τ 33 w4.toNat)]) (pc' := 93) [(.iload_n 3, vi 0, 93)] (by decide +kernel) rfl rfl ?_
            refine sm_icmp_ne (off := 7) (tgt := 100) (h84 w83) (h85 w83) (by decide +kernel) (fun c91 => ?_) (fun c91 => ?_)
            · exact n89 (fun q => c91 q.2)
            · exact p88 ⟨c90, c91⟩
        · refine sm_b (l' := [(0, vr (some (gw g))), (1, vi w1), (2, vi u2), (3, vi u3), (4, vi w4)]) (st' := [vi 1]) (pc' := 101) [(.iconst 1, vi 1, 97), (.goto 4, vi 0, 101)] (by decide +kernel) rfl rfl ?_
          refine sm_pick [0, 2, 3, 4] (l' := [(0, vr (some (gw g))), (2, vi u2), (3, vi u3), (4, vi w4)]) rfl ?_
          exact sm_leaf (fun h => j77 _ h)
        refine sm_if_ne (off := 30) (tgt := 96) h69 (by decide +kernel) (fun c95 => ?_) (fun c95 => ?_)
        · exact n94 c95
        · exact p93 c95
    refine sm_icmp_ge (off := 46) (tgt := 108) h65 h66 (by decide +kernel) (fun c99 => ?_) (fun c99 => ?_)
    · exact p97 c99
    · exact n98 c99
set_option maxHeartbeats 4000000 in
theorem m_hasWrongNumber_L4_ok {g : GE} (G : GG g) {σ : ST} {Q : VQ} (d : Nat) (hd1 : 0 ≤ d) (τ : TT)  {K : Int → Prop} (hRET : ∀ r : Int, K (r) → Q.1 (some (vi r)) σ τ) : ∀ (n : Nat) (w1 : Int) (w2 : Int), Sm (V g mX4_hasWrongNumber d 4 [(0, vr (some (gw g))), (1, vi w1), (2, vi w2)] [] σ τ Q) (m_hasWrongNumber_L4 τ n w1 w2) K := by
  intro n
  induction n with
  | zero => intro w1 w2; exact sm_none
  | succ n ih =>
    intro w1 w2
    rw [m_hasWrongNumber_L4.eq_2]
    refine sm_b (l' := [(0, vr (some (gw g))), (1, vi w1), (2, vi w2)]) (st' := [vr (some (gw g)), vi w2]) (pc' := 6) [(.iload_n 2, vi 0, 5), (.aload_n 0, vi 0, 6)] (by decide +kernel) rfl rfl ?_
    refine sm_tg (k := 38) (x := vi (tI τ 38)) G.2.1 q1456 rfl rfl (by decide +kernel) ?_
    refine sm_gd (fun h1 => ?_)
    refine sm_gd (fun h2 => ?_)
    refine sm_case (V g mX4_hasWrongNumber d 166 [(0, vr (some (gw g))), (1, vi w1), (2, vi w2)] [] σ τ Q) (V g mX4_hasWrongNumber d 12 [(0, vr (some (gw g))), (1, vi w1), (2, vi w2)] [] σ τ Q) ?_ ?_ (fun f114 p115 n116 => ?_)
    · refine sm_b (l' := [(0, vr (some (gw g))), (1, vi w1), (2, vi w2)]) (st' := [vi w1]) (pc' := 167) [(.iload_n 1, vi 0, 167)] (by decide +kernel) rfl rfl ?_
      refine sm_gd (fun h6 => ?_)
      exact sm_zret rfl (by decide +kernel) h6 (fun h => hRET _ h)
    · refine sm_b (l' := [(0, vr (some (gw g))), (1, vi w1), (2, vi w2)]) (st' := [vr (some (gw g))]) (pc' := 13) [(.aload_n 0, vi 0, 13)] (by decide +kernel) rfl rfl ?_
      refine sm_tg (k := 24) (x := vr (some (gT g 24))) G.2.1 q1442 rfl rfl (by decide +kernel) ?_
      refine sm_b (l' := [(0, vr (some (gw g))), (1, vi w1), (2, vi w2)]) (st' := [vi w2, vr (some (gT g 24))]) (pc' := 17) [(.iload_n 2, vi 0, 17)] (by decide +kernel) rfl rfl ?_
      refine sm_gd (fun h7 => ?_)
      refine sm_ial (k := 24) G.2.1 (by decide) rfl (ibt (k := 24) h7) h7 (by decide +kernel) ?_
      refine sm_nmi (fun x8 => ?_)
      refine sm_b (l' := [(0, vr (some (gw g))), (1, vi w1), (2, vi w2), (3, vi x8)]) (st' := [vi w1]) (pc' := 20) [(.istore_n 3, vi 0, 19), (.iload_n 1, vi 0, 20)] (by decide +kernel) rfl rfl ?_
      refine sm_bind1 (fun (v16 : Int) => V g mX4_hasWrongNumber d 52 [(0, vr (some (gw g))), (2, vi w2), (3, vi x8)] [vi v16] σ τ Q) (fun v16 => ?_) (fun K17 j18 => ?_)
      · refine sm_b (l' := [(0, vr (some (gw g))), (2, vi w2), (3, vi x8), (1, vi v16), (4, vi 0)]) (st' := []) (pc' := 56) [(.istore_n 1, vi 0, 53), (.iconst 0, vi 0, 54), (.istore 4, vi 0, 56)] (by decide +kernel) rfl rfl ?_
        refine sm_bind1 (fun (v20 : Int) => V g mX4_hasWrongNumber d 108 [(0, vr (some (gw g))), (1, vi v20), (2, vi w2), (3, vi x8)] [] σ τ Q) (fun v20 => ?_) (fun K21 j22 => ?_)
        · refine sm_b (l' := [(0, vr (some (gw g))), (1, vi v20), (2, vi w2), (3, vi x8), (4, vi 0)]) (st' := []) (pc' := 111) [(.iconst 0, vi 0, 109), (.istore 4, vi 0, 111)] (by decide +kernel) rfl rfl ?_
          refine sm_bind1 (fun (v24 : Int) => V g mX4_hasWrongNumber d 160 [(0, vr (some (gw g))), (1, vi v24), (2, vi w2)] [] σ τ Q) (fun v24 => ?_) (fun K25 j26 => ?_)
          · refine sm_b (l' := [(0, vr (some (gw g))), (1, vi v24), (2, vi (w2 + 1))]) (st' := []) (pc' := 4) [(.iinc 2 1, vi 1, 163), (.goto (-159), vi 0, 4)] (by decide +kernel) rfl rfl ?_
            exact ih v24 (w2 + 1)
          · exact m_hasWrongNumber_L111_ok G d hd1 w2 x8 τ  (fun _ h => j26 _ h) FU v20 0
        · refine sm_pick [0, 3, 1, 2, 4] (l' := [(0, vr (some (gw g))), (1, vi v16), (2, vi w2), (3, vi x8), (4, vi 0)]) rfl ?_
          exact m_hasWrongNumber_L56_ok G d hd1 w2 x8 τ  (fun _ h => j22 _ h) FU v16 0
      · refine sm_gd (fun h9 => ?_)
        refine sm_gd (fun h11 => ?_)
        refine sm_gd (fun h13 => ?_)
        refine sm_case (V g mX4_hasWrongNumber d 33 [(0, vr (some (gw g))), (1, vi w1), (2, vi w2), (3, vi x8)] [] σ τ Q) (V g mX4_hasWrongNumber d 47 [(0, vr (some (gw g))), (1, vi w1), (2, vi w2), (3, vi x8)] [] σ τ Q) ?_ ?_ (fun f108 p109 n110 => ?_)
        · refine sm_b (l' := [(0, vr (some (gw g))), (1, vi w1), (2, vi w2), (3, vi x8)]) (st' := [vi 19000, vi x8]) (pc' := 37) [(.iload_n 3, vi 0, 34), (.sipush 19000, vi 19000, 37)] (by decide +kernel) rfl rfl ?_
          refine sm_gd (fun h100 => ?_)
          refine sm_case (V g mX4_hasWrongNumber d 51 [(0, vr (some (gw g))), (1, vi w1), (2, vi w2), (3, vi x8)] [] σ τ Q) (V g mX4_hasWrongNumber d 47 [(0, vr (some (gw g))), (1, vi w1), (2, vi w2), (3, vi x8)] [] σ τ Q) ?_ ?_ (fun f103 p104 n105 => ?_)
          · refine sm_b (l' := [(0, vr (some (gw g))), (1, vi w1), (2, vi w2), (3, vi x8)]) (st' := [vi 0]) (pc' := 52) [(.iconst 0, vi 0, 52)] (by decide +kernel) rfl rfl ?_
            refine sm_pick [0, 2, 3] (l' := [(0, vr (some (gw g))), (2, vi w2), (3, vi x8)]) rfl ?_
            exact sm_leaf (fun h => j18 _ h)
          · refine sm_b (l' := [(0, vr (some (gw g))), (1, vi w1), (2, vi w2), (3, vi x8)]) (st' := [vi 1]) (pc' := 52) [(.iconst 1, vi 1, 48), (.goto 4, vi 0, 52)] (by decide +kernel) rfl rfl ?_
            refine sm_pick [0, 2, 3] (l' := [(0, vr (some (gw g))), (2, vi w2), (3, vi x8)]) rfl ?_
            exact sm_leaf (fun h => j18 _ h)
          refine sm_icmp_lt (off := 14) (tgt := 51) h100 (by decide) (by decide +kernel) (fun c106 => ?_) (fun c106 => ?_)
          · exact p104 (Or.inl c106)
          · refine sm_b (l' := [(0, vr (some (gw g))), (1, vi w1), (2, vi w2), (3, vi x8)]) (st' := [vi 19999, vi x8]) (pc' := 44) [(.iload_n 3, vi 0, 41), (.sipush 19999, vi 19999, 44)] (by decide +kernel) rfl rfl ?_
            refine sm_icmp_gt (off := 7) (tgt := 51) h100 (by decide) (by decide +kernel) (fun c107 => ?_) (fun c107 => ?_)
            · exact p104 (Or.inr c107)
            · exact n105 (fun q => q.elim c106 c107)
        · refine sm_b (l' := [(0, vr (some (gw g))), (1, vi w1), (2, vi w2), (3, vi x8)]) (st' := [vi 1]) (pc' := 52) [(.iconst 1, vi 1, 48), (.goto 4, vi 0, 52)] (by decide +kernel) rfl rfl ?_
          refine sm_pick [0, 2, 3] (l' := [(0, vr (some (gw g))), (2, vi w2), (3, vi x8)]) rfl ?_
          exact sm_leaf (fun h => j18 _ h)
        refine sm_if_ne (off := 27) (tgt := 47) h9 (by decide +kernel) (fun c111 => ?_) (fun c111 => ?_)
        · exact n110 (fun q => (fun q => c111 q.1) q.1)
        · have w10 : w1 = 0 := c111
          refine sm_b (l' := [(0, vr (some (gw g))), (1, vi w1), (2, vi w2), (3, vi x8)]) (st' := [vi x8]) (pc' := 24) [(.iload_n 3, vi 0, 24)] (by decide +kernel) rfl rfl ?_
          refine sm_if_eq (off := 23) (tgt := 47) (h11 w10) (by decide +kernel) (fun c112 => ?_) (fun c112 => ?_)
          · exact n110 (fun q => (fun q => (fun q => q c112) q.2) q.1)
          · have w12 : (w1 = 0) ∧ (¬ (x8 = 0)) := ⟨c111, c112⟩
            refine sm_b (l' := [(0, vr (some (gw g))), (1, vi w1), (2, vi w2), (3, vi x8)]) (st' := [vi x8]) (pc' := 28) [(.iload_n 3, vi 0, 28)] (by decide +kernel) rfl rfl ?_
            refine sm_ldc (x := 536870911) (by decide) (by decide +kernel) q1718 ?_
            refine sm_icmp_gt (off := 17) (tgt := 47) (h13 w12) (by decide) (by decide +kernel) (fun c113 => ?_) (fun c113 => ?_)
            · exact n110 (fun q => (fun q => q c113) q.2)
            · exact p109 ⟨⟨c111, c112⟩, c113⟩
    refine sm_icmp_ge (off := 157) (tgt := 166) h1 h2 (by decide +kernel) (fun c117 => ?_) (fun c117 => ?_)
    · exact p115 c117
    · exact n116 c117
set_option maxHeartbeats 4000000 in
theorem m_hasWrongNumber_ok {g : GE} (G : GG g) {σ : ST} (d : Nat) (hd1 : 0 ≤ d)   (τ : TT) (Q : VQ) : Sm (V g mX4_hasWrongNumber d 0 [(0, vr (some (gw g)))] [] σ τ Q) (m_hasWrongNumber τ) (fun r => Q.1 (some (vi r)) σ τ) := by
  unfold m_hasWrongNumber
  refine sm_top (fun K hRET => ?_)
  refine sm_b (l' := [(0, vr (some (gw g))), (1, vi 0), (2, vi 0)]) (st' := []) (pc' := 4) [(.iconst 0, vi 0, 1), (.istore_n 1, vi 0, 2), (.iconst 0, vi 0, 3), (.istore_n 2, vi 0, 4)] (by decide +kernel) rfl rfl ?_
  exact m_hasWrongNumber_L4_ok G d hd1 τ  (fun r h => hRET _ h) FU 0 0
def m_scalarOf_L57 (u1 : Int) (u3 : Int) (u4 : Int) (u5 : Int) (τ : TT) : Nat → Int → Int → Option (Int)
  | 0, _, _ => none
  | n + 1, w6, w7 => gd (rg w6) (gd (¬ (w6 = 0) → rg w7) (gd (¬ (w6 = 0) → rg u5) (if (w6 = 0) ∨ (u5 ≤ w7) then (some w6) else (gd (ib w7 (slen 23)) (gd (ib u1 1001) (gd (ib (((tA τ 10 u1.toNat) + w7) - u3) 1000) (Option.bind (gd (rg (tA τ 8 (((tA τ 10 u1.toNat) + w7) - u3).toNat)) (if (((sch 23 w7.toNat : Nat) : Int)) = (tA τ 8 (((tA τ 10 u1.toNat) + w7) - u3).toNat) then (some 1) else (some 0))) fun (v52 : Int) => m_scalarOf_L57 u1 u3 u4 u5 τ n v52 (w7 + 1))))))))
def m_scalarOf_L11 (u1 : Int) (τ : TT) : Nat → Int → Int → Int → Option (Int)
  | 0, _, _, _ => none
  | n + 1, w3, w4, w5 => gd (rg w5) (if (((slen 23 : Nat) : Int)) ≤ w5 then (some (((-1)))) else (gd (ib w5 (slen 23)) (Option.bind (if (((sch 23 w5.toNat : Nat) : Int)) = 32 then (gd (ib u1 1001) (Option.bind (gd (rg (w5 - w3)) (gd (rg (tA τ 11 u1.toNat)) (if (w5 - w3) = (tA τ 11 u1.toNat) then (some 1) else (some 0)))) fun (v20 : Int) => Option.bind (m_scalarOf_L57 u1 w3 w4 w5 τ FU v20 w3) fun (v24 : Int) => gd (rg v24) (if v24 = 0 then (nm (w5 + 1) fun x31 => some (Sum.inr ((x31, w4 + 1)))) else (some (Sum.inl w4))))) else (some (Sum.inr ((w3, w4))))) (Sum.elim some fun (v11 : Int × Int) => m_scalarOf_L11 u1 τ n v11.1 v11.2 (w5 + 1)))))
def m_scalarOf (a1 : Int) (τ : TT) : Option (Int) := m_scalarOf_L11 a1 τ FU 0 0 0
set_option maxHeartbeats 4000000 in
theorem m_scalarOf_L57_ok {g : GE} (G : GG g) {σ : ST} {Q : VQ} (d : Nat) (hd1 : 6 ≤ d) (u1 : Int) (u3 : Int) (u4 : Int) (u5 : Int) (τ : TT)  {K : Int → Prop} (hE107 : ∀ v36 : Int, K (v36) → V g mX4_scalarOf d 107 [(0, vr (some (gw g))), (1, vi u1), (2, vr (some (gK g 23))), (4, vi u4), (5, vi u5), (6, vi v36)] [] σ τ Q) : ∀ (n : Nat) (w6 : Int) (w7 : Int), Sm (V g mX4_scalarOf d 57 [(0, vr (some (gw g))), (1, vi u1), (2, vr (some (gK g 23))), (3, vi u3), (4, vi u4), (5, vi u5), (6, vi w6), (7, vi w7)] [] σ τ Q) (m_scalarOf_L57 u1 u3 u4 u5 τ n w6 w7) K := by
  intro n
  induction n with
  | zero => intro w6 w7; exact sm_none
  | succ n ih =>
    intro w6 w7
    rw [m_scalarOf_L57.eq_2]
    refine sm_b (l' := [(0, vr (some (gw g))), (1, vi u1), (2, vr (some (gK g 23))), (3, vi u3), (4, vi u4), (5, vi u5), (6, vi w6), (7, vi w7)]) (st' := [vi w6]) (pc' := 59) [(.iload 6, vi 0, 59)] (by decide +kernel) rfl rfl ?_
    refine sm_gd (fun h37 => ?_)
    refine sm_gd (fun h39 => ?_)
    refine sm_gd (fun h40 => ?_)
    refine sm_case (V g mX4_scalarOf d 107 [(0, vr (some (gw g))), (1, vi u1), (2, vr (some (gK g 23))), (3, vi u3), (4, vi u4), (5, vi u5), (6, vi w6), (7, vi w7)] [] σ τ Q) (V g mX4_scalarOf d 69 [(0, vr (some (gw g))), (1, vi u1), (2, vr (some (gK g 23))), (3, vi u3), (4, vi u4), (5, vi u5), (6, vi w6), (7, vi w7)] [] σ τ Q) ?_ ?_ (fun f60 p61 n62 => ?_)
    · refine sm_pick [0, 1, 2, 4, 5, 6] (l' := [(0, vr (some (gw g))), (1, vi u1), (2, vr (some (gK g 23))), (4, vi u4), (5, vi u5), (6, vi w6)]) rfl ?_
      exact sm_leaf (fun h => hE107 _ h)
    · refine sm_b (l' := [(0, vr (some (gw g))), (1, vi u1), (2, vr (some (gK g 23))), (3, vi u3), (4, vi u4), (5, vi u5), (6, vi w6), (7, vi w7)]) (st' := [vi w7, vr (some (gK g 23))]) (pc' := 72) [(.aload_n 2, vi 0, 70), (.iload 7, vi 0, 72)] (by decide +kernel) rfl rfl ?_
      refine sm_gd (fun h46 => ?_)
      refine sm_scha (k := 23) G [] rfl (by decide +kernel) q1643 h46 (by omega) rfl ?_
      refine sm_b (l' := [(0, vr (some (gw g))), (1, vi u1), (2, vr (some (gK g 23))), (3, vi u3), (4, vi u4), (5, vi u5), (6, vi w6), (7, vi w7)]) (st' := [vr (some (gw g)), vi (((sch 23 w7.toNat : Nat) : Int))]) (pc' := 76) [(.aload_n 0, vi 0, 76)] (by decide +kernel) rfl rfl ?_
      refine sm_tg (k := 8) (x := vr (some (gT g 8))) G.2.1 q1426 rfl rfl (by decide +kernel) ?_
      refine sm_b (l' := [(0, vr (some (gw g))), (1, vi u1), (2, vr (some (gK g 23))), (3, vi u3), (4, vi u4), (5, vi u5), (6, vi w6), (7, vi w7)]) (st' := [vr (some (gw g)), vr (some (gT g 8)), vi (((sch 23 w7.toNat : Nat) : Int))]) (pc' := 80) [(.aload_n 0, vi 0, 80)] (by decide +kernel) rfl rfl ?_
      refine sm_tg (k := 10) (x := vr (some (gT g 10))) G.2.1 q1428 rfl rfl (by decide +kernel) ?_
      refine sm_b (l' := [(0, vr (some (gw g))), (1, vi u1), (2, vr (some (gK g 23))), (3, vi u3), (4, vi u4), (5, vi u5), (6, vi w6), (7, vi w7)]) (st' := [vi u1, vr (some (gT g 10)), vr (some (gT g 8)), vi (((sch 23 w7.toNat : Nat) : Int))]) (pc' := 84) [(.iload_n 1, vi 0, 84)] (by decide +kernel) rfl rfl ?_
      refine sm_gd (fun h47 => ?_)
      refine sm_ial (k := 10) G.2.1 (by decide) rfl (ibt (k := 10) h47) h47 (by decide +kernel) ?_
      refine sm_b (l' := [(0, vr (some (gw g))), (1, vi u1), (2, vr (some (gK g 23))), (3, vi u3), (4, vi u4), (5, vi u5), (6, vi w6), (7, vi w7)]) (st' := [vi (((tA τ 10 u1.toNat) + w7) - u3), vr (some (gT g 8)), vi (((sch 23 w7.toNat : Nat) : Int))]) (pc' := 90) [(.iload 7, vi 0, 87), (.iadd, vi 0, 88), (.iload_n 3, vi 0, 89), (.isub, vi 0, 90)] (by decide +kernel) rfl rfl ?_
      refine sm_gd (fun h48 => ?_)
      refine sm_ial (k := 8) G.2.1 (by decide) rfl (ibt (k := 8) h48) h48 (by decide +kernel) ?_
      refine sm_bind1 (fun (v52 : Int) => V g mX4_scalarOf d 99 [(0, vr (some (gw g))), (1, vi u1), (2, vr (some (gK g 23))), (3, vi u3), (4, vi u4), (5, vi u5), (7, vi w7)] [vi v52] σ τ Q) (fun v52 => ?_) (fun K53 j54 => ?_)
      · refine sm_b (l' := [(0, vr (some (gw g))), (1, vi u1), (2, vr (some (gK g 23))), (3, vi u3), (4, vi u4), (5, vi u5), (7, vi (w7 + 1)), (6, vi v52)]) (st' := []) (pc' := 57) [(.istore 6, vi 0, 101), (.iinc 7 1, vi 1, 104), (.goto (-47), vi 0, 57)] (by decide +kernel) rfl rfl ?_
        refine sm_pick [0, 1, 2, 3, 4, 5, 7, 6] (l' := [(0, vr (some (gw g))), (1, vi u1), (2, vr (some (gK g 23))), (3, vi u3), (4, vi u4), (5, vi u5), (6, vi v52), (7, vi (w7 + 1))]) rfl ?_
        exact ih v52 (w7 + 1)
      · refine sm_gd (fun h49 => ?_)
        refine sm_case (V g mX4_scalarOf d 94 [(0, vr (some (gw g))), (1, vi u1), (2, vr (some (gK g 23))), (3, vi u3), (4, vi u4), (5, vi u5), (6, vi w6), (7, vi w7)] [] σ τ Q) (V g mX4_scalarOf d 98 [(0, vr (some (gw g))), (1, vi u1), (2, vr (some (gK g 23))), (3, vi u3), (4, vi u4), (5, vi u5), (6, vi w6), (7, vi w7)] [] σ τ Q) ?_ ?_ (fun f56 p57 n58 => ?_)
        · refine sm_b (l' := [(0, vr (some (gw g))), (1, vi u1), (2, vr (some (gK g 23))), (3, vi u3), (4, vi u4), (5, vi u5), (6, vi w6), (7, vi w7)]) (st' := [vi 1]) (pc' := 99) [(.iconst 1, vi 1, 95), (.goto 4, vi 0, 99)] (by decide +kernel) rfl rfl ?_
          refine sm_pick [0, 1, 2, 3, 4, 5, 7] (l' := [(0, vr (some (gw g))), (1, vi u1), (2, vr (some (gK g 23))), (3, vi u3), (4, vi u4), (5, vi u5), (7, vi w7)]) rfl ?_
          exact sm_leaf (fun h => j54 _ h)
        · refine sm_b (l' := [(0, vr (some (gw g))), (1, vi u1), (2, vr (some (gK g 23))), (3, vi u3), (4, vi u4), (5, vi u5), (6, vi w6), (7, vi w7)]) (st' := [vi 0]) (pc' := 99) [(.iconst 0, vi 0, 99)] (by decide +kernel) rfl rfl ?_
          refine sm_pick [0, 1, 2, 3, 4, 5, 7] (l' := [(0, vr (some (gw g))), (1, vi u1), (2, vr (some (gK g 23))), (3, vi u3), (4, vi u4), (5, vi u5), (7, vi w7)]) rfl ?_
          exact sm_leaf (fun h => j54 _ h)
        refine sm_icmp_ne (off := 7) (tgt := 98) (sch_rg _ _) h49 (by decide +kernel) (fun c59 => ?_) (fun c59 => ?_)
        · exact n58 c59
        · exact p57 c59
    refine sm_if_eq (off := 48) (tgt := 107) h37 (by decide +kernel) (fun c63 => ?_) (fun c63 => ?_)
    · exact p61 (Or.inl c63)
    · have w38 : ¬ (w6 = 0) := c63
      refine sm_b (l' := [(0, vr (some (gw g))), (1, vi u1), (2, vr (some (gK g 23))), (3, vi u3), (4, vi u4), (5, vi u5), (6, vi w6), (7, vi w7)]) (st' := [vi u5, vi w7]) (pc' := 66) [(.iload 7, vi 0, 64), (.iload 5, vi 0, 66)] (by decide +kernel) rfl rfl ?_
      refine sm_icmp_ge (off := 41) (tgt := 107) (h39 w38) (h40 w38) (by decide +kernel) (fun c64 => ?_) (fun c64 => ?_)
      · exact p61 (Or.inr c64)
      · exact n62 (fun q => q.elim c63 c64)
set_option maxHeartbeats 4000000 in
theorem m_scalarOf_L11_ok {g : GE} (G : GG g) {σ : ST} {Q : VQ} (d : Nat) (hd1 : 6 ≤ d) (u1 : Int) (τ : TT)  {K : Int → Prop} (hRET : ∀ r : Int, K (r) → Q.1 (some (vi r)) σ τ) : ∀ (n : Nat) (w3 : Int) (w4 : Int) (w5 : Int), Sm (V g mX4_scalarOf d 11 [(0, vr (some (gw g))), (1, vi u1), (2, vr (some (gK g 23))), (3, vi w3), (4, vi w4), (5, vi w5)] [] σ τ Q) (m_scalarOf_L11 u1 τ n w3 w4 w5) K := by
  intro n
  induction n with
  | zero => intro w3 w4 w5; exact sm_none
  | succ n ih =>
    intro w3 w4 w5
    rw [m_scalarOf_L11.eq_2]
    refine sm_b (l' := [(0, vr (some (gw g))), (1, vi u1), (2, vr (some (gK g 23))), (3, vi w3), (4, vi w4), (5, vi w5)]) (st' := [vr (some (gK g 23)), vi w5]) (pc' := 14) [(.iload 5, vi 0, 13), (.aload_n 2, vi 0, 14)] (by decide +kernel) rfl rfl ?_
    refine sm_slen (k := 23) G [vi w5] rfl (by decide +kernel) q1642 (by omega) rfl ?_
    refine sm_gd (fun h1 => ?_)
    refine sm_case (V g mX4_scalarOf d 129 [(0, vr (some (gw g))), (1, vi u1), (2, vr (some (gK g 23))), (3, vi w3), (4, vi w4), (5, vi w5)] [] σ τ Q) (V g mX4_scalarOf d 20 [(0, vr (some (gw g))), (1, vi u1), (2, vr (some (gK g 23))), (3, vi w3), (4, vi w4), (5, vi w5)] [] σ τ Q) ?_ ?_ (fun f73 p74 n75 => ?_)
    · refine sm_b (l' := [(0, vr (some (gw g))), (1, vi u1), (2, vr (some (gK g 23))), (3, vi w3), (4, vi w4), (5, vi w5)]) (st' := [vi ((-1))]) (pc' := 130) [(.iconst (-1), vi (-1), 130)] (by decide +kernel) rfl rfl ?_
      exact sm_iret rfl (by decide +kernel) (fun h => hRET _ h)
    · refine sm_b (l' := [(0, vr (some (gw g))), (1, vi u1), (2, vr (some (gK g 23))), (3, vi w3), (4, vi w4), (5, vi w5)]) (st' := [vi w5, vr (some (gK g 23))]) (pc' := 23) [(.aload_n 2, vi 0, 21), (.iload 5, vi 0, 23)] (by decide +kernel) rfl rfl ?_
      refine sm_gd (fun h5 => ?_)
      refine sm_scha (k := 23) G [] rfl (by decide +kernel) q1643 h5 (by omega) rfl ?_
      refine sm_b (l' := [(0, vr (some (gw g))), (1, vi u1), (2, vr (some (gK g 23))), (3, vi w3), (4, vi w4), (5, vi w5)]) (st' := [vi 32, vi (((sch 23 w5.toNat : Nat) : Int))]) (pc' := 28) [(.bipush 32, vi 32, 28)] (by decide +kernel) rfl rfl ?_
      refine sm_bindS (fun (v11 : Int × Int) => V g mX4_scalarOf d 123 [(0, vr (some (gw g))), (1, vi u1), (2, vr (some (gK g 23))), (3, vi v11.1), (4, vi v11.2), (5, vi w5)] [] σ τ Q) (fun v11 => ?_) (fun K12 o14 j13 => ?_)
      · refine sm_b (l' := [(0, vr (some (gw g))), (1, vi u1), (2, vr (some (gK g 23))), (3, vi v11.1), (4, vi v11.2), (5, vi (w5 + 1))]) (st' := []) (pc' := 11) [(.iinc 5 1, vi 1, 126), (.goto (-115), vi 0, 11)] (by decide +kernel) rfl rfl ?_
        exact ih v11.1 v11.2 (w5 + 1)
      · refine sm_case (V g mX4_scalarOf d 34 [(0, vr (some (gw g))), (1, vi u1), (2, vr (some (gK g 23))), (3, vi w3), (4, vi w4), (5, vi w5)] [] σ τ Q) (V g mX4_scalarOf d 31 [(0, vr (some (gw g))), (1, vi u1), (2, vr (some (gK g 23))), (3, vi w3), (4, vi w4), (5, vi w5)] [] σ τ Q) ?_ ?_ (fun f69 p70 n71 => ?_)
        · refine sm_b (l' := [(0, vr (some (gw g))), (1, vi u1), (2, vr (some (gK g 23))), (3, vi w3), (4, vi w4), (5, vi w5)]) (st' := [vr (some (gw g)), vi (w5 - w3)]) (pc' := 39) [(.iload 5, vi 0, 36), (.iload_n 3, vi 0, 37), (.isub, vi 0, 38), (.aload_n 0, vi 0, 39)] (by decide +kernel) rfl rfl ?_
          refine sm_tg (k := 11) (x := vr (some (gT g 11))) G.2.1 q1429 rfl rfl (by decide +kernel) ?_
          refine sm_b (l' := [(0, vr (some (gw g))), (1, vi u1), (2, vr (some (gK g 23))), (3, vi w3), (4, vi w4), (5, vi w5)]) (st' := [vi u1, vr (some (gT g 11)), vi (w5 - w3)]) (pc' := 43) [(.iload_n 1, vi 0, 43)] (by decide +kernel) rfl rfl ?_
          refine sm_gd (fun h15 => ?_)
          refine sm_ial (k := 11) G.2.1 (by decide) rfl (ibt (k := 11) h15) h15 (by decide +kernel) ?_
          refine sm_bind1 (fun (v20 : Int) => V g mX4_scalarOf d 52 [(0, vr (some (gw g))), (1, vi u1), (2, vr (some (gK g 23))), (3, vi w3), (4, vi w4), (5, vi w5)] [vi v20] σ τ Q) (fun v20 => ?_) (fun K21 j22 => ?_)
          · refine sm_b (l' := [(0, vr (some (gw g))), (1, vi u1), (2, vr (some (gK g 23))), (3, vi w3), (4, vi w4), (5, vi w5), (6, vi v20), (7, vi w3)]) (st' := []) (pc' := 57) [(.istore 6, vi 0, 54), (.iload_n 3, vi 0, 55), (.istore 7, vi 0, 57)] (by decide +kernel) rfl rfl ?_
            refine sm_bind1 (fun (v24 : Int) => V g mX4_scalarOf d 107 [(0, vr (some (gw g))), (1, vi u1), (2, vr (some (gK g 23))), (4, vi w4), (5, vi w5), (6, vi v24)] [] σ τ Q) (fun v24 => ?_) (fun K25 j26 => ?_)
            · refine sm_b (l' := [(0, vr (some (gw g))), (1, vi u1), (2, vr (some (gK g 23))), (4, vi w4), (5, vi w5), (6, vi v24)]) (st' := [vi v24]) (pc' := 109) [(.iload 6, vi 0, 109)] (by decide +kernel) rfl rfl ?_
              refine sm_gd (fun h28 => ?_)
              refine sm_case (V g mX4_scalarOf d 115 [(0, vr (some (gw g))), (1, vi u1), (2, vr (some (gK g 23))), (4, vi w4), (5, vi w5), (6, vi v24)] [] σ τ Q) (V g mX4_scalarOf d 112 [(0, vr (some (gw g))), (1, vi u1), (2, vr (some (gK g 23))), (4, vi w4), (5, vi w5), (6, vi v24)] [] σ τ Q) ?_ ?_ (fun f32 p33 n34 => ?_)
              · refine sm_b (l' := [(0, vr (some (gw g))), (1, vi u1), (2, vr (some (gK g 23))), (4, vi w4), (5, vi w5), (6, vi v24)]) (st' := [vi (w5 + 1)]) (pc' := 119) [(.iload 5, vi 0, 117), (.iconst 1, vi 1, 118), (.iadd, vi 0, 119)] (by decide +kernel) rfl rfl ?_
                refine sm_nmi (fun x31 => ?_)
                refine sm_b (l' := [(0, vr (some (gw g))), (1, vi u1), (2, vr (some (gK g 23))), (4, vi (w4 + 1)), (5, vi w5), (6, vi v24), (3, vi x31)]) (st' := []) (pc' := 123) [(.istore_n 3, vi 0, 120), (.iinc 4 1, vi 1, 123)] (by decide +kernel) rfl rfl ?_
                refine sm_pick [0, 1, 2, 6, 3, 4] (l' := [(0, vr (some (gw g))), (1, vi u1), (2, vr (some (gK g 23))), (3, vi x31), (4, vi (w4 + 1)), (5, vi w5)]) rfl ?_
                exact sm_leaf (fun h => j13 _ h)
              · refine sm_b (l' := [(0, vr (some (gw g))), (1, vi u1), (2, vr (some (gK g 23))), (4, vi w4), (5, vi w5), (6, vi v24)]) (st' := [vi w4]) (pc' := 114) [(.iload 4, vi 0, 114)] (by decide +kernel) rfl rfl ?_
                exact sm_iret rfl (by decide +kernel) (fun h => hRET _ (o14 _ h))
              refine sm_if_eq (off := 6) (tgt := 115) h28 (by decide +kernel) (fun c35 => ?_) (fun c35 => ?_)
              · exact p33 c35
              · exact n34 c35
            · exact m_scalarOf_L57_ok G d hd1 u1 w3 w4 w5 τ  (fun _ h => j26 _ h) FU v20 w3
          · refine sm_gd (fun h16 => ?_)
            refine sm_gd (fun h17 => ?_)
            refine sm_case (V g mX4_scalarOf d 47 [(0, vr (some (gw g))), (1, vi u1), (2, vr (some (gK g 23))), (3, vi w3), (4, vi w4), (5, vi w5)] [] σ τ Q) (V g mX4_scalarOf d 51 [(0, vr (some (gw g))), (1, vi u1), (2, vr (some (gK g 23))), (3, vi w3), (4, vi w4), (5, vi w5)] [] σ τ Q) ?_ ?_ (fun f65 p66 n67 => ?_)
            · refine sm_b (l' := [(0, vr (some (gw g))), (1, vi u1), (2, vr (some (gK g 23))), (3, vi w3), (4, vi w4), (5, vi w5)]) (st' := [vi 1]) (pc' := 52) [(.iconst 1, vi 1, 48), (.goto 4, vi 0, 52)] (by decide +kernel) rfl rfl ?_
              exact sm_leaf (fun h => j22 _ h)
            · refine sm_b (l' := [(0, vr (some (gw g))), (1, vi u1), (2, vr (some (gK g 23))), (3, vi w3), (4, vi w4), (5, vi w5)]) (st' := [vi 0]) (pc' := 52) [(.iconst 0, vi 0, 52)] (by decide +kernel) rfl rfl ?_
              exact sm_leaf (fun h => j22 _ h)
            refine sm_icmp_ne (off := 7) (tgt := 51) h16 h17 (by decide +kernel) (fun c68 => ?_) (fun c68 => ?_)
            · exact n67 c68
            · exact p66 c68
        · refine sm_b (l' := [(0, vr (some (gw g))), (1, vi u1), (2, vr (some (gK g 23))), (3, vi w3), (4, vi w4), (5, vi w5)]) (st' := []) (pc' := 123) [(.goto 92, vi 0, 123)] (by decide +kernel) rfl rfl ?_
          exact sm_leaf (fun h => j13 _ h)
        refine sm_icmp_eq (off := 6) (tgt := 34) (sch_rg _ _) (by decide) (by decide +kernel) (fun c72 => ?_) (fun c72 => ?_)
        · exact p70 c72
        · exact n71 c72
    refine sm_icmp_ge (off := 112) (tgt := 129) h1 (slen_rg _) (by decide +kernel) (fun c76 => ?_) (fun c76 => ?_)
    · exact p74 c76
    · exact n75 c76
set_option maxHeartbeats 4000000 in
theorem m_scalarOf_ok {g : GE} (G : GG g) {σ : ST} (d : Nat) (hd1 : 6 ≤ d) (a1 : Int)  (τ : TT) (Q : VQ) : Sm (V g mX4_scalarOf d 0 [(0, vr (some (gw g))), (1, vi a1)] [] σ τ Q) (m_scalarOf a1 τ) (fun r => Q.1 (some (vi r)) σ τ) := by
  unfold m_scalarOf
  refine sm_top (fun K hRET => ?_)
  refine sm_str (k := 23) G rfl (by decide +kernel) ?_
  refine sm_b (l' := [(0, vr (some (gw g))), (1, vi a1), (2, vr (some (gK g 23))), (3, vi 0), (4, vi 0), (5, vi 0)]) (st' := []) (pc' := 11) [(.astore_n 2, vi 0, 3), (.iconst 0, vi 0, 4), (.istore_n 3, vi 0, 5), (.iconst 0, vi 0, 6), (.istore 4, vi 0, 8), (.iconst 0, vi 0, 9), (.istore 5, vi 0, 11)] (by decide +kernel) rfl rfl ?_
  exact m_scalarOf_L11_ok G d hd1 a1 τ  (fun r h => hRET _ h) FU 0 0 0
def m_within_L47 (u1 : Int) (u2 : Int) (τ : TT) : Nat → Int → Option ((Int) ⊕ (Int))
  | 0, _ => none
  | n + 1, w3 => gd (rg w3) (gd (rg (tI τ 36)) (if (tI τ 36) ≤ w3 then (some (Sum.inl (((-1))))) else (gd (ib w3 6) (gd (rg (tA τ 18 w3.toNat)) (gd (rg u1) (gd ((tA τ 18 w3.toNat) = u1 → ok (m_same (tA τ 17 w3.toNat) u2 τ)) (gd ((tA τ 18 w3.toNat) = u1 → rg (vv (m_same (tA τ 17 w3.toNat) u2 τ))) (if ((tA τ 18 w3.toNat) = u1) ∧ (¬ ((vv (m_same (tA τ 17 w3.toNat) u2 τ)) = 0)) then (some (Sum.inr w3)) else (m_within_L47 u1 u2 τ n (w3 + 1))))))))))
def m_within_L2 (u1 : Int) (u2 : Int) (τ : TT) : Nat → Int → Option (((Int) ⊕ (Unit)) ⊕ (Int))
  | 0, _ => none
  | n + 1, w3 => gd (rg w3) (gd (rg (tI τ 35)) (if (tI τ 35) ≤ w3 then (some (Sum.inl (Sum.inr (())))) else (gd (ib w3 10) (gd (rg (tA τ 16 w3.toNat)) (gd (rg u1) (gd ((tA τ 16 w3.toNat) = u1 → ok (m_same (tA τ 15 w3.toNat) u2 τ)) (gd ((tA τ 16 w3.toNat) = u1 → rg (vv (m_same (tA τ 15 w3.toNat) u2 τ))) (if ((tA τ 16 w3.toNat) = u1) ∧ (¬ ((vv (m_same (tA τ 15 w3.toNat) u2 τ)) = 0)) then (some (Sum.inr w3)) else (m_within_L2 u1 u2 τ n (w3 + 1))))))))))
def m_within (a1 : Int) (a2 : Int) (τ : TT) : Option (Int) := Option.bind (Option.bind (m_within_L2 a1 a2 τ FU 0) (Sum.elim some fun (v33 : Int) => some (Sum.inl ((16 + v33))))) (Sum.elim some fun (v1 : Unit) => Option.bind (m_within_L47 a1 a2 τ FU 0) (Sum.elim some fun (v5 : Int) => some ((32 + v5))))
set_option maxHeartbeats 4000000 in
theorem m_within_L47_ok {g : GE} (G : GG g) {σ : ST} {Q : VQ} (d : Nat) (hd1 : 1 ≤ d) (u1 : Int) (u2 : Int) (τ : TT)  {K : (Int) ⊕ (Int) → Prop} (hRET : ∀ r : Int, K (Sum.inl r) → Q.1 (some (vi r)) σ τ) (hE79 : ∀ v9 : Int, K (Sum.inr v9) → V g mX4_within d 79 [(3, vi v9)] [] σ τ Q) : ∀ (n : Nat) (w3 : Int), Sm (V g mX4_within d 47 [(0, vr (some (gw g))), (1, vi u1), (2, vi u2), (3, vi w3)] [] σ τ Q) (m_within_L47 u1 u2 τ n w3) K := by
  intro n
  induction n with
  | zero => intro w3; exact sm_none
  | succ n ih =>
    intro w3
    rw [m_within_L47.eq_2]
    refine sm_b (l' := [(0, vr (some (gw g))), (1, vi u1), (2, vi u2), (3, vi w3)]) (st' := [vr (some (gw g)), vi w3]) (pc' := 49) [(.iload_n 3, vi 0, 48), (.aload_n 0, vi 0, 49)] (by decide +kernel) rfl rfl ?_
    refine sm_tg (k := 36) (x := vi (tI τ 36)) G.2.1 q1454 rfl rfl (by decide +kernel) ?_
    refine sm_gd (fun h10 => ?_)
    refine sm_gd (fun h11 => ?_)
    refine sm_case (V g mX4_within d 90 [(0, vr (some (gw g))), (1, vi u1), (2, vi u2), (3, vi w3)] [] σ τ Q) (V g mX4_within d 55 [(0, vr (some (gw g))), (1, vi u1), (2, vi u2), (3, vi w3)] [] σ τ Q) ?_ ?_ (fun f29 p30 n31 => ?_)
    · refine sm_b (l' := [(0, vr (some (gw g))), (1, vi u1), (2, vi u2), (3, vi w3)]) (st' := [vi ((-1))]) (pc' := 91) [(.iconst (-1), vi (-1), 91)] (by decide +kernel) rfl rfl ?_
      exact sm_iret rfl (by decide +kernel) (fun h => hRET _ h)
    · refine sm_b (l' := [(0, vr (some (gw g))), (1, vi u1), (2, vi u2), (3, vi w3)]) (st' := [vr (some (gw g))]) (pc' := 56) [(.aload_n 0, vi 0, 56)] (by decide +kernel) rfl rfl ?_
      refine sm_tg (k := 18) (x := vr (some (gT g 18))) G.2.1 q1436 rfl rfl (by decide +kernel) ?_
      refine sm_b (l' := [(0, vr (some (gw g))), (1, vi u1), (2, vi u2), (3, vi w3)]) (st' := [vi w3, vr (some (gT g 18))]) (pc' := 60) [(.iload_n 3, vi 0, 60)] (by decide +kernel) rfl rfl ?_
      refine sm_gd (fun h17 => ?_)
      refine sm_ial (k := 18) G.2.1 (by decide) rfl (ibt (k := 18) h17) h17 (by decide +kernel) ?_
      refine sm_b (l' := [(0, vr (some (gw g))), (1, vi u1), (2, vi u2), (3, vi w3)]) (st' := [vi u1, vi (tA τ 18 w3.toNat)]) (pc' := 62) [(.iload_n 1, vi 0, 62)] (by decide +kernel) rfl rfl ?_
      refine sm_gd (fun h18 => ?_)
      refine sm_gd (fun h19 => ?_)
      refine sm_gd (fun h21 => ?_)
      refine sm_gd (fun h22 => ?_)
      refine sm_case (V g mX4_within d 79 [(0, vr (some (gw g))), (1, vi u1), (2, vi u2), (3, vi w3)] [] σ τ Q) (V g mX4_within d 84 [(0, vr (some (gw g))), (1, vi u1), (2, vi u2), (3, vi w3)] [] σ τ Q) ?_ ?_ (fun f24 p25 n26 => ?_)
      · refine sm_pick [3] (l' := [(3, vi w3)]) rfl ?_
        exact sm_leaf (fun h => hE79 _ h)
      · refine sm_b (l' := [(0, vr (some (gw g))), (1, vi u1), (2, vi u2), (3, vi (w3 + 1))]) (st' := []) (pc' := 47) [(.iinc 3 1, vi 1, 87), (.goto (-40), vi 0, 47)] (by decide +kernel) rfl rfl ?_
        exact ih (w3 + 1)
      refine sm_icmp_ne (off := 22) (tgt := 84) h18 h19 (by decide +kernel) (fun c27 => ?_) (fun c27 => ?_)
      · exact n26 (fun q => c27 q.1)
      · have w20 : (tA τ 18 w3.toNat) = u1 := c27
        refine sm_b (l' := [(0, vr (some (gw g))), (1, vi u1), (2, vi u2), (3, vi w3)]) (st' := [vr (some (gw g)), vr (some (gw g))]) (pc' := 67) [(.aload_n 0, vi 0, 66), (.aload_n 0, vi 0, 67)] (by decide +kernel) rfl rfl ?_
        refine sm_tg (k := 17) (x := vr (some (gT g 17))) G.2.1 q1435 rfl rfl (by decide +kernel) ?_
        refine sm_b (l' := [(0, vr (some (gw g))), (1, vi u1), (2, vi u2), (3, vi w3)]) (st' := [vi w3, vr (some (gT g 17)), vr (some (gw g))]) (pc' := 71) [(.iload_n 3, vi 0, 71)] (by decide +kernel) rfl rfl ?_
        refine sm_ial (k := 17) G.2.1 (by decide) rfl (ibt (k := 17) h17) h17 (by decide +kernel) ?_
        refine sm_b (l' := [(0, vr (some (gw g))), (1, vi u1), (2, vi u2), (3, vi w3)]) (st' := [vi u2, vi (tA τ 17 w3.toNat), vr (some (gw g))]) (pc' := 73) [(.iload_n 2, vi 0, 73)] (by decide +kernel) rfl rfl ?_
        refine sm_cvp (N := mX4_same) (d' := d - 1) (fun r => (some (vi r))) (some (vi (vv (m_same (tA τ 17 w3.toNat) u2 τ)))) (h21 w20) (fun y h => by rw [vv_some h]) [vi (tA τ 17 w3.toNat), vi u2] [] rfl (by decide +kernel) q1706 q1708 qs65 (Or.inl ⟨rfl, q1709⟩) (show okN yX4_same 2 = true by decide +kernel) (fun H hR => hR.rvw G.1 G.2.1) rfl rfl (by omega) rfl (fun Q' => m_same_ok G (d - 1) (by omega) (tA τ 17 w3.toNat) u2 τ Q') ?_
        refine sm_if_eq (off := 8) (tgt := 84) (h22 w20) (by decide +kernel) (fun c28 => ?_) (fun c28 => ?_)
        · exact n26 (fun q => (fun q => q c28) q.2)
        · exact p25 ⟨c27, c28⟩
    refine sm_icmp_ge (off := 38) (tgt := 90) h10 h11 (by decide +kernel) (fun c32 => ?_) (fun c32 => ?_)
    · exact p30 c32
    · exact n31 c32
set_option maxHeartbeats 4000000 in
theorem m_within_L2_ok {g : GE} (G : GG g) {σ : ST} {Q : VQ} (d : Nat) (hd1 : 1 ≤ d) (u1 : Int) (u2 : Int) (τ : TT)  {K : ((Int) ⊕ (Unit)) ⊕ (Int) → Prop} (hE45 : ∀ v37 : Unit, K (Sum.inl (Sum.inr v37)) → V g mX4_within d 45 [(0, vr (some (gw g))), (1, vi u1), (2, vi u2)] [] σ τ Q) (hE34 : ∀ v38 : Int, K (Sum.inr v38) → V g mX4_within d 34 [(3, vi v38)] [] σ τ Q) : ∀ (n : Nat) (w3 : Int), Sm (V g mX4_within d 2 [(0, vr (some (gw g))), (1, vi u1), (2, vi u2), (3, vi w3)] [] σ τ Q) (m_within_L2 u1 u2 τ n w3) K := by
  intro n
  induction n with
  | zero => intro w3; exact sm_none
  | succ n ih =>
    intro w3
    rw [m_within_L2.eq_2]
    refine sm_b (l' := [(0, vr (some (gw g))), (1, vi u1), (2, vi u2), (3, vi w3)]) (st' := [vr (some (gw g)), vi w3]) (pc' := 4) [(.iload_n 3, vi 0, 3), (.aload_n 0, vi 0, 4)] (by decide +kernel) rfl rfl ?_
    refine sm_tg (k := 35) (x := vi (tI τ 35)) G.2.1 q1453 rfl rfl (by decide +kernel) ?_
    refine sm_gd (fun h39 => ?_)
    refine sm_gd (fun h40 => ?_)
    refine sm_case (V g mX4_within d 45 [(0, vr (some (gw g))), (1, vi u1), (2, vi u2), (3, vi w3)] [] σ τ Q) (V g mX4_within d 10 [(0, vr (some (gw g))), (1, vi u1), (2, vi u2), (3, vi w3)] [] σ τ Q) ?_ ?_ (fun f57 p58 n59 => ?_)
    · refine sm_pick [0, 1, 2] (l' := [(0, vr (some (gw g))), (1, vi u1), (2, vi u2)]) rfl ?_
      exact sm_leaf (fun h => hE45 _ h)
    · refine sm_b (l' := [(0, vr (some (gw g))), (1, vi u1), (2, vi u2), (3, vi w3)]) (st' := [vr (some (gw g))]) (pc' := 11) [(.aload_n 0, vi 0, 11)] (by decide +kernel) rfl rfl ?_
      refine sm_tg (k := 16) (x := vr (some (gT g 16))) G.2.1 q1434 rfl rfl (by decide +kernel) ?_
      refine sm_b (l' := [(0, vr (some (gw g))), (1, vi u1), (2, vi u2), (3, vi w3)]) (st' := [vi w3, vr (some (gT g 16))]) (pc' := 15) [(.iload_n 3, vi 0, 15)] (by decide +kernel) rfl rfl ?_
      refine sm_gd (fun h45 => ?_)
      refine sm_ial (k := 16) G.2.1 (by decide) rfl (ibt (k := 16) h45) h45 (by decide +kernel) ?_
      refine sm_b (l' := [(0, vr (some (gw g))), (1, vi u1), (2, vi u2), (3, vi w3)]) (st' := [vi u1, vi (tA τ 16 w3.toNat)]) (pc' := 17) [(.iload_n 1, vi 0, 17)] (by decide +kernel) rfl rfl ?_
      refine sm_gd (fun h46 => ?_)
      refine sm_gd (fun h47 => ?_)
      refine sm_gd (fun h49 => ?_)
      refine sm_gd (fun h50 => ?_)
      refine sm_case (V g mX4_within d 34 [(0, vr (some (gw g))), (1, vi u1), (2, vi u2), (3, vi w3)] [] σ τ Q) (V g mX4_within d 39 [(0, vr (some (gw g))), (1, vi u1), (2, vi u2), (3, vi w3)] [] σ τ Q) ?_ ?_ (fun f52 p53 n54 => ?_)
      · refine sm_pick [3] (l' := [(3, vi w3)]) rfl ?_
        exact sm_leaf (fun h => hE34 _ h)
      · refine sm_b (l' := [(0, vr (some (gw g))), (1, vi u1), (2, vi u2), (3, vi (w3 + 1))]) (st' := []) (pc' := 2) [(.iinc 3 1, vi 1, 42), (.goto (-40), vi 0, 2)] (by decide +kernel) rfl rfl ?_
        exact ih (w3 + 1)
      refine sm_icmp_ne (off := 22) (tgt := 39) h46 h47 (by decide +kernel) (fun c55 => ?_) (fun c55 => ?_)
      · exact n54 (fun q => c55 q.1)
      · have w48 : (tA τ 16 w3.toNat) = u1 := c55
        refine sm_b (l' := [(0, vr (some (gw g))), (1, vi u1), (2, vi u2), (3, vi w3)]) (st' := [vr (some (gw g)), vr (some (gw g))]) (pc' := 22) [(.aload_n 0, vi 0, 21), (.aload_n 0, vi 0, 22)] (by decide +kernel) rfl rfl ?_
        refine sm_tg (k := 15) (x := vr (some (gT g 15))) G.2.1 q1433 rfl rfl (by decide +kernel) ?_
        refine sm_b (l' := [(0, vr (some (gw g))), (1, vi u1), (2, vi u2), (3, vi w3)]) (st' := [vi w3, vr (some (gT g 15)), vr (some (gw g))]) (pc' := 26) [(.iload_n 3, vi 0, 26)] (by decide +kernel) rfl rfl ?_
        refine sm_ial (k := 15) G.2.1 (by decide) rfl (ibt (k := 15) h45) h45 (by decide +kernel) ?_
        refine sm_b (l' := [(0, vr (some (gw g))), (1, vi u1), (2, vi u2), (3, vi w3)]) (st' := [vi u2, vi (tA τ 15 w3.toNat), vr (some (gw g))]) (pc' := 28) [(.iload_n 2, vi 0, 28)] (by decide +kernel) rfl rfl ?_
        refine sm_cvp (N := mX4_same) (d' := d - 1) (fun r => (some (vi r))) (some (vi (vv (m_same (tA τ 15 w3.toNat) u2 τ)))) (h49 w48) (fun y h => by rw [vv_some h]) [vi (tA τ 15 w3.toNat), vi u2] [] rfl (by decide +kernel) q1706 q1708 qs65 (Or.inl ⟨rfl, q1709⟩) (show okN yX4_same 2 = true by decide +kernel) (fun H hR => hR.rvw G.1 G.2.1) rfl rfl (by omega) rfl (fun Q' => m_same_ok G (d - 1) (by omega) (tA τ 15 w3.toNat) u2 τ Q') ?_
        refine sm_if_eq (off := 8) (tgt := 39) (h50 w48) (by decide +kernel) (fun c56 => ?_) (fun c56 => ?_)
        · exact n54 (fun q => (fun q => q c56) q.2)
        · exact p53 ⟨c55, c56⟩
    refine sm_icmp_ge (off := 38) (tgt := 45) h39 h40 (by decide +kernel) (fun c60 => ?_) (fun c60 => ?_)
    · exact p58 c60
    · exact n59 c60
set_option maxHeartbeats 4000000 in
theorem m_within_ok {g : GE} (G : GG g) {σ : ST} (d : Nat) (hd1 : 1 ≤ d) (a1 : Int) (a2 : Int)  (τ : TT) (Q : VQ) : Sm (V g mX4_within d 0 [(0, vr (some (gw g))), (1, vi a1), (2, vi a2)] [] σ τ Q) (m_within a1 a2 τ) (fun r => Q.1 (some (vi r)) σ τ) := by
  unfold m_within
  refine sm_top (fun K hRET => ?_)
  refine sm_b (l' := [(0, vr (some (gw g))), (1, vi a1), (2, vi a2), (3, vi 0)]) (st' := []) (pc' := 2) [(.iconst 0, vi 0, 1), (.istore_n 3, vi 0, 2)] (by decide +kernel) rfl rfl ?_
  refine sm_bindS (fun (v1 : Unit) => V g mX4_within d 45 [(0, vr (some (gw g))), (1, vi a1), (2, vi a2)] [] σ τ Q) (fun v1 => ?_) (fun K2 o4 j3 => ?_)
  · refine sm_b (l' := [(0, vr (some (gw g))), (1, vi a1), (2, vi a2), (3, vi 0)]) (st' := []) (pc' := 47) [(.iconst 0, vi 0, 46), (.istore_n 3, vi 0, 47)] (by decide +kernel) rfl rfl ?_
    refine sm_bindS (fun (v5 : Int) => V g mX4_within d 79 [(3, vi v5)] [] σ τ Q) (fun v5 => ?_) (fun K6 o8 j7 => ?_)
    · refine sm_b (l' := [(3, vi v5)]) (st' := [vi (32 + v5)]) (pc' := 83) [(.bipush 32, vi 32, 81), (.iload_n 3, vi 0, 82), (.iadd, vi 0, 83)] (by decide +kernel) rfl rfl ?_
      exact sm_iret rfl (by decide +kernel) (fun h => hRET _ h)
    · exact m_within_L47_ok G d hd1 a1 a2 τ  (fun r h => hRET _ (o8 _ h)) (fun _ h => j7 _ h) FU 0
  · refine sm_bindS (fun (v33 : Int) => V g mX4_within d 34 [(3, vi v33)] [] σ τ Q) (fun v33 => ?_) (fun K34 o36 j35 => ?_)
    · refine sm_b (l' := [(3, vi v33)]) (st' := [vi (16 + v33)]) (pc' := 38) [(.bipush 16, vi 16, 36), (.iload_n 3, vi 0, 37), (.iadd, vi 0, 38)] (by decide +kernel) rfl rfl ?_
      exact sm_iret rfl (by decide +kernel) (fun h => hRET _ (o4 _ h))
    · exact m_within_L2_ok G d hd1 a1 a2 τ  (fun _ h => j3 _ (o36 _ h)) (fun _ h => j35 _ h) FU 0
def m_kindOf_L79 (u1 : Int) (u2 : Int) (τ : TT) : Nat → Int → Int → Option (Int)
  | 0, _, _ => none
  | n + 1, w4, w5 => gd (ib u1 50) (gd (rg w5) (gd (rg (tA τ 26 u1.toNat)) (gd (¬ ((tA τ 26 u1.toNat) ≤ w5) → rg w4) (if ((tA τ 26 u1.toNat) ≤ w5) ∨ (w4 = ((-1))) then (some w4) else (Option.bind (gd (rg w4) (if 32 ≤ w4 then (some (((-1)))) else (Option.bind (m_within (w4 - 16) (u2 + (2 * w5)) τ) fun y33 => some y33))) fun (v29 : Int) => m_kindOf_L79 u1 u2 τ n v29 (w5 + 1))))))
def m_kindOf_L47 (u1 : Int) (u2 : Int) (τ : TT) : Nat → Int → Int → Option (Int)
  | 0, _, _ => none
  | n + 1, w3, w4 => gd (rg w4) (gd (w4 = ((-1)) → rg w3) (if (w4 = ((-1))) ∧ (¬ (w3 = ((-1)))) then (gd (ib w3 10) (nm (tA τ 16 w3.toNat) fun x50 => Option.bind (m_within x50 u2 τ) fun y51 => m_kindOf_L47 u1 u2 τ n x50 y51)) else (some w4)))
def m_kindOf (a1 : Int) (τ : TT) : Option (Int) := gd (ib a1 50) (nm (tA τ 25 a1.toNat) fun x2 => gd (rg (tA τ 26 a1.toNat)) (gd ((tA τ 26 a1.toNat) = 1 → ok (m_scalarOf x2 τ)) (gd ((tA τ 26 a1.toNat) = 1 → rg (vv (m_scalarOf x2 τ))) (if ((tA τ 26 a1.toNat) = 1) ∧ (¬ ((vv (m_scalarOf x2 τ)) = ((-1)))) then (Option.bind (m_scalarOf x2 τ) fun y10 => some y10) else (nm (tA τ 23 a1.toNat) fun x11 => Option.bind (m_within x11 x2 τ) fun y12 => Option.bind (m_kindOf_L47 a1 x2 τ FU x11 y12) fun (v13 : Int) => m_kindOf_L79 a1 x2 τ FU v13 1)))))
set_option maxHeartbeats 4000000 in
theorem m_kindOf_L79_ok {g : GE} (G : GG g) {σ : ST} {Q : VQ} (d : Nat) (hd1 : 7 ≤ d) (u1 : Int) (u2 : Int) (τ : TT)  {K : Int → Prop} (hRET : ∀ r : Int, K (r) → Q.1 (some (vi r)) σ τ) : ∀ (n : Nat) (w4 : Int) (w5 : Int), Sm (V g mX4_kindOf d 79 [(0, vr (some (gw g))), (1, vi u1), (2, vi u2), (4, vi w4), (5, vi w5)] [] σ τ Q) (m_kindOf_L79 u1 u2 τ n w4 w5) K := by
  intro n
  induction n with
  | zero => intro w4 w5; exact sm_none
  | succ n ih =>
    intro w4 w5
    rw [m_kindOf_L79.eq_2]
    refine sm_b (l' := [(0, vr (some (gw g))), (1, vi u1), (2, vi u2), (4, vi w4), (5, vi w5)]) (st' := [vr (some (gw g)), vi w5]) (pc' := 82) [(.iload 5, vi 0, 81), (.aload_n 0, vi 0, 82)] (by decide +kernel) rfl rfl ?_
    refine sm_tg (k := 26) (x := vr (some (gT g 26))) G.2.1 q1444 rfl rfl (by decide +kernel) ?_
    refine sm_b (l' := [(0, vr (some (gw g))), (1, vi u1), (2, vi u2), (4, vi w4), (5, vi w5)]) (st' := [vi u1, vr (some (gT g 26)), vi w5]) (pc' := 86) [(.iload_n 1, vi 0, 86)] (by decide +kernel) rfl rfl ?_
    refine sm_gd (fun h17 => ?_)
    refine sm_ial (k := 26) G.2.1 (by decide) rfl (ibt (k := 26) h17) h17 (by decide +kernel) ?_
    refine sm_gd (fun h18 => ?_)
    refine sm_gd (fun h19 => ?_)
    refine sm_gd (fun h21 => ?_)
    refine sm_case (V g mX4_kindOf d 130 [(0, vr (some (gw g))), (1, vi u1), (2, vi u2), (4, vi w4), (5, vi w5)] [] σ τ Q) (V g mX4_kindOf d 96 [(0, vr (some (gw g))), (1, vi u1), (2, vi u2), (4, vi w4), (5, vi w5)] [] σ τ Q) ?_ ?_ (fun f38 p39 n40 => ?_)
    · refine sm_b (l' := [(0, vr (some (gw g))), (1, vi u1), (2, vi u2), (4, vi w4), (5, vi w5)]) (st' := [vi w4]) (pc' := 132) [(.iload 4, vi 0, 132)] (by decide +kernel) rfl rfl ?_
      exact sm_iret rfl (by decide +kernel) (fun h => hRET _ h)
    · refine sm_b (l' := [(0, vr (some (gw g))), (1, vi u1), (2, vi u2), (4, vi w4), (5, vi w5)]) (st' := [vi 32, vi w4]) (pc' := 100) [(.iload 4, vi 0, 98), (.bipush 32, vi 32, 100)] (by decide +kernel) rfl rfl ?_
      refine sm_bind1 (fun (v29 : Int) => V g mX4_kindOf d 122 [(0, vr (some (gw g))), (1, vi u1), (2, vi u2), (5, vi w5)] [vi v29] σ τ Q) (fun v29 => ?_) (fun K30 j31 => ?_)
      · refine sm_b (l' := [(0, vr (some (gw g))), (1, vi u1), (2, vi u2), (5, vi (w5 + 1)), (4, vi v29)]) (st' := []) (pc' := 79) [(.istore 4, vi 0, 124), (.iinc 5 1, vi 1, 127), (.goto (-48), vi 0, 79)] (by decide +kernel) rfl rfl ?_
        refine sm_pick [0, 1, 2, 4, 3] (l' := [(0, vr (some (gw g))), (1, vi u1), (2, vi u2), (4, vi v29), (5, vi (w5 + 1))]) rfl ?_
        exact ih v29 (w5 + 1)
      · refine sm_gd (fun h25 => ?_)
        refine sm_case (V g mX4_kindOf d 121 [(0, vr (some (gw g))), (1, vi u1), (2, vi u2), (4, vi w4), (5, vi w5)] [] σ τ Q) (V g mX4_kindOf d 103 [(0, vr (some (gw g))), (1, vi u1), (2, vi u2), (4, vi w4), (5, vi w5)] [] σ τ Q) ?_ ?_ (fun f34 p35 n36 => ?_)
        · refine sm_b (l' := [(0, vr (some (gw g))), (1, vi u1), (2, vi u2), (4, vi w4), (5, vi w5)]) (st' := [vi ((-1))]) (pc' := 122) [(.iconst (-1), vi (-1), 122)] (by decide +kernel) rfl rfl ?_
          refine sm_pick [0, 1, 2, 4] (l' := [(0, vr (some (gw g))), (1, vi u1), (2, vi u2), (5, vi w5)]) rfl ?_
          exact sm_leaf (fun h => j31 _ h)
        · refine sm_b (l' := [(0, vr (some (gw g))), (1, vi u1), (2, vi u2), (4, vi w4), (5, vi w5)]) (st' := [vi (u2 + (2 * w5)), vi (w4 - 16), vr (some (gw g))]) (pc' := 115) [(.aload_n 0, vi 0, 104), (.iload 4, vi 0, 106), (.bipush 16, vi 16, 108), (.isub, vi 0, 109), (.iload_n 2, vi 0, 110), (.iconst 2, vi 2, 111), (.iload 5, vi 0, 113), (.imul, vi 0, 114), (.iadd, vi 0, 115)] (by decide +kernel) rfl rfl ?_
          refine sm_cv (N := mX4_within) (d' := d - 1) (fun r => (some (vi r))) (fun _ => σ) (fun _ => τ) [vi (w4 - 16), vi (u2 + (2 * w5))] [] rfl (by decide +kernel) q1728 q1730 qs70 (Or.inl ⟨rfl, q1731⟩) (show okN yX4_within 2 = true by decide +kernel) (fun H hR => hR.rvw G.1 G.2.1) rfl rfl (by omega) rfl (fun Q' => m_within_ok G (d - 1) (by omega) (w4 - 16) (u2 + (2 * w5)) τ Q') (fun y33 => ?_)
          refine sm_b (l' := [(0, vr (some (gw g))), (1, vi u1), (2, vi u2), (4, vi w4), (5, vi w5)]) (st' := [vi y33]) (pc' := 122) [(.goto 4, vi 0, 122)] (by decide +kernel) rfl rfl ?_
          refine sm_pick [0, 1, 2, 4] (l' := [(0, vr (some (gw g))), (1, vi u1), (2, vi u2), (5, vi w5)]) rfl ?_
          exact sm_leaf (fun h => j31 _ h)
        refine sm_icmp_ge (off := 21) (tgt := 121) h25 (by decide) (by decide +kernel) (fun c37 => ?_) (fun c37 => ?_)
        · exact p35 c37
        · exact n36 c37
    refine sm_icmp_ge (off := 43) (tgt := 130) h18 h19 (by decide +kernel) (fun c41 => ?_) (fun c41 => ?_)
    · exact p39 (Or.inl c41)
    · have w20 : ¬ ((tA τ 26 u1.toNat) ≤ w5) := c41
      refine sm_b (l' := [(0, vr (some (gw g))), (1, vi u1), (2, vi u2), (4, vi w4), (5, vi w5)]) (st' := [vi ((-1)), vi w4]) (pc' := 93) [(.iload 4, vi 0, 92), (.iconst (-1), vi (-1), 93)] (by decide +kernel) rfl rfl ?_
      refine sm_icmp_eq (off := 37) (tgt := 130) (h21 w20) (by decide) (by decide +kernel) (fun c42 => ?_) (fun c42 => ?_)
      · exact p39 (Or.inr c42)
      · exact n40 (fun q => q.elim c41 c42)
set_option maxHeartbeats 4000000 in
theorem m_kindOf_L47_ok {g : GE} (G : GG g) {σ : ST} {Q : VQ} (d : Nat) (hd1 : 7 ≤ d) (u1 : Int) (u2 : Int) (τ : TT)  {K : Int → Prop} (hE76 : ∀ v43 : Int, K (v43) → V g mX4_kindOf d 76 [(0, vr (some (gw g))), (1, vi u1), (2, vi u2), (4, vi v43)] [] σ τ Q) : ∀ (n : Nat) (w3 : Int) (w4 : Int), Sm (V g mX4_kindOf d 47 [(0, vr (some (gw g))), (1, vi u1), (2, vi u2), (3, vi w3), (4, vi w4)] [] σ τ Q) (m_kindOf_L47 u1 u2 τ n w3 w4) K := by
  intro n
  induction n with
  | zero => intro w3 w4; exact sm_none
  | succ n ih =>
    intro w3 w4
    rw [m_kindOf_L47.eq_2]
    refine sm_b (l' := [(0, vr (some (gw g))), (1, vi u1), (2, vi u2), (3, vi w3), (4, vi w4)]) (st' := [vi ((-1)), vi w4]) (pc' := 50) [(.iload 4, vi 0, 49), (.iconst (-1), vi (-1), 50)] (by decide +kernel) rfl rfl ?_
    refine sm_gd (fun h44 => ?_)
    refine sm_gd (fun h46 => ?_)
    refine sm_case (V g mX4_kindOf d 58 [(0, vr (some (gw g))), (1, vi u1), (2, vi u2), (3, vi w3), (4, vi w4)] [] σ τ Q) (V g mX4_kindOf d 76 [(0, vr (some (gw g))), (1, vi u1), (2, vi u2), (3, vi w3), (4, vi w4)] [] σ τ Q) ?_ ?_ (fun f52 p53 n54 => ?_)
    · refine sm_b (l' := [(0, vr (some (gw g))), (1, vi u1), (2, vi u2), (3, vi w3), (4, vi w4)]) (st' := [vr (some (gw g))]) (pc' := 59) [(.aload_n 0, vi 0, 59)] (by decide +kernel) rfl rfl ?_
      refine sm_tg (k := 16) (x := vr (some (gT g 16))) G.2.1 q1434 rfl rfl (by decide +kernel) ?_
      refine sm_b (l' := [(0, vr (some (gw g))), (1, vi u1), (2, vi u2), (3, vi w3), (4, vi w4)]) (st' := [vi w3, vr (some (gT g 16))]) (pc' := 63) [(.iload_n 3, vi 0, 63)] (by decide +kernel) rfl rfl ?_
      refine sm_gd (fun h49 => ?_)
      refine sm_ial (k := 16) G.2.1 (by decide) rfl (ibt (k := 16) h49) h49 (by decide +kernel) ?_
      refine sm_nmi (fun x50 => ?_)
      refine sm_b (l' := [(0, vr (some (gw g))), (1, vi u1), (2, vi u2), (3, vi x50), (4, vi w4)]) (st' := [vi u2, vi x50, vr (some (gw g))]) (pc' := 68) [(.istore_n 3, vi 0, 65), (.aload_n 0, vi 0, 66), (.iload_n 3, vi 0, 67), (.iload_n 2, vi 0, 68)] (by decide +kernel) rfl rfl ?_
      refine sm_cv (N := mX4_within) (d' := d - 1) (fun r => (some (vi r))) (fun _ => σ) (fun _ => τ) [vi x50, vi u2] [] rfl (by decide +kernel) q1728 q1730 qs70 (Or.inl ⟨rfl, q1731⟩) (show okN yX4_within 2 = true by decide +kernel) (fun H hR => hR.rvw G.1 G.2.1) rfl rfl (by omega) rfl (fun Q' => m_within_ok G (d - 1) (by omega) x50 u2 τ Q') (fun y51 => ?_)
      refine sm_b (l' := [(0, vr (some (gw g))), (1, vi u1), (2, vi u2), (3, vi x50), (4, vi y51)]) (st' := []) (pc' := 47) [(.istore 4, vi 0, 73), (.goto (-26), vi 0, 47)] (by decide +kernel) rfl rfl ?_
      exact ih x50 y51
    · refine sm_pick [0, 1, 2, 4] (l' := [(0, vr (some (gw g))), (1, vi u1), (2, vi u2), (4, vi w4)]) rfl ?_
      exact sm_leaf (fun h => hE76 _ h)
    refine sm_icmp_ne (off := 26) (tgt := 76) h44 (by decide) (by decide +kernel) (fun c55 => ?_) (fun c55 => ?_)
    · exact n54 (fun q => c55 q.1)
    · have w45 : w4 = ((-1)) := c55
      refine sm_b (l' := [(0, vr (some (gw g))), (1, vi u1), (2, vi u2), (3, vi w3), (4, vi w4)]) (st' := [vi ((-1)), vi w3]) (pc' := 55) [(.iload_n 3, vi 0, 54), (.iconst (-1), vi (-1), 55)] (by decide +kernel) rfl rfl ?_
      refine sm_icmp_eq (off := 21) (tgt := 76) (h46 w45) (by decide) (by decide +kernel) (fun c56 => ?_) (fun c56 => ?_)
      · exact n54 (fun q => (fun q => q c56) q.2)
      · exact p53 ⟨c55, c56⟩
set_option maxHeartbeats 4000000 in
theorem m_kindOf_ok {g : GE} (G : GG g) {σ : ST} (d : Nat) (hd1 : 7 ≤ d) (a1 : Int)  (τ : TT) (Q : VQ) : Sm (V g mX4_kindOf d 0 [(0, vr (some (gw g))), (1, vi a1)] [] σ τ Q) (m_kindOf a1 τ) (fun r => Q.1 (some (vi r)) σ τ) := by
  unfold m_kindOf
  refine sm_top (fun K hRET => ?_)
  refine sm_b (l' := [(0, vr (some (gw g))), (1, vi a1)]) (st' := [vr (some (gw g))]) (pc' := 1) [(.aload_n 0, vi 0, 1)] (by decide +kernel) rfl rfl ?_
  refine sm_tg (k := 25) (x := vr (some (gT g 25))) G.2.1 q1443 rfl rfl (by decide +kernel) ?_
  refine sm_b (l' := [(0, vr (some (gw g))), (1, vi a1)]) (st' := [vi a1, vr (some (gT g 25))]) (pc' := 5) [(.iload_n 1, vi 0, 5)] (by decide +kernel) rfl rfl ?_
  refine sm_gd (fun h1 => ?_)
  refine sm_ial (k := 25) G.2.1 (by decide) rfl (ibt (k := 25) h1) h1 (by decide +kernel) ?_
  refine sm_nmi (fun x2 => ?_)
  refine sm_b (l' := [(0, vr (some (gw g))), (1, vi a1), (2, vi x2)]) (st' := [vr (some (gw g))]) (pc' := 8) [(.istore_n 2, vi 0, 7), (.aload_n 0, vi 0, 8)] (by decide +kernel) rfl rfl ?_
  refine sm_tg (k := 26) (x := vr (some (gT g 26))) G.2.1 q1444 rfl rfl (by decide +kernel) ?_
  refine sm_b (l' := [(0, vr (some (gw g))), (1, vi a1), (2, vi x2)]) (st' := [vi a1, vr (some (gT g 26))]) (pc' := 12) [(.iload_n 1, vi 0, 12)] (by decide +kernel) rfl rfl ?_
  refine sm_ial (k := 26) G.2.1 (by decide) rfl (ibt (k := 26) h1) h1 (by decide +kernel) ?_
  refine sm_b (l' := [(0, vr (some (gw g))), (1, vi a1), (2, vi x2)]) (st' := [vi 1, vi (tA τ 26 a1.toNat)]) (pc' := 14) [(.iconst 1, vi 1, 14)] (by decide +kernel) rfl rfl ?_
  refine sm_gd (fun h3 => ?_)
  refine sm_gd (fun h5 => ?_)
  refine sm_gd (fun h6 => ?_)
  refine sm_case (V g mX4_kindOf d 26 [(0, vr (some (gw g))), (1, vi a1), (2, vi x2)] [] σ τ Q) (V g mX4_kindOf d 32 [(0, vr (some (gw g))), (1, vi a1), (2, vi x2)] [] σ τ Q) ?_ ?_ (fun f57 p58 n59 => ?_)
  · refine sm_b (l' := [(0, vr (some (gw g))), (1, vi a1), (2, vi x2)]) (st' := [vi x2, vr (some (gw g))]) (pc' := 28) [(.aload_n 0, vi 0, 27), (.iload_n 2, vi 0, 28)] (by decide +kernel) rfl rfl ?_
    refine sm_cv (N := mX4_scalarOf) (d' := d - 1) (fun r => (some (vi r))) (fun _ => σ) (fun _ => τ) [vi x2] [] rfl (by decide +kernel) q1723 q1725 qs69 (Or.inl ⟨rfl, q1726⟩) (show okN yX4_scalarOf 1 = true by decide +kernel) (fun H hR => hR.rvw G.1 G.2.1) rfl rfl (by omega) rfl (fun Q' => m_scalarOf_ok G (d - 1) (by omega) x2 τ Q') (fun y10 => ?_)
    exact sm_iret rfl (by decide +kernel) (fun h => hRET _ h)
  · refine sm_b (l' := [(0, vr (some (gw g))), (1, vi a1), (2, vi x2)]) (st' := [vr (some (gw g))]) (pc' := 33) [(.aload_n 0, vi 0, 33)] (by decide +kernel) rfl rfl ?_
    refine sm_tg (k := 23) (x := vr (some (gT g 23))) G.2.1 q1441 rfl rfl (by decide +kernel) ?_
    refine sm_b (l' := [(0, vr (some (gw g))), (1, vi a1), (2, vi x2)]) (st' := [vi a1, vr (some (gT g 23))]) (pc' := 37) [(.iload_n 1, vi 0, 37)] (by decide +kernel) rfl rfl ?_
    refine sm_ial (k := 23) G.2.1 (by decide) rfl (ibt (k := 23) h1) h1 (by decide +kernel) ?_
    refine sm_nmi (fun x11 => ?_)
    refine sm_b (l' := [(0, vr (some (gw g))), (1, vi a1), (2, vi x2), (3, vi x11)]) (st' := [vi x2, vi x11, vr (some (gw g))]) (pc' := 42) [(.istore_n 3, vi 0, 39), (.aload_n 0, vi 0, 40), (.iload_n 3, vi 0, 41), (.iload_n 2, vi 0, 42)] (by decide +kernel) rfl rfl ?_
    refine sm_cv (N := mX4_within) (d' := d - 1) (fun r => (some (vi r))) (fun _ => σ) (fun _ => τ) [vi x11, vi x2] [] rfl (by decide +kernel) q1728 q1730 qs70 (Or.inl ⟨rfl, q1731⟩) (show okN yX4_within 2 = true by decide +kernel) (fun H hR => hR.rvw G.1 G.2.1) rfl rfl (by omega) rfl (fun Q' => m_within_ok G (d - 1) (by omega) x11 x2 τ Q') (fun y12 => ?_)
    refine sm_b (l' := [(0, vr (some (gw g))), (1, vi a1), (2, vi x2), (3, vi x11), (4, vi y12)]) (st' := []) (pc' := 47) [(.istore 4, vi 0, 47)] (by decide +kernel) rfl rfl ?_
    refine sm_bind1 (fun (v13 : Int) => V g mX4_kindOf d 76 [(0, vr (some (gw g))), (1, vi a1), (2, vi x2), (4, vi v13)] [] σ τ Q) (fun v13 => ?_) (fun K14 j15 => ?_)
    · refine sm_b (l' := [(0, vr (some (gw g))), (1, vi a1), (2, vi x2), (4, vi v13), (5, vi 1)]) (st' := []) (pc' := 79) [(.iconst 1, vi 1, 77), (.istore 5, vi 0, 79)] (by decide +kernel) rfl rfl ?_
      exact m_kindOf_L79_ok G d hd1 a1 x2 τ  (fun r h => hRET _ h) FU v13 1
    · exact m_kindOf_L47_ok G d hd1 a1 x2 τ  (fun _ h => j15 _ h) FU x11 y12
  refine sm_icmp_ne (off := 18) (tgt := 32) h3 (by decide) (by decide +kernel) (fun c60 => ?_) (fun c60 => ?_)
  · exact n59 (fun q => c60 q.1)
  · have w4 : (tA τ 26 a1.toNat) = 1 := c60
    refine sm_b (l' := [(0, vr (some (gw g))), (1, vi a1), (2, vi x2)]) (st' := [vi x2, vr (some (gw g))]) (pc' := 19) [(.aload_n 0, vi 0, 18), (.iload_n 2, vi 0, 19)] (by decide +kernel) rfl rfl ?_
    refine sm_cvp (N := mX4_scalarOf) (d' := d - 1) (fun r => (some (vi r))) (some (vi (vv (m_scalarOf x2 τ)))) (h5 w4) (fun y h => by rw [vv_some h]) [vi x2] [] rfl (by decide +kernel) q1723 q1725 qs69 (Or.inl ⟨rfl, q1726⟩) (show okN yX4_scalarOf 1 = true by decide +kernel) (fun H hR => hR.rvw G.1 G.2.1) rfl rfl (by omega) rfl (fun Q' => m_scalarOf_ok G (d - 1) (by omega) x2 τ Q') ?_
    refine sm_b (l' := [(0, vr (some (gw g))), (1, vi a1), (2, vi x2)]) (st' := [vi ((-1)), vi (vv (m_scalarOf x2 τ))]) (pc' := 23) [(.iconst (-1), vi (-1), 23)] (by decide +kernel) rfl rfl ?_
    refine sm_icmp_eq (off := 9) (tgt := 32) (h6 w4) (by decide) (by decide +kernel) (fun c61 => ?_) (fun c61 => ?_)
    · exact n59 (fun q => (fun q => q c61) q.2)
    · exact p58 ⟨c60, c61⟩
