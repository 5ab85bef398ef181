set_option maxRecDepth 100000
/-! the reference: X4_hasWrongEnum, X4_jsonName, X4_sameJson, X4_refusal, X4_schema, X4_count, X4_field -/
def m_hasWrongEnum_L65 (u2 : Int) (τ : TT) : Nat → Int → Int → Option (Int)
  | 0, _, _ => none
  | n + 1, w1, w4 => gd (rg w4) (gd (rg u2) (if u2 ≤ w4 then (some w1) else (Option.bind (gd (rg w1) (if w1 = 0 then (gd (ib w4 40) (gd (ib u2 40) (gd (rg (tA τ 21 w4.toNat)) (gd (rg (tA τ 21 u2.toNat)) (gd ((tA τ 21 w4.toNat) = (tA τ 21 u2.toNat) → rg (tA τ 20 w4.toNat)) (gd ((tA τ 21 w4.toNat) = (tA τ 21 u2.toNat) → rg (tA τ 20 u2.toNat)) (if ((tA τ 21 w4.toNat) = (tA τ 21 u2.toNat)) ∧ ((tA τ 20 w4.toNat) = (tA τ 20 u2.toNat)) then (some 1) else (some 0)))))))) else (some 1))) fun (v39 : Int) => m_hasWrongEnum_L65 u2 τ n v39 (w4 + 1))))
def m_hasWrongEnum_L4 (τ : TT) : Nat → Int → Int → Option (Int)
  | 0, _, _ => none
  | n + 1, w1, w2 => gd (rg w2) (gd (rg (tI τ 37)) (if (tI τ 37) ≤ w2 then (gd (zb w1) (some w1)) else (Option.bind (gd (¬ (w2 = 0) → ib (w2 - 1) 40) (gd (¬ (w2 = 0) → ib w2 40) (gd (¬ (w2 = 0) → rg (tA τ 21 (w2 - 1).toNat)) (gd (¬ (w2 = 0) → rg (tA τ 21 w2.toNat)) (if (w2 = 0) ∨ (¬ ((tA τ 21 (w2 - 1).toNat) = (tA τ 21 w2.toNat))) then (some 1) else (some 0)))))) fun (v13 : Int) => Option.bind (gd (rg w1) (if w1 = 0 then (gd (rg v13) (gd (¬ (v13 = 0) → ib w2 40) (gd (¬ (v13 = 0) → rg (tA τ 20 w2.toNat)) (if (v13 = 0) ∨ ((tA τ 20 w2.toNat) = 0) then (some 0) else (some 1))))) else (some 1))) fun (v20 : Int) => Option.bind (m_hasWrongEnum_L65 w2 τ FU v20 0) fun (v24 : Int) => m_hasWrongEnum_L4 τ n v24 (w2 + 1))))
def m_hasWrongEnum  (τ : TT) : Option (Int) := m_hasWrongEnum_L4 τ FU 0 0
set_option maxHeartbeats 4000000 in
theorem m_hasWrongEnum_L65_ok {g : GE} (G : GG g) {σ : ST} {Q : VQ} (d : Nat) (hd1 : 0 ≤ d) (u2 : Int) (τ : TT)  {K : Int → Prop} (hE119 : ∀ v28 : Int, K (v28) → V g mX4_hasWrongEnum d 119 [(0, vr (some (gw g))), (1, vi v28), (2, vi u2)] [] σ τ Q) : ∀ (n : Nat) (w1 : Int) (w4 : Int), Sm (V g mX4_hasWrongEnum d 65 [(0, vr (some (gw g))), (1, vi w1), (2, vi u2), (4, vi w4)] [] σ τ Q) (m_hasWrongEnum_L65 u2 τ n w1 w4) K := by
  intro n
  induction n with
  | zero => intro w1 w4; exact sm_none
  | succ n ih =>
    intro w1 w4
    rw [m_hasWrongEnum_L65.eq_2]
    refine sm_b (l' := [(0, vr (some (gw g))), (1, vi w1), (2, vi u2), (4, vi w4)]) (st' := [vi u2, vi w4]) (pc' := 68) [(.iload 4, vi 0, 67), (.iload_n 2, vi 0, 68)] (by decide +kernel) rfl rfl ?_
    refine sm_gd (fun h29 => ?_)
    refine sm_gd (fun h30 => ?_)
    refine sm_case (V g mX4_hasWrongEnum d 119 [(0, vr (some (gw g))), (1, vi w1), (2, vi u2), (4, vi w4)] [] σ τ Q) (V g mX4_hasWrongEnum d 71 [(0, vr (some (gw g))), (1, vi w1), (2, vi u2), (4, vi w4)] [] σ τ Q) ?_ ?_ (fun f60 p61 n62 => ?_)
    · refine sm_pick [0, 1, 2] (l' := [(0, vr (some (gw g))), (1, vi w1), (2, vi u2)]) rfl ?_
      exact sm_leaf (fun h => hE119 _ h)
    · refine sm_b (l' := [(0, vr (some (gw g))), (1, vi w1), (2, vi u2), (4, vi w4)]) (st' := [vi w1]) (pc' := 72) [(.iload_n 1, vi 0, 72)] (by decide +kernel) rfl rfl ?_
      refine sm_bind1 (fun (v39 : Int) => V g mX4_hasWrongEnum d 112 [(0, vr (some (gw g))), (2, vi u2), (4, vi w4)] [vi v39] σ τ Q) (fun v39 => ?_) (fun K40 j41 => ?_)
      · refine sm_b (l' := [(0, vr (some (gw g))), (2, vi u2), (4, vi (w4 + 1)), (1, vi v39)]) (st' := []) (pc' := 65) [(.istore_n 1, vi 0, 113), (.iinc 4 1, vi 1, 116), (.goto (-51), vi 0, 65)] (by decide +kernel) rfl rfl ?_
        refine sm_pick [0, 3, 1, 2] (l' := [(0, vr (some (gw g))), (1, vi v39), (2, vi u2), (4, vi (w4 + 1))]) rfl ?_
        exact ih v39 (w4 + 1)
      · refine sm_gd (fun h33 => ?_)
        refine sm_case (V g mX4_hasWrongEnum d 75 [(0, vr (some (gw g))), (1, vi w1), (2, vi u2), (4, vi w4)] [] σ τ Q) (V g mX4_hasWrongEnum d 107 [(0, vr (some (gw g))), (1, vi w1), (2, vi u2), (4, vi w4)] [] σ τ Q) ?_ ?_ (fun f56 p57 n58 => ?_)
        · refine sm_b (l' := [(0, vr (some (gw g))), (1, vi w1), (2, vi u2), (4, vi w4)]) (st' := [vr (some (gw g))]) (pc' := 76) [(.aload_n 0, vi 0, 76)] (by decide +kernel) rfl rfl ?_
          refine sm_tg (k := 21) (x := vr (some (gT g 21))) G.2.1 q1439 rfl rfl (by decide +kernel) ?_
          refine sm_b (l' := [(0, vr (some (gw g))), (1, vi w1), (2, vi u2), (4, vi w4)]) (st' := [vi w4, vr (some (gT g 21))]) (pc' := 81) [(.iload 4, vi 0, 81)] (by decide +kernel) rfl rfl ?_
          refine sm_gd (fun h43 => ?_)
          refine sm_ial (k := 21) G.2.1 (by decide) rfl (ibt (k := 21) h43) h43 (by decide +kernel) ?_
          refine sm_b (l' := [(0, vr (some (gw g))), (1, vi w1), (2, vi u2), (4, vi w4)]) (st' := [vr (some (gw g)), vi (tA τ 21 w4.toNat)]) (pc' := 83) [(.aload_n 0, vi 0, 83)] (by decide +kernel) rfl rfl ?_
          refine sm_tg (k := 21) (x := vr (some (gT g 21))) G.2.1 q1439 rfl rfl (by decide +kernel) ?_
          refine sm_b (l' := [(0, vr (some (gw g))), (1, vi w1), (2, vi u2), (4, vi w4)]) (st' := [vi u2, vr (some (gT g 21)), vi (tA τ 21 w4.toNat)]) (pc' := 87) [(.iload_n 2, vi 0, 87)] (by decide +kernel) rfl rfl ?_
          refine sm_gd (fun h44 => ?_)
          refine sm_ial (k := 21) G.2.1 (by decide) rfl (ibt (k := 21) h44) h44 (by decide +kernel) ?_
          refine sm_gd (fun h45 => ?_)
          refine sm_gd (fun h46 => ?_)
          refine sm_gd (fun h48 => ?_)
          refine sm_gd (fun h49 => ?_)
          refine sm_case (V g mX4_hasWrongEnum d 107 [(0, vr (some (gw g))), (1, vi w1), (2, vi u2), (4, vi w4)] [] σ τ Q) (V g mX4_hasWrongEnum d 111 [(0, vr (some (gw g))), (1, vi w1), (2, vi u2), (4, vi w4)] [] σ τ Q) ?_ ?_ (fun f51 p52 n53 => ?_)
          · refine sm_b (l' := [(0, vr (some (gw g))), (1, vi w1), (2, vi u2), (4, vi w4)]) (st' := [vi 1]) (pc' := 112) [(.iconst 1, vi 1, 108), (.goto 4, vi 0, 112)] (by decide +kernel) rfl rfl ?_
            refine sm_pick [0, 2, 3] (l' := [(0, vr (some (gw g))), (2, vi u2), (4, vi w4)]) rfl ?_
            exact sm_leaf (fun h => j41 _ h)
          · refine sm_b (l' := [(0, vr (some (gw g))), (1, vi w1), (2, vi u2), (4, vi w4)]) (st' := [vi 0]) (pc' := 112) [(.iconst 0, vi 0, 112)] (by decide +kernel) rfl rfl ?_
            refine sm_pick [0, 2, 3] (l' := [(0, vr (some (gw g))), (2, vi u2), (4, vi w4)]) rfl ?_
            exact sm_leaf (fun h => j41 _ h)
          refine sm_icmp_ne (off := 23) (tgt := 111) h45 h46 (by decide +kernel) (fun c54 => ?_) (fun c54 => ?_)
          · exact n53 (fun q => c54 q.1)
          · have w47 : (tA τ 21 w4.toNat) = (tA τ 21 u2.toNat) := c54
            refine sm_b (l' := [(0, vr (some (gw g))), (1, vi w1), (2, vi u2), (4, vi w4)]) (st' := [vr (some (gw g))]) (pc' := 92) [(.aload_n 0, vi 0, 92)] (by decide +kernel) rfl rfl ?_
            refine sm_tg (k := 20) (x := vr (some (gT g 20))) G.2.1 q1438 rfl rfl (by decide +kernel) ?_
            refine sm_b (l' := [(0, vr (some (gw g))), (1, vi w1), (2, vi u2), (4, vi w4)]) (st' := [vi w4, vr (some (gT g 20))]) (pc' := 97) [(.iload 4, vi 0, 97)] (by decide +kernel) rfl rfl ?_
            refine sm_ial (k := 20) G.2.1 (by decide) rfl (ibt (k := 20) h43) h43 (by decide +kernel) ?_
            refine sm_b (l' := [(0, vr (some (gw g))), (1, vi w1), (2, vi u2), (4, vi w4)]) (st' := [vr (some (gw g)), vi (tA τ 20 w4.toNat)]) (pc' := 99) [(.aload_n 0, vi 0, 99)] (by decide +kernel) rfl rfl ?_
            refine sm_tg (k := 20) (x := vr (some (gT g 20))) G.2.1 q1438 rfl rfl (by decide +kernel) ?_
            refine sm_b (l' := [(0, vr (some (gw g))), (1, vi w1), (2, vi u2), (4, vi w4)]) (st' := [vi u2, vr (some (gT g 20)), vi (tA τ 20 w4.toNat)]) (pc' := 103) [(.iload_n 2, vi 0, 103)] (by decide +kernel) rfl rfl ?_
            refine sm_ial (k := 20) G.2.1 (by decide) rfl (ibt (k := 20) h44) h44 (by decide +kernel) ?_
            refine sm_icmp_ne (off := 7) (tgt := 111) (h48 w47) (h49 w47) (by decide +kernel) (fun c55 => ?_) (fun c55 => ?_)
            · exact n53 (fun q => c55 q.2)
            · exact p52 ⟨c54, c55⟩
        · refine sm_b (l' := [(0, vr (some (gw g))), (1, vi w1), (2, vi u2), (4, vi w4)]) (st' := [vi 1]) (pc' := 112) [(.iconst 1, vi 1, 108), (.goto 4, vi 0, 112)] (by decide +kernel) rfl rfl ?_
          refine sm_pick [0, 2, 3] (l' := [(0, vr (some (gw g))), (2, vi u2), (4, vi w4)]) rfl ?_
          exact sm_leaf (fun h => j41 _ h)
        refine sm_if_ne (off := 35) (tgt := 107) h33 (by decide +kernel) (fun c59 => ?_) (fun c59 => ?_)
        · exact n58 c59
        · exact p57 c59
    refine sm_icmp_ge (off := 51) (tgt := 119) h29 h30 (by decide +kernel) (fun c63 => ?_) (fun c63 => ?_)
    · exact p61 c63
    · exact n62 c63
set_option maxHeartbeats 4000000 in
theorem m_hasWrongEnum_L4_ok {g : GE} (G : GG g) {σ : ST} {Q : VQ} (d : Nat) (hd1 : 0 ≤ d) (τ : TT)  {K : Int → Prop} (hRET : ∀ r : Int, K (r) → Q.1 (some (vi r)) σ τ) : ∀ (n : Nat) (w1 : Int) (w2 : Int), Sm (V g mX4_hasWrongEnum d 4 [(0, vr (some (gw g))), (1, vi w1), (2, vi w2)] [] σ τ Q) (m_hasWrongEnum_L4 τ n w1 w2) K := by
  intro n
  induction n with
  | zero => intro w1 w2; exact sm_none
  | succ n ih =>
    intro w1 w2
    rw [m_hasWrongEnum_L4.eq_2]
    refine sm_b (l' := [(0, vr (some (gw g))), (1, vi w1), (2, vi w2)]) (st' := [vr (some (gw g)), vi w2]) (pc' := 6) [(.iload_n 2, vi 0, 5), (.aload_n 0, vi 0, 6)] (by decide +kernel) rfl rfl ?_
    refine sm_tg (k := 37) (x := vi (tI τ 37)) G.2.1 q1455 rfl rfl (by decide +kernel) ?_
    refine sm_gd (fun h1 => ?_)
    refine sm_gd (fun h2 => ?_)
    refine sm_case (V g mX4_hasWrongEnum d 125 [(0, vr (some (gw g))), (1, vi w1), (2, vi w2)] [] σ τ Q) (V g mX4_hasWrongEnum d 12 [(0, vr (some (gw g))), (1, vi w1), (2, vi w2)] [] σ τ Q) ?_ ?_ (fun f83 p84 n85 => ?_)
    · refine sm_b (l' := [(0, vr (some (gw g))), (1, vi w1), (2, vi w2)]) (st' := [vi w1]) (pc' := 126) [(.iload_n 1, vi 0, 126)] (by decide +kernel) rfl rfl ?_
      refine sm_gd (fun h5 => ?_)
      exact sm_zret rfl (by decide +kernel) h5 (fun h => hRET _ h)
    · refine sm_b (l' := [(0, vr (some (gw g))), (1, vi w1), (2, vi w2)]) (st' := [vi w2]) (pc' := 13) [(.iload_n 2, vi 0, 13)] (by decide +kernel) rfl rfl ?_
      refine sm_bind1 (fun (v13 : Int) => V g mX4_hasWrongEnum d 38 [(0, vr (some (gw g))), (1, vi w1), (2, vi w2)] [vi v13] σ τ Q) (fun v13 => ?_) (fun K14 j15 => ?_)
      · refine sm_b (l' := [(0, vr (some (gw g))), (1, vi w1), (2, vi w2), (3, vi v13)]) (st' := [vi w1]) (pc' := 40) [(.istore_n 3, vi 0, 39), (.iload_n 1, vi 0, 40)] (by decide +kernel) rfl rfl ?_
        refine sm_bind1 (fun (v20 : Int) => V g mX4_hasWrongEnum d 61 [(0, vr (some (gw g))), (2, vi w2)] [vi v20] σ τ Q) (fun v20 => ?_) (fun K21 j22 => ?_)
        · refine sm_b (l' := [(0, vr (some (gw g))), (2, vi w2), (1, vi v20), (4, vi 0)]) (st' := []) (pc' := 65) [(.istore_n 1, vi 0, 62), (.iconst 0, vi 0, 63), (.istore 4, vi 0, 65)] (by decide +kernel) rfl rfl ?_
          refine sm_bind1 (fun (v24 : Int) => V g mX4_hasWrongEnum d 119 [(0, vr (some (gw g))), (1, vi v24), (2, vi w2)] [] σ τ Q) (fun v24 => ?_) (fun K25 j26 => ?_)
          · refine sm_b (l' := [(0, vr (some (gw g))), (1, vi v24), (2, vi (w2 + 1))]) (st' := []) (pc' := 4) [(.iinc 2 1, vi 1, 122), (.goto (-118), vi 0, 4)] (by decide +kernel) rfl rfl ?_
            exact ih v24 (w2 + 1)
          · refine sm_pick [0, 2, 1, 3] (l' := [(0, vr (some (gw g))), (1, vi v20), (2, vi w2), (4, vi 0)]) rfl ?_
            exact m_hasWrongEnum_L65_ok G d hd1 w2 τ  (fun _ h => j26 _ h) FU v20 0
        · refine sm_gd (fun h17 => ?_)
          refine sm_case (V g mX4_hasWrongEnum d 43 [(0, vr (some (gw g))), (1, vi w1), (2, vi w2), (3, vi v13)] [] σ τ Q) (V g mX4_hasWrongEnum d 56 [(0, vr (some (gw g))), (1, vi w1), (2, vi w2), (3, vi v13)] [] σ τ Q) ?_ ?_ (fun f74 p75 n76 => ?_)
          · refine sm_b (l' := [(0, vr (some (gw g))), (1, vi w1), (2, vi w2), (3, vi v13)]) (st' := [vi v13]) (pc' := 44) [(.iload_n 3, vi 0, 44)] (by decide +kernel) rfl rfl ?_
            refine sm_gd (fun h64 => ?_)
            refine sm_gd (fun h66 => ?_)
            refine sm_gd (fun h67 => ?_)
            refine sm_case (V g mX4_hasWrongEnum d 60 [(0, vr (some (gw g))), (1, vi w1), (2, vi w2), (3, vi v13)] [] σ τ Q) (V g mX4_hasWrongEnum d 56 [(0, vr (some (gw g))), (1, vi w1), (2, vi w2), (3, vi v13)] [] σ τ Q) ?_ ?_ (fun f69 p70 n71 => ?_)
            · refine sm_b (l' := [(0, vr (some (gw g))), (1, vi w1), (2, vi w2), (3, vi v13)]) (st' := [vi 0]) (pc' := 61) [(.iconst 0, vi 0, 61)] (by decide +kernel) rfl rfl ?_
              refine sm_pick [0, 2] (l' := [(0, vr (some (gw g))), (2, vi w2)]) rfl ?_
              exact sm_leaf (fun h => j22 _ h)
            · refine sm_b (l' := [(0, vr (some (gw g))), (1, vi w1), (2, vi w2), (3, vi v13)]) (st' := [vi 1]) (pc' := 61) [(.iconst 1, vi 1, 57), (.goto 4, vi 0, 61)] (by decide +kernel) rfl rfl ?_
              refine sm_pick [0, 2] (l' := [(0, vr (some (gw g))), (2, vi w2)]) rfl ?_
              exact sm_leaf (fun h => j22 _ h)
            refine sm_if_eq (off := 16) (tgt := 60) h64 (by decide +kernel) (fun c72 => ?_) (fun c72 => ?_)
            · exact p70 (Or.inl c72)
            · have w65 : ¬ (v13 = 0) := c72
              refine sm_b (l' := [(0, vr (some (gw g))), (1, vi w1), (2, vi w2), (3, vi v13)]) (st' := [vr (some (gw g))]) (pc' := 48) [(.aload_n 0, vi 0, 48)] (by decide +kernel) rfl rfl ?_
              refine sm_tg (k := 20) (x := vr (some (gT g 20))) G.2.1 q1438 rfl rfl (by decide +kernel) ?_
              refine sm_b (l' := [(0, vr (some (gw g))), (1, vi w1), (2, vi w2), (3, vi v13)]) (st' := [vi w2, vr (some (gT g 20))]) (pc' := 52) [(.iload_n 2, vi 0, 52)] (by decide +kernel) rfl rfl ?_
              refine sm_ial (k := 20) G.2.1 (by decide) rfl (ibt (k := 20) (h66 w65)) (h66 w65) (by decide +kernel) ?_
              refine sm_if_eq (off := 7) (tgt := 60) (h67 w65) (by decide +kernel) (fun c73 => ?_) (fun c73 => ?_)
              · exact p70 (Or.inr c73)
              · exact n71 (fun q => q.elim c72 c73)
          · refine sm_b (l' := [(0, vr (some (gw g))), (1, vi w1), (2, vi w2), (3, vi v13)]) (st' := [vi 1]) (pc' := 61) [(.iconst 1, vi 1, 57), (.goto 4, vi 0, 61)] (by decide +kernel) rfl rfl ?_
            refine sm_pick [0, 2] (l' := [(0, vr (some (gw g))), (2, vi w2)]) rfl ?_
            exact sm_leaf (fun h => j22 _ h)
          refine sm_if_ne (off := 16) (tgt := 56) h17 (by decide +kernel) (fun c77 => ?_) (fun c77 => ?_)
          · exact n76 c77
          · exact p75 c77
      · refine sm_gd (fun h7 => ?_)
        refine sm_gd (fun h8 => ?_)
        refine sm_gd (fun h9 => ?_)
        refine sm_gd (fun h10 => ?_)
        refine sm_case (V g mX4_hasWrongEnum d 33 [(0, vr (some (gw g))), (1, vi w1), (2, vi w2)] [] σ τ Q) (V g mX4_hasWrongEnum d 37 [(0, vr (some (gw g))), (1, vi w1), (2, vi w2)] [] σ τ Q) ?_ ?_ (fun f78 p79 n80 => ?_)
        · refine sm_b (l' := [(0, vr (some (gw g))), (1, vi w1), (2, vi w2)]) (st' := [vi 1]) (pc' := 38) [(.iconst 1, vi 1, 34), (.goto 4, vi 0, 38)] (by decide +kernel) rfl rfl ?_
          exact sm_leaf (fun h => j15 _ h)
        · refine sm_b (l' := [(0, vr (some (gw g))), (1, vi w1), (2, vi w2)]) (st' := [vi 0]) (pc' := 38) [(.iconst 0, vi 0, 38)] (by decide +kernel) rfl rfl ?_
          exact sm_leaf (fun h => j15 _ h)
        refine sm_if_eq (off := 20) (tgt := 33) h1 (by decide +kernel) (fun c81 => ?_) (fun c81 => ?_)
        · exact p79 (Or.inl c81)
        · have w6 : ¬ (w2 = 0) := c81
          refine sm_b (l' := [(0, vr (some (gw g))), (1, vi w1), (2, vi w2)]) (st' := [vr (some (gw g))]) (pc' := 17) [(.aload_n 0, vi 0, 17)] (by decide +kernel) rfl rfl ?_
          refine sm_tg (k := 21) (x := vr (some (gT g 21))) G.2.1 q1439 rfl rfl (by decide +kernel) ?_
          refine sm_b (l' := [(0, vr (some (gw g))), (1, vi w1), (2, vi w2)]) (st' := [vi (w2 - 1), vr (some (gT g 21))]) (pc' := 23) [(.iload_n 2, vi 0, 21), (.iconst 1, vi 1, 22), (.isub, vi 0, 23)] (by decide +kernel) rfl rfl ?_
          refine sm_ial (k := 21) G.2.1 (by decide) rfl (ibt (k := 21) (h7 w6)) (h7 w6) (by decide +kernel) ?_
          refine sm_b (l' := [(0, vr (some (gw g))), (1, vi w1), (2, vi w2)]) (st' := [vr (some (gw g)), vi (tA τ 21 (w2 - 1).toNat)]) (pc' := 25) [(.aload_n 0, vi 0, 25)] (by decide +kernel) rfl rfl ?_
          refine sm_tg (k := 21) (x := vr (some (gT g 21))) G.2.1 q1439 rfl rfl (by decide +kernel) ?_
          refine sm_b (l' := [(0, vr (some (gw g))), (1, vi w1), (2, vi w2)]) (st' := [vi w2, vr (some (gT g 21)), vi (tA τ 21 (w2 - 1).toNat)]) (pc' := 29) [(.iload_n 2, vi 0, 29)] (by decide +kernel) rfl rfl ?_
          refine sm_ial (k := 21) G.2.1 (by decide) rfl (ibt (k := 21) (h8 w6)) (h8 w6) (by decide +kernel) ?_
          refine sm_icmp_eq (off := 7) (tgt := 37) (h9 w6) (h10 w6) (by decide +kernel) (fun c82 => ?_) (fun c82 => ?_)
          · exact n80 (fun q => q.elim c81 (fun q => q c82))
          · exact p79 (Or.inr c82)
    refine sm_icmp_ge (off := 116) (tgt := 125) h1 h2 (by decide +kernel) (fun c86 => ?_) (fun c86 => ?_)
    · exact p84 c86
    · exact n85 c86
set_option maxHeartbeats 4000000 in
theorem m_hasWrongEnum_ok {g : GE} (G : GG g) {σ : ST} (d : Nat) (hd1 : 0 ≤ d)   (τ : TT) (Q : VQ) : Sm (V g mX4_hasWrongEnum d 0 [(0, vr (some (gw g)))] [] σ τ Q) (m_hasWrongEnum τ) (fun r => Q.1 (some (vi r)) σ τ) := by
  unfold m_hasWrongEnum
  refine sm_top (fun K hRET => ?_)
  refine sm_b (l' := [(0, vr (some (gw g))), (1, vi 0), (2, vi 0)]) (st' := []) (pc' := 4) [(.iconst 0, vi 0, 1), (.istore_n 1, vi 0, 2), (.iconst 0, vi 0, 3), (.istore_n 2, vi 0, 4)] (by decide +kernel) rfl rfl ?_
  exact m_hasWrongEnum_L4_ok G d hd1 τ  (fun r h => hRET _ h) FU 0 0
def m_jsonName_L8 (u1 : Int) (u2 : Nat) : Nat → Int → Int → Int → TT → Option (Int × TT)
  | 0, _, _, _, _ => none
  | n + 1, w3, w4, w5, τ => gd (ib u1 50) (gd (ib (tA τ 22 u1.toNat) 1001) (gd (rg w5) (gd (rg (tA τ 11 (tA τ 22 u1.toNat).toNat)) (if (tA τ 11 (tA τ 22 u1.toNat).toNat) ≤ w5 then (some ((w3, τ))) else (gd (ib ((tA τ 10 (tA τ 22 u1.toNat).toNat) + w5) 1000) (nm (tA τ 8 ((tA τ 10 (tA τ 22 u1.toNat).toNat) + w5).toNat) fun x9 => Option.bind (gd (rg x9) (if x9 = 95 then (some ((w3, 1, τ))) else (Option.bind (gd (rg w4) (if ((w4 = 0) ∨ (x9 < 97)) ∨ (122 < x9) then (some x9) else (some ((x9 - 32))))) fun (v23 : Int) => gd (ib w3 (tln u2)) (nm (uA τ u2 w3.toNat v23) fun τ28 => some ((w3 + 1, 0, τ28)))))) fun (v14 : Int × Int × TT) => m_jsonName_L8 u1 u2 n v14.1 v14.2.1 (w5 + 1) v14.2.2))))))
def m_jsonName (a1 : Int) (a2 : Nat) (τ : TT) : Option (Int × TT) := m_jsonName_L8 a1 a2 FU 0 0 0 τ
set_option maxHeartbeats 4000000 in
theorem m_jsonName_L8_ok {g : GE} (G : GG g) {σ : ST} {Q : VQ} (d : Nat) (hd1 : 0 ≤ d) (u1 : Int) (u2 : Nat) (hln : tln u2 ≠ 0) (hkd : tkd u2 = 1) {K : Int × TT → Prop} (hRET : ∀ r : Int × TT, K (r) → Q.1 (some (vi r.1)) σ r.2) : ∀ (n : Nat) (w3 : Int) (w4 : Int) (w5 : Int) (τ : TT), Sm (V g mX4_jsonName d 8 [(0, vr (some (gw g))), (1, vi u1), (2, vr (some (gT g u2))), (3, vi w3), (4, vi w4), (5, vi w5)] [] σ τ Q) (m_jsonName_L8 u1 u2 n w3 w4 w5 τ) K := by
  intro n
  induction n with
  | zero => intro w3 w4 w5 τ; exact sm_none
  | succ n ih =>
    intro w3 w4 w5 τ
    rw [m_jsonName_L8.eq_2]
    refine sm_b (l' := [(0, vr (some (gw g))), (1, vi u1), (2, vr (some (gT g u2))), (3, vi w3), (4, vi w4), (5, vi w5)]) (st' := [vr (some (gw g)), vi w5]) (pc' := 11) [(.iload 5, vi 0, 10), (.aload_n 0, vi 0, 11)] (by decide +kernel) rfl rfl ?_
    refine sm_tg (k := 11) (x := vr (some (gT g 11))) G.2.1 q1429 rfl rfl (by decide +kernel) ?_
    refine sm_b (l' := [(0, vr (some (gw g))), (1, vi u1), (2, vr (some (gT g u2))), (3, vi w3), (4, vi w4), (5, vi w5)]) (st' := [vr (some (gw g)), vr (some (gT g 11)), vi w5]) (pc' := 15) [(.aload_n 0, vi 0, 15)] (by decide +kernel) rfl rfl ?_
    refine sm_tg (k := 22) (x := vr (some (gT g 22))) G.2.1 q1440 rfl rfl (by decide +kernel) ?_
    refine sm_b (l' := [(0, vr (some (gw g))), (1, vi u1), (2, vr (some (gT g u2))), (3, vi w3), (4, vi w4), (5, vi w5)]) (st' := [vi u1, vr (some (gT g 22)), vr (some (gT g 11)), vi w5]) (pc' := 19) [(.iload_n 1, vi 0, 19)] (by decide +kernel) rfl rfl ?_
    refine sm_gd (fun h1 => ?_)
    refine sm_ial (k := 22) G.2.1 (by decide) rfl (ibt (k := 22) h1) h1 (by decide +kernel) ?_
    refine sm_gd (fun h2 => ?_)
    refine sm_ial (k := 11) G.2.1 (by decide) rfl (ibt (k := 11) h2) h2 (by decide +kernel) ?_
    refine sm_gd (fun h3 => ?_)
    refine sm_gd (fun h4 => ?_)
    refine sm_case (V g mX4_jsonName d 102 [(0, vr (some (gw g))), (1, vi u1), (2, vr (some (gT g u2))), (3, vi w3), (4, vi w4), (5, vi w5)] [] σ τ Q) (V g mX4_jsonName d 24 [(0, vr (some (gw g))), (1, vi u1), (2, vr (some (gT g u2))), (3, vi w3), (4, vi w4), (5, vi w5)] [] σ τ Q) ?_ ?_ (fun f39 p40 n41 => ?_)
    · refine sm_b (l' := [(0, vr (some (gw g))), (1, vi u1), (2, vr (some (gT g u2))), (3, vi w3), (4, vi w4), (5, vi w5)]) (st' := [vi w3]) (pc' := 103) [(.iload_n 3, vi 0, 103)] (by decide +kernel) rfl rfl ?_
      exact sm_iret rfl (by decide +kernel) (fun h => hRET _ h)
    · refine sm_b (l' := [(0, vr (some (gw g))), (1, vi u1), (2, vr (some (gT g u2))), (3, vi w3), (4, vi w4), (5, vi w5)]) (st' := [vr (some (gw g))]) (pc' := 25) [(.aload_n 0, vi 0, 25)] (by decide +kernel) rfl rfl ?_
      refine sm_tg (k := 8) (x := vr (some (gT g 8))) G.2.1 q1426 rfl rfl (by decide +kernel) ?_
      refine sm_b (l' := [(0, vr (some (gw g))), (1, vi u1), (2, vr (some (gT g u2))), (3, vi w3), (4, vi w4), (5, vi w5)]) (st' := [vr (some (gw g)), vr (some (gT g 8))]) (pc' := 29) [(.aload_n 0, vi 0, 29)] (by decide +kernel) rfl rfl ?_
      refine sm_tg (k := 10) (x := vr (some (gT g 10))) G.2.1 q1428 rfl rfl (by decide +kernel) ?_
      refine sm_b (l' := [(0, vr (some (gw g))), (1, vi u1), (2, vr (some (gT g u2))), (3, vi w3), (4, vi w4), (5, vi w5)]) (st' := [vr (some (gw g)), vr (some (gT g 10)), vr (some (gT g 8))]) (pc' := 33) [(.aload_n 0, vi 0, 33)] (by decide +kernel) rfl rfl ?_
      refine sm_tg (k := 22) (x := vr (some (gT g 22))) G.2.1 q1440 rfl rfl (by decide +kernel) ?_
      refine sm_b (l' := [(0, vr (some (gw g))), (1, vi u1), (2, vr (some (gT g u2))), (3, vi w3), (4, vi w4), (5, vi w5)]) (st' := [vi u1, vr (some (gT g 22)), vr (some (gT g 10)), vr (some (gT g 8))]) (pc' := 37) [(.iload_n 1, vi 0, 37)] (by decide +kernel) rfl rfl ?_
      refine sm_ial (k := 22) G.2.1 (by decide) rfl (ibt (k := 22) h1) h1 (by decide +kernel) ?_
      refine sm_ial (k := 10) G.2.1 (by decide) rfl (ibt (k := 10) h2) h2 (by decide +kernel) ?_
      refine sm_b (l' := [(0, vr (some (gw g))), (1, vi u1), (2, vr (some (gT g u2))), (3, vi w3), (4, vi w4), (5, vi w5)]) (st' := [vi ((tA τ 10 (tA τ 22 u1.toNat).toNat) + w5), vr (some (gT g 8))]) (pc' := 42) [(.iload 5, vi 0, 41), (.iadd, vi 0, 42)] (by decide +kernel) rfl rfl ?_
      refine sm_gd (fun h8 => ?_)
      refine sm_ial (k := 8) G.2.1 (by decide) rfl (ibt (k := 8) h8) h8 (by decide +kernel) ?_
      refine sm_nmi (fun x9 => ?_)
      refine sm_b (l' := [(0, vr (some (gw g))), (1, vi u1), (2, vr (some (gT g u2))), (3, vi w3), (4, vi w4), (5, vi w5), (6, vi x9)]) (st' := [vi 95, vi x9]) (pc' := 49) [(.istore 6, vi 0, 45), (.iload 6, vi 0, 47), (.bipush 95, vi 95, 49)] (by decide +kernel) rfl rfl ?_
      refine sm_bind1 (fun (v14 : Int × Int × TT) => V g mX4_jsonName d 96 [(0, vr (some (gw g))), (1, vi u1), (2, vr (some (gT g u2))), (3, vi v14.1), (4, vi v14.2.1), (5, vi w5)] [] σ v14.2.2 Q) (fun v14 => ?_) (fun K15 j16 => ?_)
      · refine sm_b (l' := [(0, vr (some (gw g))), (1, vi u1), (2, vr (some (gT g u2))), (3, vi v14.1), (4, vi v14.2.1), (5, vi (w5 + 1))]) (st' := []) (pc' := 8) [(.iinc 5 1, vi 1, 99), (.goto (-91), vi 0, 8)] (by decide +kernel) rfl rfl ?_
        exact ih v14.1 v14.2.1 (w5 + 1) v14.2.2
      · refine sm_gd (fun h10 => ?_)
        refine sm_case (V g mX4_jsonName d 52 [(0, vr (some (gw g))), (1, vi u1), (2, vr (some (gT g u2))), (3, vi w3), (4, vi w4), (5, vi w5), (6, vi x9)] [] σ τ Q) (V g mX4_jsonName d 58 [(0, vr (some (gw g))), (1, vi u1), (2, vr (some (gT g u2))), (3, vi w3), (4, vi w4), (5, vi w5), (6, vi x9)] [] σ τ Q) ?_ ?_ (fun f35 p36 n37 => ?_)
        · refine sm_b (l' := [(0, vr (some (gw g))), (1, vi u1), (2, vr (some (gT g u2))), (3, vi w3), (4, vi 1), (5, vi w5), (6, vi x9)]) (st' := []) (pc' := 96) [(.iconst 1, vi 1, 53), (.istore 4, vi 0, 55), (.goto 41, vi 0, 96)] (by decide +kernel) rfl rfl ?_
          refine sm_pick [0, 1, 2, 3, 4, 5] (l' := [(0, vr (some (gw g))), (1, vi u1), (2, vr (some (gT g u2))), (3, vi w3), (4, vi 1), (5, vi w5)]) rfl ?_
          exact sm_leaf (fun h => j16 _ h)
        · refine sm_b (l' := [(0, vr (some (gw g))), (1, vi u1), (2, vr (some (gT g u2))), (3, vi w3), (4, vi w4), (5, vi w5), (6, vi x9)]) (st' := [vi w4, vi w3, vr (some (gT g u2))]) (pc' := 62) [(.aload_n 2, vi 0, 59), (.iload_n 3, vi 0, 60), (.iload 4, vi 0, 62)] (by decide +kernel) rfl rfl ?_
          refine sm_bind1 (fun (v23 : Int) => V g mX4_jsonName d 89 [(0, vr (some (gw g))), (1, vi u1), (2, vr (some (gT g u2))), (3, vi w3), (5, vi w5)] [vi v23, vi w3, vr (some (gT g u2))] σ τ Q) (fun v23 => ?_) (fun K24 j25 => ?_)
          · refine sm_gd (fun h27 => ?_)
            refine sm_ias (k := u2) G.2.1 hln hkd (ibt (k := u2) h27) h27 (by decide +kernel) ?_
            refine sm_nmt (fun τ28 => ?_)
            refine sm_b (l' := [(0, vr (some (gw g))), (1, vi u1), (2, vr (some (gT g u2))), (3, vi (w3 + 1)), (5, vi w5), (4, vi 0)]) (st' := []) (pc' := 96) [(.iconst 0, vi 0, 91), (.istore 4, vi 0, 93), (.iinc 3 1, vi 1, 96)] (by decide +kernel) rfl rfl ?_
            refine sm_pick [0, 1, 2, 3, 5, 4] (l' := [(0, vr (some (gw g))), (1, vi u1), (2, vr (some (gT g u2))), (3, vi (w3 + 1)), (4, vi 0), (5, vi w5)]) rfl ?_
            exact sm_leaf (fun h => j16 _ h)
          · refine sm_gd (fun h18 => ?_)
            refine sm_case (V g mX4_jsonName d 87 [(0, vr (some (gw g))), (1, vi u1), (2, vr (some (gT g u2))), (3, vi w3), (4, vi w4), (5, vi w5), (6, vi x9)] [vi w3, vr (some (gT g u2))] σ τ Q) (V g mX4_jsonName d 79 [(0, vr (some (gw g))), (1, vi u1), (2, vr (some (gT g u2))), (3, vi w3), (4, vi w4), (5, vi w5), (6, vi x9)] [vi w3, vr (some (gT g u2))] σ τ Q) ?_ ?_ (fun f29 p30 n31 => ?_)
            · refine sm_b (l' := [(0, vr (some (gw g))), (1, vi u1), (2, vr (some (gT g u2))), (3, vi w3), (4, vi w4), (5, vi w5), (6, vi x9)]) (st' := [vi x9, vi w3, vr (some (gT g u2))]) (pc' := 89) [(.iload 6, vi 0, 89)] (by decide +kernel) rfl rfl ?_
              refine sm_pick [0, 1, 2, 3, 5] (l' := [(0, vr (some (gw g))), (1, vi u1), (2, vr (some (gT g u2))), (3, vi w3), (5, vi w5)]) rfl ?_
              exact sm_leaf (fun h => j25 _ h)
            · refine sm_b (l' := [(0, vr (some (gw g))), (1, vi u1), (2, vr (some (gT g u2))), (3, vi w3), (4, vi w4), (5, vi w5), (6, vi x9)]) (st' := [vi (x9 - 32), vi w3, vr (some (gT g u2))]) (pc' := 89) [(.iload 6, vi 0, 81), (.bipush 32, vi 32, 83), (.isub, vi 0, 84), (.goto 5, vi 0, 89)] (by decide +kernel) rfl rfl ?_
              refine sm_pick [0, 1, 2, 3, 5] (l' := [(0, vr (some (gw g))), (1, vi u1), (2, vr (some (gT g u2))), (3, vi w3), (5, vi w5)]) rfl ?_
              exact sm_leaf (fun h => j25 _ h)
            refine sm_if_eq (off := 25) (tgt := 87) h18 (by decide +kernel) (fun c32 => ?_) (fun c32 => ?_)
            · exact p30 (Or.inl (Or.inl c32))
            · refine sm_b (l' := [(0, vr (some (gw g))), (1, vi u1), (2, vr (some (gT g u2))), (3, vi w3), (4, vi w4), (5, vi w5), (6, vi x9)]) (st' := [vi 97, vi x9, vi w3, vr (some (gT g u2))]) (pc' := 69) [(.iload 6, vi 0, 67), (.bipush 97, vi 97, 69)] (by decide +kernel) rfl rfl ?_
              refine sm_icmp_lt (off := 18) (tgt := 87) h10 (by decide) (by decide +kernel) (fun c33 => ?_) (fun c33 => ?_)
              · exact p30 (Or.inl (Or.inr c33))
              · refine sm_b (l' := [(0, vr (some (gw g))), (1, vi u1), (2, vr (some (gT g u2))), (3, vi w3), (4, vi w4), (5, vi w5), (6, vi x9)]) (st' := [vi 122, vi x9, vi w3, vr (some (gT g u2))]) (pc' := 76) [(.iload 6, vi 0, 74), (.bipush 122, vi 122, 76)] (by decide +kernel) rfl rfl ?_
                refine sm_icmp_gt (off := 11) (tgt := 87) h10 (by decide) (by decide +kernel) (fun c34 => ?_) (fun c34 => ?_)
                · exact p30 (Or.inr c34)
                · exact n31 (fun q => q.elim (fun q => q.elim c32 c33) c34)
        refine sm_icmp_ne (off := 9) (tgt := 58) h10 (by decide) (by decide +kernel) (fun c38 => ?_) (fun c38 => ?_)
        · exact n37 c38
        · exact p36 c38
    refine sm_icmp_ge (off := 81) (tgt := 102) h3 h4 (by decide +kernel) (fun c42 => ?_) (fun c42 => ?_)
    · exact p40 c42
    · exact n41 c42
set_option maxHeartbeats 4000000 in
theorem m_jsonName_ok {g : GE} (G : GG g) {σ : ST} (d : Nat) (hd1 : 0 ≤ d) (a1 : Int) (a2 : Nat) (hln : tln a2 ≠ 0) (hkd : tkd a2 = 1) (τ : TT) (Q : VQ) : Sm (V g mX4_jsonName d 0 [(0, vr (some (gw g))), (1, vi a1), (2, vr (some (gT g a2)))] [] σ τ Q) (m_jsonName a1 a2 τ) (fun r => Q.1 (some (vi r.1)) σ r.2) := by
  unfold m_jsonName
  refine sm_top (fun K hRET => ?_)
  refine sm_b (l' := [(0, vr (some (gw g))), (1, vi a1), (2, vr (some (gT g a2))), (3, vi 0), (4, vi 0), (5, vi 0)]) (st' := []) (pc' := 8) [(.iconst 0, vi 0, 1), (.istore_n 3, vi 0, 2), (.iconst 0, vi 0, 3), (.istore 4, vi 0, 5), (.iconst 0, vi 0, 6), (.istore 5, vi 0, 8)] (by decide +kernel) rfl rfl ?_
  exact m_jsonName_L8_ok G d hd1 a1 a2 hln hkd (fun r h => hRET _ h) FU 0 0 0 τ
def m_sameJson_L33 (u3 : Int) (τ : TT) : Nat → Int → Int → Option (Int × TT)
  | 0, _, _ => none
  | n + 1, w4, w5 => gd (rg w5) (gd (rg u3) (gd (¬ (u3 ≤ w5) → rg w4) (if (u3 ≤ w5) ∨ (w4 = 0) then (gd (zb w4) (some ((w4, τ)))) else (gd (ib w5 64) (Option.bind (gd (rg (tA τ 41 w5.toNat)) (gd (rg (tA τ 42 w5.toNat)) (if (tA τ 41 w5.toNat) = (tA τ 42 w5.toNat) then (some 1) else (some 0)))) fun (v26 : Int) => m_sameJson_L33 u3 τ n v26 (w5 + 1))))))
def m_sameJson (a1 : Int) (a2 : Int) (τ : TT) : Option (Int × TT) := Option.bind (m_jsonName a1 41 τ) fun y1 => Option.bind (m_jsonName a2 42 y1.2) fun y2 => Option.bind (gd (rg y2.1) (gd (rg y1.1) (if y2.1 = y1.1 then (some 1) else (some 0)))) fun (v7 : Int) => m_sameJson_L33 y1.1 y2.2 FU v7 0
set_option maxHeartbeats 4000000 in
theorem m_sameJson_L33_ok {g : GE} (G : GG g) {σ : ST} {Q : VQ} (d : Nat) (hd1 : 1 ≤ d) (u3 : Int) (τ : TT)  {K : Int × TT → Prop} (hRET : ∀ r : Int × TT, K (r) → Q.1 (some (vi r.1)) σ r.2) : ∀ (n : Nat) (w4 : Int) (w5 : Int), Sm (V g mX4_sameJson d 33 [(0, vr (some (gw g))), (3, vi u3), (4, vi w4), (5, vi w5)] [] σ τ Q) (m_sameJson_L33 u3 τ n w4 w5) K := by
  intro n
  induction n with
  | zero => intro w4 w5; exact sm_none
  | succ n ih =>
    intro w4 w5
    rw [m_sameJson_L33.eq_2]
    refine sm_b (l' := [(0, vr (some (gw g))), (3, vi u3), (4, vi w4), (5, vi w5)]) (st' := [vi u3, vi w5]) (pc' := 36) [(.iload 5, vi 0, 35), (.iload_n 3, vi 0, 36)] (by decide +kernel) rfl rfl ?_
    refine sm_gd (fun h11 => ?_)
    refine sm_gd (fun h12 => ?_)
    refine sm_gd (fun h14 => ?_)
    refine sm_case (V g mX4_sameJson d 74 [(0, vr (some (gw g))), (3, vi u3), (4, vi w4), (5, vi w5)] [] σ τ Q) (V g mX4_sameJson d 44 [(0, vr (some (gw g))), (3, vi u3), (4, vi w4), (5, vi w5)] [] σ τ Q) ?_ ?_ (fun f34 p35 n36 => ?_)
    · refine sm_b (l' := [(0, vr (some (gw g))), (3, vi u3), (4, vi w4), (5, vi w5)]) (st' := [vi w4]) (pc' := 76) [(.iload 4, vi 0, 76)] (by decide +kernel) rfl rfl ?_
      refine sm_gd (fun h20 => ?_)
      exact sm_zret rfl (by decide +kernel) h20 (fun h => hRET _ h)
    · refine sm_b (l' := [(0, vr (some (gw g))), (3, vi u3), (4, vi w4), (5, vi w5)]) (st' := [vr (some (gw g))]) (pc' := 45) [(.aload_n 0, vi 0, 45)] (by decide +kernel) rfl rfl ?_
      refine sm_tg (k := 41) (x := vr (some (gT g 41))) G.2.1 q1459 rfl rfl (by decide +kernel) ?_
      refine sm_b (l' := [(0, vr (some (gw g))), (3, vi u3), (4, vi w4), (5, vi w5)]) (st' := [vi w5, vr (some (gT g 41))]) (pc' := 50) [(.iload 5, vi 0, 50)] (by decide +kernel) rfl rfl ?_
      refine sm_gd (fun h21 => ?_)
      refine sm_ial (k := 41) G.2.1 (by decide) rfl (ibt (k := 41) h21) h21 (by decide +kernel) ?_
      refine sm_b (l' := [(0, vr (some (gw g))), (3, vi u3), (4, vi w4), (5, vi w5)]) (st' := [vr (some (gw g)), vi (tA τ 41 w5.toNat)]) (pc' := 52) [(.aload_n 0, vi 0, 52)] (by decide +kernel) rfl rfl ?_
      refine sm_tg (k := 42) (x := vr (some (gT g 42))) G.2.1 q1460 rfl rfl (by decide +kernel) ?_
      refine sm_b (l' := [(0, vr (some (gw g))), (3, vi u3), (4, vi w4), (5, vi w5)]) (st' := [vi w5, vr (some (gT g 42)), vi (tA τ 41 w5.toNat)]) (pc' := 57) [(.iload 5, vi 0, 57)] (by decide +kernel) rfl rfl ?_
      refine sm_ial (k := 42) G.2.1 (by decide) rfl (ibt (k := 42) h21) h21 (by decide +kernel) ?_
      refine sm_bind1 (fun (v26 : Int) => V g mX4_sameJson d 66 [(0, vr (some (gw g))), (3, vi u3), (5, vi w5)] [vi v26] σ τ Q) (fun v26 => ?_) (fun K27 j28 => ?_)
      · refine sm_b (l' := [(0, vr (some (gw g))), (3, vi u3), (5, vi (w5 + 1)), (4, vi v26)]) (st' := []) (pc' := 33) [(.istore 4, vi 0, 68), (.iinc 5 1, vi 1, 71), (.goto (-38), vi 0, 33)] (by decide +kernel) rfl rfl ?_
        refine sm_pick [0, 1, 3, 2] (l' := [(0, vr (some (gw g))), (3, vi u3), (4, vi v26), (5, vi (w5 + 1))]) rfl ?_
        exact ih v26 (w5 + 1)
      · refine sm_gd (fun h22 => ?_)
        refine sm_gd (fun h23 => ?_)
        refine sm_case (V g mX4_sameJson d 61 [(0, vr (some (gw g))), (3, vi u3), (4, vi w4), (5, vi w5)] [] σ τ Q) (V g mX4_sameJson d 65 [(0, vr (some (gw g))), (3, vi u3), (4, vi w4), (5, vi w5)] [] σ τ Q) ?_ ?_ (fun f30 p31 n32 => ?_)
        · refine sm_b (l' := [(0, vr (some (gw g))), (3, vi u3), (4, vi w4), (5, vi w5)]) (st' := [vi 1]) (pc' := 66) [(.iconst 1, vi 1, 62), (.goto 4, vi 0, 66)] (by decide +kernel) rfl rfl ?_
          refine sm_pick [0, 1, 3] (l' := [(0, vr (some (gw g))), (3, vi u3), (5, vi w5)]) rfl ?_
          exact sm_leaf (fun h => j28 _ h)
        · refine sm_b (l' := [(0, vr (some (gw g))), (3, vi u3), (4, vi w4), (5, vi w5)]) (st' := [vi 0]) (pc' := 66) [(.iconst 0, vi 0, 66)] (by decide +kernel) rfl rfl ?_
          refine sm_pick [0, 1, 3] (l' := [(0, vr (some (gw g))), (3, vi u3), (5, vi w5)]) rfl ?_
          exact sm_leaf (fun h => j28 _ h)
        refine sm_icmp_ne (off := 7) (tgt := 65) h22 h23 (by decide +kernel) (fun c33 => ?_) (fun c33 => ?_)
        · exact n32 c33
        · exact p31 c33
    refine sm_icmp_ge (off := 38) (tgt := 74) h11 h12 (by decide +kernel) (fun c37 => ?_) (fun c37 => ?_)
    · exact p35 (Or.inl c37)
    · have w13 : ¬ (u3 ≤ w5) := c37
      refine sm_b (l' := [(0, vr (some (gw g))), (3, vi u3), (4, vi w4), (5, vi w5)]) (st' := [vi w4]) (pc' := 41) [(.iload 4, vi 0, 41)] (by decide +kernel) rfl rfl ?_
      refine sm_if_eq (off := 33) (tgt := 74) (h14 w13) (by decide +kernel) (fun c38 => ?_) (fun c38 => ?_)
      · exact p35 (Or.inr c38)
      · exact n36 (fun q => q.elim c37 c38)
set_option maxHeartbeats 4000000 in
theorem m_sameJson_ok {g : GE} (G : GG g) {σ : ST} (d : Nat) (hd1 : 1 ≤ d) (a1 : Int) (a2 : Int)  (τ : TT) (Q : VQ) : Sm (V g mX4_sameJson d 0 [(0, vr (some (gw g))), (1, vi a1), (2, vi a2)] [] σ τ Q) (m_sameJson a1 a2 τ) (fun r => Q.1 (some (vi r.1)) σ r.2) := by
  unfold m_sameJson
  refine sm_top (fun K hRET => ?_)
  refine sm_b (l' := [(0, vr (some (gw g))), (1, vi a1), (2, vi a2)]) (st' := [vr (some (gw g)), vi a1, vr (some (gw g))]) (pc' := 3) [(.aload_n 0, vi 0, 1), (.iload_n 1, vi 0, 2), (.aload_n 0, vi 0, 3)] (by decide +kernel) rfl rfl ?_
  refine sm_tg (k := 41) (x := vr (some (gT g 41))) G.2.1 q1459 rfl rfl (by decide +kernel) ?_
  refine sm_cv (N := mX4_jsonName) (d' := d - 1) (fun r => (some (vi r.1))) (fun _ => σ) (fun r => r.2) [vi a1, vr (some (gT g 41))] [] rfl (by decide +kernel) q1740 q1742 qs73 (Or.inl ⟨rfl, q1743⟩) (show okN yX4_jsonName 2 = true by decide +kernel) (fun H hR => hR.rvw G.1 G.2.1) rfl rfl (by omega) rfl (fun Q' => m_jsonName_ok G (d - 1) (by omega) a1 41 (by decide) rfl τ Q') (fun y1 => ?_)
  refine sm_b (l' := [(0, vr (some (gw g))), (1, vi a1), (2, vi a2), (3, vi y1.1)]) (st' := [vr (some (gw g)), vi a2, vr (some (gw g))]) (pc' := 13) [(.istore_n 3, vi 0, 10), (.aload_n 0, vi 0, 11), (.iload_n 2, vi 0, 12), (.aload_n 0, vi 0, 13)] (by decide +kernel) rfl rfl ?_
  refine sm_tg (k := 42) (x := vr (some (gT g 42))) G.2.1 q1460 rfl rfl (by decide +kernel) ?_
  refine sm_cv (N := mX4_jsonName) (d' := d - 1) (fun r => (some (vi r.1))) (fun _ => σ) (fun r => r.2) [vi a2, vr (some (gT g 42))] [] rfl (by decide +kernel) q1740 q1742 qs73 (Or.inl ⟨rfl, q1743⟩) (show okN yX4_jsonName 2 = true by decide +kernel) (fun H hR => hR.rvw G.1 G.2.1) rfl rfl (by omega) rfl (fun Q' => m_jsonName_ok G (d - 1) (by omega) a2 42 (by decide) rfl y1.2 Q') (fun y2 => ?_)
  refine sm_b (l' := [(0, vr (some (gw g))), (1, vi a1), (2, vi a2), (3, vi y1.1)]) (st' := [vi y1.1, vi y2.1]) (pc' := 20) [(.iload_n 3, vi 0, 20)] (by decide +kernel) rfl rfl ?_
  refine sm_bind1 (fun (v7 : Int) => V g mX4_sameJson d 28 [(0, vr (some (gw g))), (3, vi y1.1)] [vi v7] σ y2.2 Q) (fun v7 => ?_) (fun K8 j9 => ?_)
  · refine sm_b (l' := [(0, vr (some (gw g))), (3, vi y1.1), (4, vi v7), (5, vi 0)]) (st' := []) (pc' := 33) [(.istore 4, vi 0, 30), (.iconst 0, vi 0, 31), (.istore 5, vi 0, 33)] (by decide +kernel) rfl rfl ?_
    exact m_sameJson_L33_ok G d hd1 y1.1 y2.2  (fun r h => hRET _ h) FU v7 0
  · refine sm_gd (fun h3 => ?_)
    refine sm_gd (fun h4 => ?_)
    refine sm_case (V g mX4_sameJson d 23 [(0, vr (some (gw g))), (1, vi a1), (2, vi a2), (3, vi y1.1)] [] σ y2.2 Q) (V g mX4_sameJson d 27 [(0, vr (some (gw g))), (1, vi a1), (2, vi a2), (3, vi y1.1)] [] σ y2.2 Q) ?_ ?_ (fun f39 p40 n41 => ?_)
    · refine sm_b (l' := [(0, vr (some (gw g))), (1, vi a1), (2, vi a2), (3, vi y1.1)]) (st' := [vi 1]) (pc' := 28) [(.iconst 1, vi 1, 24), (.goto 4, vi 0, 28)] (by decide +kernel) rfl rfl ?_
      refine sm_pick [0, 3] (l' := [(0, vr (some (gw g))), (3, vi y1.1)]) rfl ?_
      exact sm_leaf (fun h => j9 _ h)
    · refine sm_b (l' := [(0, vr (some (gw g))), (1, vi a1), (2, vi a2), (3, vi y1.1)]) (st' := [vi 0]) (pc' := 28) [(.iconst 0, vi 0, 28)] (by decide +kernel) rfl rfl ?_
      refine sm_pick [0, 3] (l' := [(0, vr (some (gw g))), (3, vi y1.1)]) rfl ?_
      exact sm_leaf (fun h => j9 _ h)
    refine sm_icmp_ne (off := 7) (tgt := 27) h3 h4 (by decide +kernel) (fun c42 => ?_) (fun c42 => ?_)
    · exact n41 c42
    · exact p40 c42
def m_refusal_L87 (u1 : Int) : Nat → Int → TT → Option ((Int × TT) ⊕ (TT))
  | 0, _, _ => none
  | n + 1, w2, τ => gd (rg w2) (gd (rg u1) (if u1 ≤ w2 then (some (Sum.inr τ)) else (gd (ib u1 50) (gd (ib w2 50) (Option.bind (gd (rg (tA τ 23 u1.toNat)) (gd (rg (tA τ 23 w2.toNat)) (if (tA τ 23 u1.toNat) = (tA τ 23 w2.toNat) then (Option.bind (m_sameJson u1 w2 τ) fun y49 => gd (rg y49.1) (if y49.1 = 0 then (some (Sum.inr y49.2)) else (some (Sum.inl (Sum.inl ((6, y49.2))))))) else (some (Sum.inr τ))))) (Sum.elim some fun (v45 : TT) => m_refusal_L87 u1 n (w2 + 1) v45))))))
def m_refusal_L77  : Nat → Int → TT → Option (Int × TT)
  | 0, _, _ => none
  | n + 1, w1, τ => gd (rg w1) (gd (rg (tI τ 38)) (if (tI τ 38) ≤ w1 then (some ((0, τ))) else (Option.bind (m_refusal_L87 w1 FU 0 τ) (Sum.elim some fun (v28 : TT) => m_refusal_L77 n (w1 + 1) v28))))
def m_refusal_L29  : Nat → Int → TT → Option ((Int × TT) ⊕ (TT))
  | 0, _, _ => none
  | n + 1, w1, τ => gd (rg w1) (gd (rg (tI τ 38)) (if (tI τ 38) ≤ w1 then (some (Sum.inr τ)) else (Option.bind (m_kindOf w1 τ) fun y77 => gd (ib w1 50) (nm (uA τ 28 w1.toNat y77) fun τ79 => gd (rg (tA τ79 28 w1.toNat)) (if (tA τ79 28 w1.toNat) = ((-1)) then (some (Sum.inl ((4, τ79)))) else (m_refusal_L29 n (w1 + 1) τ79))))))
def m_refusal  (τ : TT) : Option (Int × TT) := gd (rg (tI τ 14)) (if (tI τ 14) = 0 then (Option.bind (m_namesTwice τ) fun y6 => gd (rg y6) (if y6 = 0 then (Option.bind (m_hasWrongNumber τ) fun y12 => gd (rg y12) (if y12 = 0 then (Option.bind (m_refusal_L29  FU 0 τ) (Sum.elim some fun (v16 : TT) => Option.bind (m_hasWrongEnum v16) fun y20 => gd (rg y20) (if y20 = 0 then (m_refusal_L77  FU 0 v16) else (some ((5, v16)))))) else (some ((3, τ))))) else (some ((2, τ))))) else (some ((1, τ))))
set_option maxHeartbeats 4000000 in
theorem m_refusal_L87_ok {g : GE} (G : GG g) {σ : ST} {Q : VQ} (d : Nat) (hd1 : 8 ≤ d) (u1 : Int)  {K : (Int × TT) ⊕ (TT) → Prop} (hRET : ∀ r : Int × TT, K (Sum.inl r) → Q.1 (some (vi r.1)) σ r.2) (hE125 : ∀ v32 : TT, K (Sum.inr v32) → V g mX4_refusal d 125 [(0, vr (some (gw g))), (1, vi u1)] [] σ v32 Q) : ∀ (n : Nat) (w2 : Int) (τ : TT), Sm (V g mX4_refusal d 87 [(0, vr (some (gw g))), (1, vi u1), (2, vi w2)] [] σ τ Q) (m_refusal_L87 u1 n w2 τ) K := by
  intro n
  induction n with
  | zero => intro w2 τ; exact sm_none
  | succ n ih =>
    intro w2 τ
    rw [m_refusal_L87.eq_2]
    refine sm_b (l' := [(0, vr (some (gw g))), (1, vi u1), (2, vi w2)]) (st' := [vi u1, vi w2]) (pc' := 89) [(.iload_n 2, vi 0, 88), (.iload_n 1, vi 0, 89)] (by decide +kernel) rfl rfl ?_
    refine sm_gd (fun h33 => ?_)
    refine sm_gd (fun h34 => ?_)
    refine sm_case (V g mX4_refusal d 125 [(0, vr (some (gw g))), (1, vi u1), (2, vi w2)] [] σ τ Q) (V g mX4_refusal d 92 [(0, vr (some (gw g))), (1, vi u1), (2, vi w2)] [] σ τ Q) ?_ ?_ (fun f60 p61 n62 => ?_)
    · refine sm_pick [0, 1] (l' := [(0, vr (some (gw g))), (1, vi u1)]) rfl ?_
      exact sm_leaf (fun h => hE125 _ h)
    · refine sm_b (l' := [(0, vr (some (gw g))), (1, vi u1), (2, vi w2)]) (st' := [vr (some (gw g))]) (pc' := 93) [(.aload_n 0, vi 0, 93)] (by decide +kernel) rfl rfl ?_
      refine sm_tg (k := 23) (x := vr (some (gT g 23))) G.2.1 q1441 rfl rfl (by decide +kernel) ?_
      refine sm_b (l' := [(0, vr (some (gw g))), (1, vi u1), (2, vi w2)]) (st' := [vi u1, vr (some (gT g 23))]) (pc' := 97) [(.iload_n 1, vi 0, 97)] (by decide +kernel) rfl rfl ?_
      refine sm_gd (fun h40 => ?_)
      refine sm_ial (k := 23) G.2.1 (by decide) rfl (ibt (k := 23) h40) h40 (by decide +kernel) ?_
      refine sm_b (l' := [(0, vr (some (gw g))), (1, vi u1), (2, vi w2)]) (st' := [vr (some (gw g)), vi (tA τ 23 u1.toNat)]) (pc' := 99) [(.aload_n 0, vi 0, 99)] (by decide +kernel) rfl rfl ?_
      refine sm_tg (k := 23) (x := vr (some (gT g 23))) G.2.1 q1441 rfl rfl (by decide +kernel) ?_
      refine sm_b (l' := [(0, vr (some (gw g))), (1, vi u1), (2, vi w2)]) (st' := [vi w2, vr (some (gT g 23)), vi (tA τ 23 u1.toNat)]) (pc' := 103) [(.iload_n 2, vi 0, 103)] (by decide +kernel) rfl rfl ?_
      refine sm_gd (fun h41 => ?_)
      refine sm_ial (k := 23) G.2.1 (by decide) rfl (ibt (k := 23) h41) h41 (by decide +kernel) ?_
      refine sm_bindS (fun (v45 : TT) => V g mX4_refusal d 119 [(0, vr (some (gw g))), (1, vi u1), (2, vi w2)] [] σ v45 Q) (fun v45 => ?_) (fun K46 o48 j47 => ?_)
      · refine sm_b (l' := [(0, vr (some (gw g))), (1, vi u1), (2, vi (w2 + 1))]) (st' := []) (pc' := 87) [(.iinc 2 1, vi 1, 122), (.goto (-35), vi 0, 87)] (by decide +kernel) rfl rfl ?_
        exact ih (w2 + 1) v45
      · refine sm_gd (fun h42 => ?_)
        refine sm_gd (fun h43 => ?_)
        refine sm_case (V g mX4_refusal d 107 [(0, vr (some (gw g))), (1, vi u1), (2, vi w2)] [] σ τ Q) (V g mX4_refusal d 119 [(0, vr (some (gw g))), (1, vi u1), (2, vi w2)] [] σ τ Q) ?_ ?_ (fun f56 p57 n58 => ?_)
        · refine sm_b (l' := [(0, vr (some (gw g))), (1, vi u1), (2, vi w2)]) (st' := [vi w2, vi u1, vr (some (gw g))]) (pc' := 110) [(.aload_n 0, vi 0, 108), (.iload_n 1, vi 0, 109), (.iload_n 2, vi 0, 110)] (by decide +kernel) rfl rfl ?_
          refine sm_cv (N := mX4_sameJson) (d' := d - 1) (fun r => (some (vi r.1))) (fun _ => σ) (fun r => r.2) [vi u1, vi w2] [] rfl (by decide +kernel) q1736 q1738 qs72 (Or.inl ⟨rfl, q1739⟩) (show okN yX4_sameJson 2 = true by decide +kernel) (fun H hR => hR.rvw G.1 G.2.1) rfl rfl (by omega) rfl (fun Q' => m_sameJson_ok G (d - 1) (by omega) u1 w2 τ Q') (fun y49 => ?_)
          refine sm_gd (fun h50 => ?_)
          refine sm_case (V g mX4_refusal d 119 [(0, vr (some (gw g))), (1, vi u1), (2, vi w2)] [] σ y49.2 Q) (V g mX4_refusal d 116 [(0, vr (some (gw g))), (1, vi u1), (2, vi w2)] [] σ y49.2 Q) ?_ ?_ (fun f52 p53 n54 => ?_)
          · exact sm_leaf (fun h => j47 _ h)
          · refine sm_b (l' := [(0, vr (some (gw g))), (1, vi u1), (2, vi w2)]) (st' := [vi 6]) (pc' := 118) [(.bipush 6, vi 6, 118)] (by decide +kernel) rfl rfl ?_
            exact sm_iret rfl (by decide +kernel) (fun h => hRET _ (o48 _ h))
          refine sm_if_eq (off := 6) (tgt := 119) h50 (by decide +kernel) (fun c55 => ?_) (fun c55 => ?_)
          · exact p53 c55
          · exact n54 c55
        · exact sm_leaf (fun h => j47 _ h)
        refine sm_icmp_ne (off := 15) (tgt := 119) h42 h43 (by decide +kernel) (fun c59 => ?_) (fun c59 => ?_)
        · exact n58 c59
        · exact p57 c59
    refine sm_icmp_ge (off := 36) (tgt := 125) h33 h34 (by decide +kernel) (fun c63 => ?_) (fun c63 => ?_)
    · exact p61 c63
    · exact n62 c63
set_option maxHeartbeats 4000000 in
theorem m_refusal_L77_ok {g : GE} (G : GG g) {σ : ST} {Q : VQ} (d : Nat) (hd1 : 8 ≤ d)   {K : Int × TT → Prop} (hRET : ∀ r : Int × TT, K (r) → Q.1 (some (vi r.1)) σ r.2) : ∀ (n : Nat) (w1 : Int) (τ : TT), Sm (V g mX4_refusal d 77 [(0, vr (some (gw g))), (1, vi w1)] [] σ τ Q) (m_refusal_L77 n w1 τ) K := by
  intro n
  induction n with
  | zero => intro w1 τ; exact sm_none
  | succ n ih =>
    intro w1 τ
    rw [m_refusal_L77.eq_2]
    refine sm_b (l' := [(0, vr (some (gw g))), (1, vi w1)]) (st' := [vr (some (gw g)), vi w1]) (pc' := 79) [(.iload_n 1, vi 0, 78), (.aload_n 0, vi 0, 79)] (by decide +kernel) rfl rfl ?_
    refine sm_tg (k := 38) (x := vi (tI τ 38)) G.2.1 q1456 rfl rfl (by decide +kernel) ?_
    refine sm_gd (fun h24 => ?_)
    refine sm_gd (fun h25 => ?_)
    refine sm_case (V g mX4_refusal d 131 [(0, vr (some (gw g))), (1, vi w1)] [] σ τ Q) (V g mX4_refusal d 85 [(0, vr (some (gw g))), (1, vi w1)] [] σ τ Q) ?_ ?_ (fun f64 p65 n66 => ?_)
    · refine sm_b (l' := [(0, vr (some (gw g))), (1, vi w1)]) (st' := [vi 0]) (pc' := 132) [(.iconst 0, vi 0, 132)] (by decide +kernel) rfl rfl ?_
      exact sm_iret rfl (by decide +kernel) (fun h => hRET _ h)
    · refine sm_b (l' := [(0, vr (some (gw g))), (1, vi w1), (2, vi 0)]) (st' := []) (pc' := 87) [(.iconst 0, vi 0, 86), (.istore_n 2, vi 0, 87)] (by decide +kernel) rfl rfl ?_
      refine sm_bindS (fun (v28 : TT) => V g mX4_refusal d 125 [(0, vr (some (gw g))), (1, vi w1)] [] σ v28 Q) (fun v28 => ?_) (fun K29 o31 j30 => ?_)
      · refine sm_b (l' := [(0, vr (some (gw g))), (1, vi (w1 + 1))]) (st' := []) (pc' := 77) [(.iinc 1 1, vi 1, 128), (.goto (-51), vi 0, 77)] (by decide +kernel) rfl rfl ?_
        exact ih (w1 + 1) v28
      · exact m_refusal_L87_ok G d hd1 w1  (fun r h => hRET _ (o31 _ h)) (fun _ h => j30 _ h) FU 0 τ
    refine sm_icmp_ge (off := 49) (tgt := 131) h24 h25 (by decide +kernel) (fun c67 => ?_) (fun c67 => ?_)
    · exact p65 c67
    · exact n66 c67
set_option maxHeartbeats 4000000 in
theorem m_refusal_L29_ok {g : GE} (G : GG g) {σ : ST} {Q : VQ} (d : Nat) (hd1 : 8 ≤ d)   {K : (Int × TT) ⊕ (TT) → Prop} (hRET : ∀ r : Int × TT, K (Sum.inl r) → Q.1 (some (vi r.1)) σ r.2) (hE66 : ∀ v72 : TT, K (Sum.inr v72) → V g mX4_refusal d 66 [(0, vr (some (gw g)))] [] σ v72 Q) : ∀ (n : Nat) (w1 : Int) (τ : TT), Sm (V g mX4_refusal d 29 [(0, vr (some (gw g))), (1, vi w1)] [] σ τ Q) (m_refusal_L29 n w1 τ) K := by
  intro n
  induction n with
  | zero => intro w1 τ; exact sm_none
  | succ n ih =>
    intro w1 τ
    rw [m_refusal_L29.eq_2]
    refine sm_b (l' := [(0, vr (some (gw g))), (1, vi w1)]) (st' := [vr (some (gw g)), vi w1]) (pc' := 31) [(.iload_n 1, vi 0, 30), (.aload_n 0, vi 0, 31)] (by decide +kernel) rfl rfl ?_
    refine sm_tg (k := 38) (x := vi (tI τ 38)) G.2.1 q1456 rfl rfl (by decide +kernel) ?_
    refine sm_gd (fun h73 => ?_)
    refine sm_gd (fun h74 => ?_)
    refine sm_case (V g mX4_refusal d 66 [(0, vr (some (gw g))), (1, vi w1)] [] σ τ Q) (V g mX4_refusal d 37 [(0, vr (some (gw g))), (1, vi w1)] [] σ τ Q) ?_ ?_ (fun f87 p88 n89 => ?_)
    · refine sm_pick [0] (l' := [(0, vr (some (gw g)))]) rfl ?_
      exact sm_leaf (fun h => hE66 _ h)
    · refine sm_b (l' := [(0, vr (some (gw g))), (1, vi w1)]) (st' := [vr (some (gw g))]) (pc' := 38) [(.aload_n 0, vi 0, 38)] (by decide +kernel) rfl rfl ?_
      refine sm_tg (k := 28) (x := vr (some (gT g 28))) G.2.1 q1446 rfl rfl (by decide +kernel) ?_
      refine sm_b (l' := [(0, vr (some (gw g))), (1, vi w1)]) (st' := [vi w1, vr (some (gw g)), vi w1, vr (some (gT g 28))]) (pc' := 44) [(.iload_n 1, vi 0, 42), (.aload_n 0, vi 0, 43), (.iload_n 1, vi 0, 44)] (by decide +kernel) rfl rfl ?_
      refine sm_cv (N := mX4_kindOf) (d' := d - 1) (fun r => (some (vi r))) (fun _ => σ) (fun _ => τ) [vi w1] [vi w1, vr (some (gT g 28))] rfl (by decide +kernel) q1719 q1721 qs68 (Or.inl ⟨rfl, q1722⟩) (show okN yX4_kindOf 1 = true by decide +kernel) (fun H hR => hR.rvw G.1 G.2.1) rfl rfl (by omega) rfl (fun Q' => m_kindOf_ok G (d - 1) (by omega) w1 τ Q') (fun y77 => ?_)
      refine sm_gd (fun h78 => ?_)
      refine sm_ias (k := 28) G.2.1 (by decide) rfl (ibt (k := 28) h78) h78 (by decide +kernel) ?_
      refine sm_nmt (fun τ79 => ?_)
      refine sm_b (l' := [(0, vr (some (gw g))), (1, vi w1)]) (st' := [vr (some (gw g))]) (pc' := 49) [(.aload_n 0, vi 0, 49)] (by decide +kernel) rfl rfl ?_
      refine sm_tg (k := 28) (x := vr (some (gT g 28))) G.2.1 q1446 rfl rfl (by decide +kernel) ?_
      refine sm_b (l' := [(0, vr (some (gw g))), (1, vi w1)]) (st' := [vi w1, vr (some (gT g 28))]) (pc' := 53) [(.iload_n 1, vi 0, 53)] (by decide +kernel) rfl rfl ?_
      refine sm_ial (k := 28) G.2.1 (by decide) rfl (ibt (k := 28) h78) h78 (by decide +kernel) ?_
      refine sm_b (l' := [(0, vr (some (gw g))), (1, vi w1)]) (st' := [vi ((-1)), vi (tA τ79 28 w1.toNat)]) (pc' := 55) [(.iconst (-1), vi (-1), 55)] (by decide +kernel) rfl rfl ?_
      refine sm_gd (fun h80 => ?_)
      refine sm_case (V g mX4_refusal d 58 [(0, vr (some (gw g))), (1, vi w1)] [] σ τ79 Q) (V g mX4_refusal d 60 [(0, vr (some (gw g))), (1, vi w1)] [] σ τ79 Q) ?_ ?_ (fun f83 p84 n85 => ?_)
      · refine sm_b (l' := [(0, vr (some (gw g))), (1, vi w1)]) (st' := [vi 4]) (pc' := 59) [(.iconst 4, vi 4, 59)] (by decide +kernel) rfl rfl ?_
        exact sm_iret rfl (by decide +kernel) (fun h => hRET _ h)
      · refine sm_b (l' := [(0, vr (some (gw g))), (1, vi (w1 + 1))]) (st' := []) (pc' := 29) [(.iinc 1 1, vi 1, 63), (.goto (-34), vi 0, 29)] (by decide +kernel) rfl rfl ?_
        exact ih (w1 + 1) τ79
      refine sm_icmp_ne (off := 5) (tgt := 60) h80 (by decide) (by decide +kernel) (fun c86 => ?_) (fun c86 => ?_)
      · exact n85 c86
      · exact p84 c86
    refine sm_icmp_ge (off := 32) (tgt := 66) h73 h74 (by decide +kernel) (fun c90 => ?_) (fun c90 => ?_)
    · exact p88 c90
    · exact n89 c90
set_option maxHeartbeats 4000000 in
theorem m_refusal_ok {g : GE} (G : GG g) {σ : ST} (d : Nat) (hd1 : 8 ≤ d)   (τ : TT) (Q : VQ) : Sm (V g mX4_refusal d 0 [(0, vr (some (gw g)))] [] σ τ Q) (m_refusal τ) (fun r => Q.1 (some (vi r.1)) σ r.2) := by
  unfold m_refusal
  refine sm_top (fun K hRET => ?_)
  refine sm_b (l' := [(0, vr (some (gw g)))]) (st' := [vr (some (gw g))]) (pc' := 1) [(.aload_n 0, vi 0, 1)] (by decide +kernel) rfl rfl ?_
  refine sm_tg (k := 14) (x := vi (tI τ 14)) G.2.1 q1432 rfl rfl (by decide +kernel) ?_
  refine sm_gd (fun h1 => ?_)
  refine sm_case (V g mX4_refusal d 9 [(0, vr (some (gw g)))] [] σ τ Q) (V g mX4_refusal d 7 [(0, vr (some (gw g)))] [] σ τ Q) ?_ ?_ (fun f99 p100 n101 => ?_)
  · refine sm_b (l' := [(0, vr (some (gw g)))]) (st' := [vr (some (gw g))]) (pc' := 10) [(.aload_n 0, vi 0, 10)] (by decide +kernel) rfl rfl ?_
    refine sm_cv (N := mX4_namesTwice) (d' := d - 1) (fun r => (some (vi r))) (fun _ => σ) (fun _ => τ) [] [] rfl (by decide +kernel) q1698 q1700 qs63 (Or.inl ⟨rfl, q1701⟩) (show okN yX4_namesTwice 0 = true by decide +kernel) (fun H hR => hR.rvw G.1 G.2.1) rfl rfl (by omega) rfl (fun Q' => m_namesTwice_ok G (d - 1) (by omega)  τ Q') (fun y6 => ?_)
    refine sm_gd (fun h7 => ?_)
    refine sm_case (V g mX4_refusal d 18 [(0, vr (some (gw g)))] [] σ τ Q) (V g mX4_refusal d 16 [(0, vr (some (gw g)))] [] σ τ Q) ?_ ?_ (fun f95 p96 n97 => ?_)
    · refine sm_b (l' := [(0, vr (some (gw g)))]) (st' := [vr (some (gw g))]) (pc' := 19) [(.aload_n 0, vi 0, 19)] (by decide +kernel) rfl rfl ?_
      refine sm_cv (N := mX4_hasWrongNumber) (d' := d - 1) (fun r => (some (vi r))) (fun _ => σ) (fun _ => τ) [] [] rfl (by decide +kernel) q1714 q1716 qs67 (Or.inl ⟨rfl, q1717⟩) (show okN yX4_hasWrongNumber 0 = true by decide +kernel) (fun H hR => hR.rvw G.1 G.2.1) rfl rfl (by omega) rfl (fun Q' => m_hasWrongNumber_ok G (d - 1) (by omega)  τ Q') (fun y12 => ?_)
      refine sm_gd (fun h13 => ?_)
      refine sm_case (V g mX4_refusal d 27 [(0, vr (some (gw g)))] [] σ τ Q) (V g mX4_refusal d 25 [(0, vr (some (gw g)))] [] σ τ Q) ?_ ?_ (fun f91 p92 n93 => ?_)
      · refine sm_b (l' := [(0, vr (some (gw g))), (1, vi 0)]) (st' := []) (pc' := 29) [(.iconst 0, vi 0, 28), (.istore_n 1, vi 0, 29)] (by decide +kernel) rfl rfl ?_
        refine sm_bindS (fun (v16 : TT) => V g mX4_refusal d 66 [(0, vr (some (gw g)))] [] σ v16 Q) (fun v16 => ?_) (fun K17 o19 j18 => ?_)
        · refine sm_b (l' := [(0, vr (some (gw g)))]) (st' := [vr (some (gw g))]) (pc' := 67) [(.aload_n 0, vi 0, 67)] (by decide +kernel) rfl rfl ?_
          refine sm_cv (N := mX4_hasWrongEnum) (d' := d - 1) (fun r => (some (vi r))) (fun _ => σ) (fun _ => v16) [] [] rfl (by decide +kernel) q1732 q1734 qs71 (Or.inl ⟨rfl, q1735⟩) (show okN yX4_hasWrongEnum 0 = true by decide +kernel) (fun H hR => hR.rvw G.1 G.2.1) rfl rfl (by omega) rfl (fun Q' => m_hasWrongEnum_ok G (d - 1) (by omega)  v16 Q') (fun y20 => ?_)
          refine sm_gd (fun h21 => ?_)
          refine sm_case (V g mX4_refusal d 75 [(0, vr (some (gw g)))] [] σ v16 Q) (V g mX4_refusal d 73 [(0, vr (some (gw g)))] [] σ v16 Q) ?_ ?_ (fun f68 p69 n70 => ?_)
          · refine sm_b (l' := [(0, vr (some (gw g))), (1, vi 0)]) (st' := []) (pc' := 77) [(.iconst 0, vi 0, 76), (.istore_n 1, vi 0, 77)] (by decide +kernel) rfl rfl ?_
            exact m_refusal_L77_ok G d hd1   (fun r h => hRET _ h) FU 0 v16
          · refine sm_b (l' := [(0, vr (some (gw g)))]) (st' := [vi 5]) (pc' := 74) [(.iconst 5, vi 5, 74)] (by decide +kernel) rfl rfl ?_
            exact sm_iret rfl (by decide +kernel) (fun h => hRET _ h)
          refine sm_if_eq (off := 5) (tgt := 75) h21 (by decide +kernel) (fun c71 => ?_) (fun c71 => ?_)
          · exact p69 c71
          · exact n70 c71
        · exact m_refusal_L29_ok G d hd1   (fun r h => hRET _ (o19 _ h)) (fun _ h => j18 _ h) FU 0 τ
      · refine sm_b (l' := [(0, vr (some (gw g)))]) (st' := [vi 3]) (pc' := 26) [(.iconst 3, vi 3, 26)] (by decide +kernel) rfl rfl ?_
        exact sm_iret rfl (by decide +kernel) (fun h => hRET _ h)
      refine sm_if_eq (off := 5) (tgt := 27) h13 (by decide +kernel) (fun c94 => ?_) (fun c94 => ?_)
      · exact p92 c94
      · exact n93 c94
    · refine sm_b (l' := [(0, vr (some (gw g)))]) (st' := [vi 2]) (pc' := 17) [(.iconst 2, vi 2, 17)] (by decide +kernel) rfl rfl ?_
      exact sm_iret rfl (by decide +kernel) (fun h => hRET _ h)
    refine sm_if_eq (off := 5) (tgt := 18) h7 (by decide +kernel) (fun c98 => ?_) (fun c98 => ?_)
    · exact p96 c98
    · exact n97 c98
  · refine sm_b (l' := [(0, vr (some (gw g)))]) (st' := [vi 1]) (pc' := 8) [(.iconst 1, vi 1, 8)] (by decide +kernel) rfl rfl ?_
    exact sm_iret rfl (by decide +kernel) (fun h => hRET _ h)
  refine sm_if_eq (off := 5) (tgt := 9) h1 (by decide +kernel) (fun c102 => ?_) (fun c102 => ?_)
  · exact p100 c102
  · exact n101 c102
def m_schema_L11  : Nat → Int → TT → Option (TT)
  | 0, _, _ => none
  | n + 1, w1, τ => gd (rg w1) (gd (rg (tI τ 5)) (if (tI τ 5) ≤ w1 then (some τ) else (gd (ib w1 1000) (nm (uA τ 8 w1.toNat (tA τ 2 w1.toNat)) fun τ23 => m_schema_L11 n (w1 + 1) τ23))))
def m_schema  (τ : TT) : Option (Int × TT) := nm (uI τ 0 0) fun τ1 => Option.bind (m_clearSchema τ1) fun y2 => Option.bind (m_schema_L11  FU 0 y2) fun (v3 : TT) => Option.bind (m_readTokens v3) fun y7 => Option.bind (m_readSchema y7) fun y8 => Option.bind (m_refusal y8) fun y9 => gd (rg y9.1) (if y9.1 ≤ 0 then (some ((y9.1, y9.2))) else (Option.bind (m_clearSchema y9.2) fun y12 => some ((y9.1, y12))))
set_option maxHeartbeats 4000000 in
theorem m_schema_L11_ok {g : GE} (G : GG g) {σ : ST} {Q : VQ} (d : Nat) (hd1 : 24 ≤ d)   {K : TT → Prop} (hE37 : ∀ v17 : TT, K (v17) → V g mX4_schema d 37 [(0, vr (some (gw g)))] [] σ v17 Q) : ∀ (n : Nat) (w1 : Int) (τ : TT), Sm (V g mX4_schema d 11 [(0, vr (some (gw g))), (1, vi w1)] [] σ τ Q) (m_schema_L11 n w1 τ) K := by
  intro n
  induction n with
  | zero => intro w1 τ; exact sm_none
  | succ n ih =>
    intro w1 τ
    rw [m_schema_L11.eq_2]
    refine sm_b (l' := [(0, vr (some (gw g))), (1, vi w1)]) (st' := [vr (some (gw g)), vi w1]) (pc' := 13) [(.iload_n 1, vi 0, 12), (.aload_n 0, vi 0, 13)] (by decide +kernel) rfl rfl ?_
    refine sm_tg (k := 5) (x := vi (tI τ 5)) G.2.1 q1423 rfl rfl (by decide +kernel) ?_
    refine sm_gd (fun h18 => ?_)
    refine sm_gd (fun h19 => ?_)
    refine sm_case (V g mX4_schema d 37 [(0, vr (some (gw g))), (1, vi w1)] [] σ τ Q) (V g mX4_schema d 19 [(0, vr (some (gw g))), (1, vi w1)] [] σ τ Q) ?_ ?_ (fun f24 p25 n26 => ?_)
    · refine sm_pick [0] (l' := [(0, vr (some (gw g)))]) rfl ?_
      exact sm_leaf (fun h => hE37 _ h)
    · refine sm_b (l' := [(0, vr (some (gw g))), (1, vi w1)]) (st' := [vr (some (gw g))]) (pc' := 20) [(.aload_n 0, vi 0, 20)] (by decide +kernel) rfl rfl ?_
      refine sm_tg (k := 8) (x := vr (some (gT g 8))) G.2.1 q1426 rfl rfl (by decide +kernel) ?_
      refine sm_b (l' := [(0, vr (some (gw g))), (1, vi w1)]) (st' := [vr (some (gw g)), vi w1, vr (some (gT g 8))]) (pc' := 25) [(.iload_n 1, vi 0, 24), (.aload_n 0, vi 0, 25)] (by decide +kernel) rfl rfl ?_
      refine sm_tg (k := 2) (x := vr (some (gT g 2))) G.2.1 q1420 rfl rfl (by decide +kernel) ?_
      refine sm_b (l' := [(0, vr (some (gw g))), (1, vi w1)]) (st' := [vi w1, vr (some (gT g 2)), vi w1, vr (some (gT g 8))]) (pc' := 29) [(.iload_n 1, vi 0, 29)] (by decide +kernel) rfl rfl ?_
      refine sm_gd (fun h22 => ?_)
      refine sm_ial (k := 2) G.2.1 (by decide) rfl (ibt (k := 2) h22) h22 (by decide +kernel) ?_
      refine sm_ias (k := 8) G.2.1 (by decide) rfl (ibt (k := 8) h22) h22 (by decide +kernel) ?_
      refine sm_nmt (fun τ23 => ?_)
      refine sm_b (l' := [(0, vr (some (gw g))), (1, vi (w1 + 1))]) (st' := []) (pc' := 11) [(.iinc 1 1, vi 1, 34), (.goto (-23), vi 0, 11)] (by decide +kernel) rfl rfl ?_
      exact ih (w1 + 1) τ23
    refine sm_icmp_ge (off := 21) (tgt := 37) h18 h19 (by decide +kernel) (fun c27 => ?_) (fun c27 => ?_)
    · exact p25 c27
    · exact n26 c27
set_option maxHeartbeats 4000000 in
theorem m_schema_ok {g : GE} (G : GG g) {σ : ST} (d : Nat) (hd1 : 24 ≤ d)   (τ : TT) (Q : VQ) : Sm (V g mX4_schema d 0 [(0, vr (some (gw g)))] [] σ τ Q) (m_schema τ) (fun r => Q.1 (some (vi r.1)) σ r.2) := by
  unfold m_schema
  refine sm_top (fun K hRET => ?_)
  refine sm_b (l' := [(0, vr (some (gw g)))]) (st' := [vi 0, vr (some (gw g))]) (pc' := 2) [(.aload_n 0, vi 0, 1), (.iconst 0, vi 0, 2)] (by decide +kernel) rfl rfl ?_
  refine sm_tpi (k := 0) G.2.1 q1418 rfl rfl rfl (tp_0 g τ 0) (by decide +kernel) ?_
  refine sm_nmt (fun τ1 => ?_)
  refine sm_b (l' := [(0, vr (some (gw g)))]) (st' := [vr (some (gw g))]) (pc' := 6) [(.aload_n 0, vi 0, 6)] (by decide +kernel) rfl rfl ?_
  refine sm_cv (N := mX4_clearSchema) (d' := d - 1) (fun r => none) (fun _ => σ) (fun r => r) [] [] rfl (by decide +kernel) q1615 q1617 qs48 (Or.inl ⟨rfl, q1618⟩) (show okN yX4_clearSchema 0 = true by decide +kernel) (fun H hR => hR.rvw G.1 G.2.1) rfl rfl (by omega) rfl (fun Q' => m_clearSchema_ok G (d - 1) (by omega)  τ1 Q') (fun y2 => ?_)
  refine sm_b (l' := [(0, vr (some (gw g))), (1, vi 0)]) (st' := []) (pc' := 11) [(.iconst 0, vi 0, 10), (.istore_n 1, vi 0, 11)] (by decide +kernel) rfl rfl ?_
  refine sm_bind1 (fun (v3 : TT) => V g mX4_schema d 37 [(0, vr (some (gw g)))] [] σ v3 Q) (fun v3 => ?_) (fun K4 j5 => ?_)
  · refine sm_b (l' := [(0, vr (some (gw g)))]) (st' := [vr (some (gw g))]) (pc' := 38) [(.aload_n 0, vi 0, 38)] (by decide +kernel) rfl rfl ?_
    refine sm_cv (N := mX4_readTokens) (d' := d - 1) (fun r => none) (fun _ => σ) (fun r => r) [] [] rfl (by decide +kernel) q1619 q1621 qs49 (Or.inl ⟨rfl, q1622⟩) (show okN yX4_readTokens 0 = true by decide +kernel) (fun H hR => hR.rvw G.1 G.2.1) rfl rfl (by omega) rfl (fun Q' => m_readTokens_ok G (d - 1) (by omega)  v3 Q') (fun y7 => ?_)
    refine sm_b (l' := [(0, vr (some (gw g)))]) (st' := [vr (some (gw g))]) (pc' := 42) [(.aload_n 0, vi 0, 42)] (by decide +kernel) rfl rfl ?_
    refine sm_cv (N := mX4_readSchema) (d' := d - 1) (fun r => none) (fun _ => σ) (fun r => r) [] [] rfl (by decide +kernel) q1629 q1631 qs50 (Or.inl ⟨rfl, q1632⟩) (show okN yX4_readSchema 0 = true by decide +kernel) (fun H hR => hR.rvw G.1 G.2.1) rfl rfl (by omega) rfl (fun Q' => m_readSchema_ok G (d - 1) (by omega)  y7 Q') (fun y8 => ?_)
    refine sm_b (l' := [(0, vr (some (gw g)))]) (st' := [vr (some (gw g))]) (pc' := 46) [(.aload_n 0, vi 0, 46)] (by decide +kernel) rfl rfl ?_
    refine sm_cv (N := mX4_refusal) (d' := d - 1) (fun r => (some (vi r.1))) (fun _ => σ) (fun r => r.2) [] [] rfl (by decide +kernel) q1694 q1696 qs62 (Or.inl ⟨rfl, q1697⟩) (show okN yX4_refusal 0 = true by decide +kernel) (fun H hR => hR.rvw G.1 G.2.1) rfl rfl (by omega) rfl (fun Q' => m_refusal_ok G (d - 1) (by omega)  y8 Q') (fun y9 => ?_)
    refine sm_b (l' := [(0, vr (some (gw g))), (1, vi y9.1)]) (st' := [vi y9.1]) (pc' := 51) [(.istore_n 1, vi 0, 50), (.iload_n 1, vi 0, 51)] (by decide +kernel) rfl rfl ?_
    refine sm_gd (fun h10 => ?_)
    refine sm_case (V g mX4_schema d 58 [(0, vr (some (gw g))), (1, vi y9.1)] [] σ y9.2 Q) (V g mX4_schema d 54 [(0, vr (some (gw g))), (1, vi y9.1)] [] σ y9.2 Q) ?_ ?_ (fun f13 p14 n15 => ?_)
    · refine sm_b (l' := [(0, vr (some (gw g))), (1, vi y9.1)]) (st' := [vi y9.1]) (pc' := 59) [(.iload_n 1, vi 0, 59)] (by decide +kernel) rfl rfl ?_
      exact sm_iret rfl (by decide +kernel) (fun h => hRET _ h)
    · refine sm_b (l' := [(0, vr (some (gw g))), (1, vi y9.1)]) (st' := [vr (some (gw g))]) (pc' := 55) [(.aload_n 0, vi 0, 55)] (by decide +kernel) rfl rfl ?_
      refine sm_cv (N := mX4_clearSchema) (d' := d - 1) (fun r => none) (fun _ => σ) (fun r => r) [] [] rfl (by decide +kernel) q1615 q1617 qs48 (Or.inl ⟨rfl, q1618⟩) (show okN yX4_clearSchema 0 = true by decide +kernel) (fun H hR => hR.rvw G.1 G.2.1) rfl rfl (by omega) rfl (fun Q' => m_clearSchema_ok G (d - 1) (by omega)  y9.2 Q') (fun y12 => ?_)
      refine sm_b (l' := [(0, vr (some (gw g))), (1, vi y9.1)]) (st' := [vi y9.1]) (pc' := 59) [(.iload_n 1, vi 0, 59)] (by decide +kernel) rfl rfl ?_
      exact sm_iret rfl (by decide +kernel) (fun h => hRET _ h)
    refine sm_if_le (off := 7) (tgt := 58) h10 (by decide +kernel) (fun c16 => ?_) (fun c16 => ?_)
    · exact p14 c16
    · exact n15 c16
  · exact m_schema_L11_ok G d hd1   (fun _ h => j5 _ h) FU 0 y2
def m_count (a1 : Int) (τ : TT) : Option (Int × TT) := nm (uI τ 0 0) fun τ1 => gd (rg a1) (if a1 = 0 then (some ((tI τ1 35, τ1))) else (if a1 = 1 then (some ((tI τ1 36, τ1))) else (if a1 = 2 then (some ((tI τ1 38, τ1))) else (some (((-1), τ1))))))
set_option maxHeartbeats 4000000 in
theorem m_count_ok {g : GE} (G : GG g) {σ : ST} (d : Nat) (hd1 : 0 ≤ d) (a1 : Int)  (τ : TT) (Q : VQ) : Sm (V g mX4_count d 0 [(0, vr (some (gw g))), (1, vi a1)] [] σ τ Q) (m_count a1 τ) (fun r => Q.1 (some (vi r.1)) σ r.2) := by
  unfold m_count
  refine sm_top (fun K hRET => ?_)
  refine sm_b (l' := [(0, vr (some (gw g))), (1, vi a1)]) (st' := [vi 0, vr (some (gw g))]) (pc' := 2) [(.aload_n 0, vi 0, 1), (.iconst 0, vi 0, 2)] (by decide +kernel) rfl rfl ?_
  refine sm_tpi (k := 0) G.2.1 q1418 rfl rfl rfl (tp_0 g τ 0) (by decide +kernel) ?_
  refine sm_nmt (fun τ1 => ?_)
  refine sm_b (l' := [(0, vr (some (gw g))), (1, vi a1)]) (st' := [vi a1]) (pc' := 6) [(.iload_n 1, vi 0, 6)] (by decide +kernel) rfl rfl ?_
  refine sm_gd (fun h2 => ?_)
  refine sm_case (V g mX4_count d 9 [(0, vr (some (gw g))), (1, vi a1)] [] σ τ1 Q) (V g mX4_count d 16 [(0, vr (some (gw g))), (1, vi a1)] [] σ τ1 Q) ?_ ?_ (fun f17 p18 n19 => ?_)
  · refine sm_b (l' := [(0, vr (some (gw g))), (1, vi a1)]) (st' := [vr (some (gw g))]) (pc' := 10) [(.aload_n 0, vi 0, 10)] (by decide +kernel) rfl rfl ?_
    refine sm_tg (k := 35) (x := vi (tI τ1 35)) G.2.1 q1453 rfl rfl (by decide +kernel) ?_
    refine sm_b (l' := [(0, vr (some (gw g))), (1, vi a1)]) (st' := [vi (tI τ1 35)]) (pc' := 41) [(.goto 28, vi 0, 41)] (by decide +kernel) rfl rfl ?_
    exact sm_iret rfl (by decide +kernel) (fun h => hRET _ h)
  · refine sm_b (l' := [(0, vr (some (gw g))), (1, vi a1)]) (st' := [vi 1, vi a1]) (pc' := 18) [(.iload_n 1, vi 0, 17), (.iconst 1, vi 1, 18)] (by decide +kernel) rfl rfl ?_
    refine sm_case (V g mX4_count d 21 [(0, vr (some (gw g))), (1, vi a1)] [] σ τ1 Q) (V g mX4_count d 28 [(0, vr (some (gw g))), (1, vi a1)] [] σ τ1 Q) ?_ ?_ (fun f13 p14 n15 => ?_)
    · refine sm_b (l' := [(0, vr (some (gw g))), (1, vi a1)]) (st' := [vr (some (gw g))]) (pc' := 22) [(.aload_n 0, vi 0, 22)] (by decide +kernel) rfl rfl ?_
      refine sm_tg (k := 36) (x := vi (tI τ1 36)) G.2.1 q1454 rfl rfl (by decide +kernel) ?_
      refine sm_b (l' := [(0, vr (some (gw g))), (1, vi a1)]) (st' := [vi (tI τ1 36)]) (pc' := 41) [(.goto 16, vi 0, 41)] (by decide +kernel) rfl rfl ?_
      exact sm_iret rfl (by decide +kernel) (fun h => hRET _ h)
    · refine sm_b (l' := [(0, vr (some (gw g))), (1, vi a1)]) (st' := [vi 2, vi a1]) (pc' := 30) [(.iload_n 1, vi 0, 29), (.iconst 2, vi 2, 30)] (by decide +kernel) rfl rfl ?_
      refine sm_case (V g mX4_count d 33 [(0, vr (some (gw g))), (1, vi a1)] [] σ τ1 Q) (V g mX4_count d 40 [(0, vr (some (gw g))), (1, vi a1)] [] σ τ1 Q) ?_ ?_ (fun f9 p10 n11 => ?_)
      · refine sm_b (l' := [(0, vr (some (gw g))), (1, vi a1)]) (st' := [vr (some (gw g))]) (pc' := 34) [(.aload_n 0, vi 0, 34)] (by decide +kernel) rfl rfl ?_
        refine sm_tg (k := 38) (x := vi (tI τ1 38)) G.2.1 q1456 rfl rfl (by decide +kernel) ?_
        refine sm_b (l' := [(0, vr (some (gw g))), (1, vi a1)]) (st' := [vi (tI τ1 38)]) (pc' := 41) [(.goto 4, vi 0, 41)] (by decide +kernel) rfl rfl ?_
        exact sm_iret rfl (by decide +kernel) (fun h => hRET _ h)
      · refine sm_b (l' := [(0, vr (some (gw g))), (1, vi a1)]) (st' := [vi ((-1))]) (pc' := 41) [(.iconst (-1), vi (-1), 41)] (by decide +kernel) rfl rfl ?_
        exact sm_iret rfl (by decide +kernel) (fun h => hRET _ h)
      refine sm_icmp_ne (off := 10) (tgt := 40) h2 (by decide) (by decide +kernel) (fun c12 => ?_) (fun c12 => ?_)
      · exact n11 c12
      · exact p10 c12
    refine sm_icmp_ne (off := 10) (tgt := 28) h2 (by decide) (by decide +kernel) (fun c16 => ?_) (fun c16 => ?_)
    · exact n15 c16
    · exact p14 c16
  refine sm_if_ne (off := 10) (tgt := 16) h2 (by decide +kernel) (fun c20 => ?_) (fun c20 => ?_)
  · exact n19 c20
  · exact p18 c20
def m_field (a1 : Int) (a2 : Int) (τ : TT) : Option (Int × TT) := nm (uI τ 0 0) fun τ1 => gd (rg a1) (gd (¬ (a1 < 0) → rg (tI τ1 38)) (if (a1 < 0) ∨ (¬ (a1 < (tI τ1 38))) then (some (((-1), τ1))) else (gd (rg a2) (if a2 = 0 then (gd (ib a1 50) (some ((tA τ1 23 a1.toNat, τ1)))) else (if a2 = 1 then (gd (ib a1 50) (some ((tA τ1 24 a1.toNat, τ1)))) else (if a2 = 2 then (gd (ib a1 50) (some ((tA τ1 28 a1.toNat, τ1)))) else (if a2 = 3 then (gd (ib a1 50) (gd (rg (tA τ1 29 a1.toNat)) (if (tA τ1 29 a1.toNat) = 0 then (some ((0, τ1))) else (some ((1, τ1)))))) else (if a2 = 4 then (gd (ib a1 50) (gd (rg (tA τ1 30 a1.toNat)) (if (tA τ1 30 a1.toNat) = 0 then (some ((0, τ1))) else (some ((1, τ1)))))) else (if a2 = 5 then (gd (ib a1 50) (some ((tA τ1 27 a1.toNat, τ1)))) else (if a2 = 6 then (Option.bind (m_jsonName a1 41 τ1) fun y42 => some ((y42.1, y42.2))) else (some (((-1), τ1)))))))))))))
set_option maxHeartbeats 4000000 in
theorem m_field_ok {g : GE} (G : GG g) {σ : ST} (d : Nat) (hd1 : 1 ≤ d) (a1 : Int) (a2 : Int)  (τ : TT) (Q : VQ) : Sm (V g mX4_field d 0 [(0, vr (some (gw g))), (1, vi a1), (2, vi a2)] [] σ τ Q) (m_field a1 a2 τ) (fun r => Q.1 (some (vi r.1)) σ r.2) := by
  unfold m_field
  refine sm_top (fun K hRET => ?_)
  refine sm_b (l' := [(0, vr (some (gw g))), (1, vi a1), (2, vi a2)]) (st' := [vi 0, vr (some (gw g))]) (pc' := 2) [(.aload_n 0, vi 0, 1), (.iconst 0, vi 0, 2)] (by decide +kernel) rfl rfl ?_
  refine sm_tpi (k := 0) G.2.1 q1418 rfl rfl rfl (tp_0 g τ 0) (by decide +kernel) ?_
  refine sm_nmt (fun τ1 => ?_)
  refine sm_b (l' := [(0, vr (some (gw g))), (1, vi a1), (2, vi a2)]) (st' := [vi a1]) (pc' := 6) [(.iload_n 1, vi 0, 6)] (by decide +kernel) rfl rfl ?_
  refine sm_gd (fun h2 => ?_)
  refine sm_gd (fun h4 => ?_)
  refine sm_case (V g mX4_field d 17 [(0, vr (some (gw g))), (1, vi a1), (2, vi a2)] [] σ τ1 Q) (V g mX4_field d 19 [(0, vr (some (gw g))), (1, vi a1), (2, vi a2)] [] σ τ1 Q) ?_ ?_ (fun f44 p45 n46 => ?_)
  · refine sm_b (l' := [(0, vr (some (gw g))), (1, vi a1), (2, vi a2)]) (st' := [vi ((-1))]) (pc' := 18) [(.iconst (-1), vi (-1), 18)] (by decide +kernel) rfl rfl ?_
    exact sm_iret rfl (by decide +kernel) (fun h => hRET _ h)
  · refine sm_b (l' := [(0, vr (some (gw g))), (1, vi a1), (2, vi a2)]) (st' := [vi a2]) (pc' := 20) [(.iload_n 2, vi 0, 20)] (by decide +kernel) rfl rfl ?_
    refine sm_gd (fun h7 => ?_)
    refine sm_if (fun c8 => ?_) (fun c8 => ?_)
    · refine sm_dflt (V g mX4_field d 64 [(0, vr (some (gw g))), (1, vi a1), (2, vi a2)] [] σ τ1 Q) ?_ (fun f9 => ?_)
      · refine sm_b (l' := [(0, vr (some (gw g))), (1, vi a1), (2, vi a2)]) (st' := [vr (some (gw g))]) (pc' := 65) [(.aload_n 0, vi 0, 65)] (by decide +kernel) rfl rfl ?_
        refine sm_tg (k := 23) (x := vr (some (gT g 23))) G.2.1 q1441 rfl rfl (by decide +kernel) ?_
        refine sm_b (l' := [(0, vr (some (gw g))), (1, vi a1), (2, vi a2)]) (st' := [vi a1, vr (some (gT g 23))]) (pc' := 69) [(.iload_n 1, vi 0, 69)] (by decide +kernel) rfl rfl ?_
        refine sm_gd (fun h10 => ?_)
        refine sm_ial (k := 23) G.2.1 (by decide) rfl (ibt (k := 23) h10) h10 (by decide +kernel) ?_
        exact sm_iret rfl (by decide +kernel) (fun h => hRET _ h)
      exact sm_tcase (df := 112) (lo := 0) (hi := 6) (os := #[44, 51, 58, 65, 80, 95, 102]) (n := 44) (k := 0) (off := 44) (tgt := 64) (by decide +kernel) c8 f9
    · refine sm_if (fun c11 => ?_) (fun c11 => ?_)
      · refine sm_dflt (V g mX4_field d 71 [(0, vr (some (gw g))), (1, vi a1), (2, vi a2)] [] σ τ1 Q) ?_ (fun f12 => ?_)
        · refine sm_b (l' := [(0, vr (some (gw g))), (1, vi a1), (2, vi a2)]) (st' := [vr (some (gw g))]) (pc' := 72) [(.aload_n 0, vi 0, 72)] (by decide +kernel) rfl rfl ?_
          refine sm_tg (k := 24) (x := vr (some (gT g 24))) G.2.1 q1442 rfl rfl (by decide +kernel) ?_
          refine sm_b (l' := [(0, vr (some (gw g))), (1, vi a1), (2, vi a2)]) (st' := [vi a1, vr (some (gT g 24))]) (pc' := 76) [(.iload_n 1, vi 0, 76)] (by decide +kernel) rfl rfl ?_
          refine sm_gd (fun h13 => ?_)
          refine sm_ial (k := 24) G.2.1 (by decide) rfl (ibt (k := 24) h13) h13 (by decide +kernel) ?_
          exact sm_iret rfl (by decide +kernel) (fun h => hRET _ h)
        exact sm_tcase (df := 112) (lo := 0) (hi := 6) (os := #[44, 51, 58, 65, 80, 95, 102]) (n := 44) (k := 1) (off := 51) (tgt := 71) (by decide +kernel) c11 f12
      · refine sm_if (fun c14 => ?_) (fun c14 => ?_)
        · refine sm_dflt (V g mX4_field d 78 [(0, vr (some (gw g))), (1, vi a1), (2, vi a2)] [] σ τ1 Q) ?_ (fun f15 => ?_)
          · refine sm_b (l' := [(0, vr (some (gw g))), (1, vi a1), (2, vi a2)]) (st' := [vr (some (gw g))]) (pc' := 79) [(.aload_n 0, vi 0, 79)] (by decide +kernel) rfl rfl ?_
            refine sm_tg (k := 28) (x := vr (some (gT g 28))) G.2.1 q1446 rfl rfl (by decide +kernel) ?_
            refine sm_b (l' := [(0, vr (some (gw g))), (1, vi a1), (2, vi a2)]) (st' := [vi a1, vr (some (gT g 28))]) (pc' := 83) [(.iload_n 1, vi 0, 83)] (by decide +kernel) rfl rfl ?_
            refine sm_gd (fun h16 => ?_)
            refine sm_ial (k := 28) G.2.1 (by decide) rfl (ibt (k := 28) h16) h16 (by decide +kernel) ?_
            exact sm_iret rfl (by decide +kernel) (fun h => hRET _ h)
          exact sm_tcase (df := 112) (lo := 0) (hi := 6) (os := #[44, 51, 58, 65, 80, 95, 102]) (n := 44) (k := 2) (off := 58) (tgt := 78) (by decide +kernel) c14 f15
        · refine sm_if (fun c17 => ?_) (fun c17 => ?_)
          · refine sm_dflt (V g mX4_field d 85 [(0, vr (some (gw g))), (1, vi a1), (2, vi a2)] [] σ τ1 Q) ?_ (fun f18 => ?_)
            · refine sm_b (l' := [(0, vr (some (gw g))), (1, vi a1), (2, vi a2)]) (st' := [vr (some (gw g))]) (pc' := 86) [(.aload_n 0, vi 0, 86)] (by decide +kernel) rfl rfl ?_
              refine sm_tg (k := 29) (x := vr (some (gT g 29))) G.2.1 q1447 rfl rfl (by decide +kernel) ?_
              refine sm_b (l' := [(0, vr (some (gw g))), (1, vi a1), (2, vi a2)]) (st' := [vi a1, vr (some (gT g 29))]) (pc' := 90) [(.iload_n 1, vi 0, 90)] (by decide +kernel) rfl rfl ?_
              refine sm_gd (fun h19 => ?_)
              refine sm_zal (k := 29) G.2.1 (by decide) rfl (ibt (k := 29) h19) h19 (by decide +kernel) ?_
              refine sm_gd (fun h20 => ?_)
              refine sm_case (V g mX4_field d 98 [(0, vr (some (gw g))), (1, vi a1), (2, vi a2)] [] σ τ1 Q) (V g mX4_field d 94 [(0, vr (some (gw g))), (1, vi a1), (2, vi a2)] [] σ τ1 Q) ?_ ?_ (fun f23 p24 n25 => ?_)
              · refine sm_b (l' := [(0, vr (some (gw g))), (1, vi a1), (2, vi a2)]) (st' := [vi 0]) (pc' := 99) [(.iconst 0, vi 0, 99)] (by decide +kernel) rfl rfl ?_
                exact sm_iret rfl (by decide +kernel) (fun h => hRET _ h)
              · refine sm_b (l' := [(0, vr (some (gw g))), (1, vi a1), (2, vi a2)]) (st' := [vi 1]) (pc' := 99) [(.iconst 1, vi 1, 95), (.goto 4, vi 0, 99)] (by decide +kernel) rfl rfl ?_
                exact sm_iret rfl (by decide +kernel) (fun h => hRET _ h)
              refine sm_if_eq (off := 7) (tgt := 98) h20 (by decide +kernel) (fun c26 => ?_) (fun c26 => ?_)
              · exact p24 c26
              · exact n25 c26
            exact sm_tcase (df := 112) (lo := 0) (hi := 6) (os := #[44, 51, 58, 65, 80, 95, 102]) (n := 44) (k := 3) (off := 65) (tgt := 85) (by decide +kernel) c17 f18
          · refine sm_if (fun c27 => ?_) (fun c27 => ?_)
            · refine sm_dflt (V g mX4_field d 100 [(0, vr (some (gw g))), (1, vi a1), (2, vi a2)] [] σ τ1 Q) ?_ (fun f28 => ?_)
              · refine sm_b (l' := [(0, vr (some (gw g))), (1, vi a1), (2, vi a2)]) (st' := [vr (some (gw g))]) (pc' := 101) [(.aload_n 0, vi 0, 101)] (by decide +kernel) rfl rfl ?_
                refine sm_tg (k := 30) (x := vr (some (gT g 30))) G.2.1 q1448 rfl rfl (by decide +kernel) ?_
                refine sm_b (l' := [(0, vr (some (gw g))), (1, vi a1), (2, vi a2)]) (st' := [vi a1, vr (some (gT g 30))]) (pc' := 105) [(.iload_n 1, vi 0, 105)] (by decide +kernel) rfl rfl ?_
                refine sm_gd (fun h29 => ?_)
                refine sm_zal (k := 30) G.2.1 (by decide) rfl (ibt (k := 30) h29) h29 (by decide +kernel) ?_
                refine sm_gd (fun h30 => ?_)
                refine sm_case (V g mX4_field d 113 [(0, vr (some (gw g))), (1, vi a1), (2, vi a2)] [] σ τ1 Q) (V g mX4_field d 109 [(0, vr (some (gw g))), (1, vi a1), (2, vi a2)] [] σ τ1 Q) ?_ ?_ (fun f33 p34 n35 => ?_)
                · refine sm_b (l' := [(0, vr (some (gw g))), (1, vi a1), (2, vi a2)]) (st' := [vi 0]) (pc' := 114) [(.iconst 0, vi 0, 114)] (by decide +kernel) rfl rfl ?_
                  exact sm_iret rfl (by decide +kernel) (fun h => hRET _ h)
                · refine sm_b (l' := [(0, vr (some (gw g))), (1, vi a1), (2, vi a2)]) (st' := [vi 1]) (pc' := 114) [(.iconst 1, vi 1, 110), (.goto 4, vi 0, 114)] (by decide +kernel) rfl rfl ?_
                  exact sm_iret rfl (by decide +kernel) (fun h => hRET _ h)
                refine sm_if_eq (off := 7) (tgt := 113) h30 (by decide +kernel) (fun c36 => ?_) (fun c36 => ?_)
                · exact p34 c36
                · exact n35 c36
              exact sm_tcase (df := 112) (lo := 0) (hi := 6) (os := #[44, 51, 58, 65, 80, 95, 102]) (n := 44) (k := 4) (off := 80) (tgt := 100) (by decide +kernel) c27 f28
            · refine sm_if (fun c37 => ?_) (fun c37 => ?_)
              · refine sm_dflt (V g mX4_field d 115 [(0, vr (some (gw g))), (1, vi a1), (2, vi a2)] [] σ τ1 Q) ?_ (fun f38 => ?_)
                · refine sm_b (l' := [(0, vr (some (gw g))), (1, vi a1), (2, vi a2)]) (st' := [vr (some (gw g))]) (pc' := 116) [(.aload_n 0, vi 0, 116)] (by decide +kernel) rfl rfl ?_
                  refine sm_tg (k := 27) (x := vr (some (gT g 27))) G.2.1 q1445 rfl rfl (by decide +kernel) ?_
                  refine sm_b (l' := [(0, vr (some (gw g))), (1, vi a1), (2, vi a2)]) (st' := [vi a1, vr (some (gT g 27))]) (pc' := 120) [(.iload_n 1, vi 0, 120)] (by decide +kernel) rfl rfl ?_
                  refine sm_gd (fun h39 => ?_)
                  refine sm_ial (k := 27) G.2.1 (by decide) rfl (ibt (k := 27) h39) h39 (by decide +kernel) ?_
                  exact sm_iret rfl (by decide +kernel) (fun h => hRET _ h)
                exact sm_tcase (df := 112) (lo := 0) (hi := 6) (os := #[44, 51, 58, 65, 80, 95, 102]) (n := 44) (k := 5) (off := 95) (tgt := 115) (by decide +kernel) c37 f38
              · refine sm_if (fun c40 => ?_) (fun c40 => ?_)
                · refine sm_dflt (V g mX4_field d 122 [(0, vr (some (gw g))), (1, vi a1), (2, vi a2)] [] σ τ1 Q) ?_ (fun f41 => ?_)
                  · refine sm_b (l' := [(0, vr (some (gw g))), (1, vi a1), (2, vi a2)]) (st' := [vr (some (gw g)), vi a1, vr (some (gw g))]) (pc' := 125) [(.aload_n 0, vi 0, 123), (.iload_n 1, vi 0, 124), (.aload_n 0, vi 0, 125)] (by decide +kernel) rfl rfl ?_
                    refine sm_tg (k := 41) (x := vr (some (gT g 41))) G.2.1 q1459 rfl rfl (by decide +kernel) ?_
                    refine sm_cv (N := mX4_jsonName) (d' := d - 1) (fun r => (some (vi r.1))) (fun _ => σ) (fun r => r.2) [vi a1, vr (some (gT g 41))] [] rfl (by decide +kernel) q1740 q1742 qs73 (Or.inl ⟨rfl, q1743⟩) (show okN yX4_jsonName 2 = true by decide +kernel) (fun H hR => hR.rvw G.1 G.2.1) rfl rfl (by omega) rfl (fun Q' => m_jsonName_ok G (d - 1) (by omega) a1 41 (by decide) rfl τ1 Q') (fun y42 => ?_)
                    exact sm_iret rfl (by decide +kernel) (fun h => hRET _ h)
                  exact sm_tcase (df := 112) (lo := 0) (hi := 6) (os := #[44, 51, 58, 65, 80, 95, 102]) (n := 44) (k := 6) (off := 102) (tgt := 122) (by decide +kernel) c40 f41
                · refine sm_dflt (V g mX4_field d 132 [(0, vr (some (gw g))), (1, vi a1), (2, vi a2)] [] σ τ1 Q) ?_ (fun f43 => ?_)
                  · refine sm_b (l' := [(0, vr (some (gw g))), (1, vi a1), (2, vi a2)]) (st' := [vi ((-1))]) (pc' := 133) [(.iconst (-1), vi (-1), 133)] (by decide +kernel) rfl rfl ?_
                    exact sm_iret rfl (by decide +kernel) (fun h => hRET _ h)
                  exact sm_tdef (df := 112) (lo := 0) (hi := 6) (os := #[44, 51, 58, 65, 80, 95, 102]) (n := 44) (tgt := 132) h7 (by decide +kernel) (by omega) f43
  refine sm_if_lt (off := 11) (tgt := 17) h2 (by decide +kernel) (fun c47 => ?_) (fun c47 => ?_)
  · exact p45 (Or.inl c47)
  · have w3 : ¬ (a1 < 0) := c47
    refine sm_b (l' := [(0, vr (some (gw g))), (1, vi a1), (2, vi a2)]) (st' := [vr (some (gw g)), vi a1]) (pc' := 11) [(.iload_n 1, vi 0, 10), (.aload_n 0, vi 0, 11)] (by decide +kernel) rfl rfl ?_
    refine sm_tg (k := 38) (x := vi (tI τ1 38)) G.2.1 q1456 rfl rfl (by decide +kernel) ?_
    refine sm_icmp_lt (off := 5) (tgt := 19) h2 (h4 w3) (by decide +kernel) (fun c48 => ?_) (fun c48 => ?_)
    · exact n46 (fun q => q.elim c47 (fun q => q c48))
    · exact p45 (Or.inr c48)
