set_option maxRecDepth 100000
/-! the reference: X4_isText, X4_takeNumber, X4_arePacked, X4_isMessage, X4_put, X4_after -/
def m_isText_L133 (u1 : Nat) (u3 : Int) (u4 : Int) (u6 : Int) (τ : TT) : Nat → Int → Int → Option ((Int) ⊕ (Int))
  | 0, _, _ => none
  | n + 1, w7, w8 => gd (rg w8) (gd (rg u6) (if u6 ≤ w8 then (some (Sum.inr w7)) else (gd (ib (u4 + w8) (tln u1)) (Option.bind (m_isTail (tA τ u1 (u4 + w8).toNat)) fun y78 => gd (rg y78) (if y78 = 0 then (some (Sum.inl 0)) else (nm (iOr (iShl w7 6) (iAnd (tA τ u1 (u4 + w8).toNat) 63)) fun x82 => m_isText_L133 u1 u3 u4 u6 τ n x82 (w8 + 1)))))))
def m_isText_L3 (u1 : Nat) (u3 : Int) (τ : TT) : Nat → Int → Option (Int)
  | 0, _ => none
  | n + 1, w4 => gd (rg w4) (gd (rg u3) (if u3 ≤ w4 then (some 1) else (gd (ib w4 (tln u1)) (nm (tA τ u1 w4.toNat) fun x7 => Option.bind (gd (rg x7) (if 128 ≤ x7 then (if (x7 < 194) ∨ (224 ≤ x7) then (if (x7 < 224) ∨ (240 ≤ x7) then (if (x7 < 240) ∨ (245 ≤ x7) then (some 0) else (some 4)) else (some 3)) else (some 2)) else (some 1))) fun (v11 : Int) => gd (rg v11) (gd (¬ (v11 = 0) → rg (w4 + v11)) (if (v11 = 0) ∨ (¬ ((w4 + v11) ≤ u3)) then (some 0) else (Option.bind (if v11 = 1 then (some x7) else (some ((iAnd x7 (iShr 255 (v11 + 1)))))) fun (v22 : Int) => Option.bind (m_isText_L133 u1 u3 w4 v11 τ FU v22 1) (Sum.elim some fun (v26 : Int) => Option.bind (if v11 = 3 then (gd (rg v26) (if v26 < 2048 then (some (Sum.inl 0)) else (if (v26 < 55296) ∨ (¬ (v26 < 57344)) then (some (Sum.inr (()))) else (some (Sum.inl 0))))) else (some (Sum.inr (())))) (Sum.elim some fun (v32 : Unit) => Option.bind (if v11 = 4 then (gd (rg v26) (if (v26 < 65536) ∨ (¬ (v26 ≤ 1114111)) then (some (Sum.inl 0)) else (some (Sum.inr (()))))) else (some (Sum.inr (())))) (Sum.elim some fun (v38 : Unit) => nm (w4 + v11) fun x42 => m_isText_L3 u1 u3 τ n x42))))))))))
def m_isText (a1 : Nat) (a2 : Int) (a3 : Int) (τ : TT) : Option (Int) := m_isText_L3 a1 a3 τ FU a2
set_option maxHeartbeats 4000000 in
theorem m_isText_L133_ok {g : GE} (G : GG g) {σ : ST} {Q : VQ} (d : Nat) (hd1 : 1 ≤ d) (u1 : Nat) (u3 : Int) (u4 : Int) (u6 : Int) (τ : TT) (hln : tln u1 ≠ 0) (hkd : tkd u1 = 1) {K : (Int) ⊕ (Int) → Prop} (hRET : ∀ r : Int, K (Sum.inl r) → Q.1 (some (vi r)) σ τ) (hE179 : ∀ v70 : Int, K (Sum.inr v70) → V g mX4_isText d 179 [(1, vr (some (gT g u1))), (3, vi u3), (4, vi u4), (6, vi u6), (7, vi v70)] [] σ τ Q) : ∀ (n : Nat) (w7 : Int) (w8 : Int), Sm (V g mX4_isText d 133 [(1, vr (some (gT g u1))), (3, vi u3), (4, vi u4), (6, vi u6), (7, vi w7), (8, vi w8)] [] σ τ Q) (m_isText_L133 u1 u3 u4 u6 τ n w7 w8) K := by
  intro n
  induction n with
  | zero => intro w7 w8; exact sm_none
  | succ n ih =>
    intro w7 w8
    rw [m_isText_L133.eq_2]
    refine sm_b (l' := [(1, vr (some (gT g u1))), (3, vi u3), (4, vi u4), (6, vi u6), (7, vi w7), (8, vi w8)]) (st' := [vi u6, vi w8]) (pc' := 137) [(.iload 8, vi 0, 135), (.iload 6, vi 0, 137)] (by decide +kernel) rfl rfl ?_
    refine sm_gd (fun h71 => ?_)
    refine sm_gd (fun h72 => ?_)
    refine sm_case (V g mX4_isText d 179 [(1, vr (some (gT g u1))), (3, vi u3), (4, vi u4), (6, vi u6), (7, vi w7), (8, vi w8)] [] σ τ Q) (V g mX4_isText d 140 [(1, vr (some (gT g u1))), (3, vi u3), (4, vi u4), (6, vi u6), (7, vi w7), (8, vi w8)] [] σ τ Q) ?_ ?_ (fun f87 p88 n89 => ?_)
    · refine sm_pick [0, 1, 2, 3, 4] (l' := [(1, vr (some (gT g u1))), (3, vi u3), (4, vi u4), (6, vi u6), (7, vi w7)]) rfl ?_
      exact sm_leaf (fun h => hE179 _ h)
    · refine sm_b (l' := [(1, vr (some (gT g u1))), (3, vi u3), (4, vi u4), (6, vi u6), (7, vi w7), (8, vi w8)]) (st' := [vi (u4 + w8), vr (some (gT g u1))]) (pc' := 146) [(.aload_n 1, vi 0, 141), (.iload 4, vi 0, 143), (.iload 8, vi 0, 145), (.iadd, vi 0, 146)] (by decide +kernel) rfl rfl ?_
      refine sm_gd (fun h77 => ?_)
      refine sm_ial (k := u1) G.2.1 hln hkd (ibt (k := u1) h77) h77 (by decide +kernel) ?_
      refine sm_cs (N := mX4_isTail) (d' := d - 1) (fun r => (some (vi r))) (fun _ => σ) (fun _ => τ) [vi (tA τ u1 (u4 + w8).toNat)] [] rfl (by decide +kernel) q1794 q1795 q138 (Or.inl ⟨rfl, q1796⟩) (show okN yX4_isTail 1 = true by decide +kernel) rfl rfl (by omega) rfl (fun Q' => m_isTail_ok G (d - 1) (by omega) (tA τ u1 (u4 + w8).toNat) τ Q') (fun y78 => ?_)
      refine sm_gd (fun h79 => ?_)
      refine sm_case (V g mX4_isText d 153 [(1, vr (some (gT g u1))), (3, vi u3), (4, vi u4), (6, vi u6), (7, vi w7), (8, vi w8)] [] σ τ Q) (V g mX4_isText d 155 [(1, vr (some (gT g u1))), (3, vi u3), (4, vi u4), (6, vi u6), (7, vi w7), (8, vi w8)] [] σ τ Q) ?_ ?_ (fun f83 p84 n85 => ?_)
      · refine sm_b (l' := [(1, vr (some (gT g u1))), (3, vi u3), (4, vi u4), (6, vi u6), (7, vi w7), (8, vi w8)]) (st' := [vi 0]) (pc' := 154) [(.iconst 0, vi 0, 154)] (by decide +kernel) rfl rfl ?_
        exact sm_zret rfl (by decide +kernel) (by decide) (fun h => hRET _ h)
      · refine sm_b (l' := [(1, vr (some (gT g u1))), (3, vi u3), (4, vi u4), (6, vi u6), (7, vi w7), (8, vi w8)]) (st' := [vi (u4 + w8), vr (some (gT g u1)), vi (iShl w7 6)]) (pc' := 166) [(.iload 7, vi 0, 157), (.bipush 6, vi 6, 159), (.ishl, vi 0, 160), (.aload_n 1, vi 0, 161), (.iload 4, vi 0, 163), (.iload 8, vi 0, 165), (.iadd, vi 0, 166)] (by decide +kernel) rfl rfl ?_
        refine sm_ial (k := u1) G.2.1 hln hkd (ibt (k := u1) h77) h77 (by decide +kernel) ?_
        refine sm_b (l' := [(1, vr (some (gT g u1))), (3, vi u3), (4, vi u4), (6, vi u6), (7, vi w7), (8, vi w8)]) (st' := [vi (iOr (iShl w7 6) (iAnd (tA τ u1 (u4 + w8).toNat) 63))]) (pc' := 171) [(.bipush 63, vi 63, 169), (.iand, vi 0, 170), (.ior, vi 0, 171)] (by decide +kernel) rfl rfl ?_
        refine sm_nmi (fun x82 => ?_)
        refine sm_b (l' := [(1, vr (some (gT g u1))), (3, vi u3), (4, vi u4), (6, vi u6), (7, vi x82), (8, vi (w8 + 1))]) (st' := []) (pc' := 133) [(.istore 7, vi 0, 173), (.iinc 8 1, vi 1, 176), (.goto (-43), vi 0, 133)] (by decide +kernel) rfl rfl ?_
        exact ih x82 (w8 + 1)
      refine sm_if_ne (off := 5) (tgt := 155) h79 (by decide +kernel) (fun c86 => ?_) (fun c86 => ?_)
      · exact n85 c86
      · exact p84 c86
    refine sm_icmp_ge (off := 42) (tgt := 179) h71 h72 (by decide +kernel) (fun c90 => ?_) (fun c90 => ?_)
    · exact p88 c90
    · exact n89 c90
set_option maxHeartbeats 4000000 in
theorem m_isText_L3_ok {g : GE} (G : GG g) {σ : ST} {Q : VQ} (d : Nat) (hd1 : 1 ≤ d) (u1 : Nat) (u3 : Int) (τ : TT) (hln : tln u1 ≠ 0) (hkd : tkd u1 = 1) {K : Int → Prop} (hRET : ∀ r : Int, K (r) → Q.1 (some (vi r)) σ τ) : ∀ (n : Nat) (w4 : Int), Sm (V g mX4_isText d 3 [(1, vr (some (gT g u1))), (3, vi u3), (4, vi w4)] [] σ τ Q) (m_isText_L3 u1 u3 τ n w4) K := by
  intro n
  induction n with
  | zero => intro w4; exact sm_none
  | succ n ih =>
    intro w4
    rw [m_isText_L3.eq_2]
    refine sm_b (l' := [(1, vr (some (gT g u1))), (3, vi u3), (4, vi w4)]) (st' := [vi u3, vi w4]) (pc' := 6) [(.iload 4, vi 0, 5), (.iload_n 3, vi 0, 6)] (by decide +kernel) rfl rfl ?_
    refine sm_gd (fun h1 => ?_)
    refine sm_gd (fun h2 => ?_)
    refine sm_case (V g mX4_isText d 243 [(1, vr (some (gT g u1))), (3, vi u3), (4, vi w4)] [] σ τ Q) (V g mX4_isText d 9 [(1, vr (some (gT g u1))), (3, vi u3), (4, vi w4)] [] σ τ Q) ?_ ?_ (fun f128 p129 n130 => ?_)
    · refine sm_b (l' := [(1, vr (some (gT g u1))), (3, vi u3), (4, vi w4)]) (st' := [vi 1]) (pc' := 244) [(.iconst 1, vi 1, 244)] (by decide +kernel) rfl rfl ?_
      exact sm_zret rfl (by decide +kernel) (by decide) (fun h => hRET _ h)
    · refine sm_b (l' := [(1, vr (some (gT g u1))), (3, vi u3), (4, vi w4)]) (st' := [vi w4, vr (some (gT g u1))]) (pc' := 12) [(.aload_n 1, vi 0, 10), (.iload 4, vi 0, 12)] (by decide +kernel) rfl rfl ?_
      refine sm_gd (fun h6 => ?_)
      refine sm_ial (k := u1) G.2.1 hln hkd (ibt (k := u1) h6) h6 (by decide +kernel) ?_
      refine sm_nmi (fun x7 => ?_)
      refine sm_b (l' := [(1, vr (some (gT g u1))), (3, vi u3), (4, vi w4), (5, vi x7)]) (st' := [vi 128, vi x7]) (pc' := 20) [(.istore 5, vi 0, 15), (.iload 5, vi 0, 17), (.sipush 128, vi 128, 20)] (by decide +kernel) rfl rfl ?_
      refine sm_bind1 (fun (v11 : Int) => V g mX4_isText d 88 [(1, vr (some (gT g u1))), (3, vi u3), (4, vi w4), (5, vi x7)] [vi v11] σ τ Q) (fun v11 => ?_) (fun K12 j13 => ?_)
      · refine sm_b (l' := [(1, vr (some (gT g u1))), (3, vi u3), (4, vi w4), (5, vi x7), (6, vi v11)]) (st' := [vi v11]) (pc' := 92) [(.istore 6, vi 0, 90), (.iload 6, vi 0, 92)] (by decide +kernel) rfl rfl ?_
        refine sm_gd (fun h15 => ?_)
        refine sm_gd (fun h17 => ?_)
        refine sm_case (V g mX4_isText d 104 [(1, vr (some (gT g u1))), (3, vi u3), (4, vi w4), (5, vi x7), (6, vi v11)] [] σ τ Q) (V g mX4_isText d 106 [(1, vr (some (gT g u1))), (3, vi u3), (4, vi w4), (5, vi x7), (6, vi v11)] [] σ τ Q) ?_ ?_ (fun f95 p96 n97 => ?_)
        · refine sm_b (l' := [(1, vr (some (gT g u1))), (3, vi u3), (4, vi w4), (5, vi x7), (6, vi v11)]) (st' := [vi 0]) (pc' := 105) [(.iconst 0, vi 0, 105)] (by decide +kernel) rfl rfl ?_
          exact sm_zret rfl (by decide +kernel) (by decide) (fun h => hRET _ h)
        · refine sm_b (l' := [(1, vr (some (gT g u1))), (3, vi u3), (4, vi w4), (5, vi x7), (6, vi v11)]) (st' := [vi 1, vi v11]) (pc' := 109) [(.iload 6, vi 0, 108), (.iconst 1, vi 1, 109)] (by decide +kernel) rfl rfl ?_
          refine sm_bind1 (fun (v22 : Int) => V g mX4_isText d 128 [(1, vr (some (gT g u1))), (3, vi u3), (4, vi w4), (6, vi v11)] [vi v22] σ τ Q) (fun v22 => ?_) (fun K23 j24 => ?_)
          · refine sm_b (l' := [(1, vr (some (gT g u1))), (3, vi u3), (4, vi w4), (6, vi v11), (7, vi v22), (8, vi 1)]) (st' := []) (pc' := 133) [(.istore 7, vi 0, 130), (.iconst 1, vi 1, 131), (.istore 8, vi 0, 133)] (by decide +kernel) rfl rfl ?_
            refine sm_bindS (fun (v26 : Int) => V g mX4_isText d 179 [(1, vr (some (gT g u1))), (3, vi u3), (4, vi w4), (6, vi v11), (7, vi v26)] [] σ τ Q) (fun v26 => ?_) (fun K27 o29 j28 => ?_)
            · refine sm_b (l' := [(1, vr (some (gT g u1))), (3, vi u3), (4, vi w4), (6, vi v11), (7, vi v26)]) (st' := [vi 3, vi v11]) (pc' := 182) [(.iload 6, vi 0, 181), (.iconst 3, vi 3, 182)] (by decide +kernel) rfl rfl ?_
              refine sm_bindS (fun (v32 : Unit) => V g mX4_isText d 209 [(1, vr (some (gT g u1))), (3, vi u3), (4, vi w4), (6, vi v11), (7, vi v26)] [] σ τ Q) (fun v32 => ?_) (fun K33 o35 j34 => ?_)
              · refine sm_b (l' := [(1, vr (some (gT g u1))), (3, vi u3), (4, vi w4), (6, vi v11), (7, vi v26)]) (st' := [vi 4, vi v11]) (pc' := 212) [(.iload 6, vi 0, 211), (.iconst 4, vi 4, 212)] (by decide +kernel) rfl rfl ?_
                refine sm_bindS (fun (v38 : Unit) => V g mX4_isText d 233 [(1, vr (some (gT g u1))), (3, vi u3), (4, vi w4), (6, vi v11)] [] σ τ Q) (fun v38 => ?_) (fun K39 o41 j40 => ?_)
                · refine sm_b (l' := [(1, vr (some (gT g u1))), (3, vi u3), (4, vi w4), (6, vi v11)]) (st' := [vi (w4 + v11)]) (pc' := 238) [(.iload 4, vi 0, 235), (.iload 6, vi 0, 237), (.iadd, vi 0, 238)] (by decide +kernel) rfl rfl ?_
                  refine sm_nmi (fun x42 => ?_)
                  refine sm_b (l' := [(1, vr (some (gT g u1))), (3, vi u3), (4, vi x42), (6, vi v11)]) (st' := []) (pc' := 3) [(.istore 4, vi 0, 240), (.goto (-237), vi 0, 3)] (by decide +kernel) rfl rfl ?_
                  refine sm_pick [0, 1, 2] (l' := [(1, vr (some (gT g u1))), (3, vi u3), (4, vi x42)]) rfl ?_
                  exact ih x42
                · refine sm_case (V g mX4_isText d 215 [(1, vr (some (gT g u1))), (3, vi u3), (4, vi w4), (6, vi v11), (7, vi v26)] [] σ τ Q) (V g mX4_isText d 233 [(1, vr (some (gT g u1))), (3, vi u3), (4, vi w4), (6, vi v11), (7, vi v26)] [] σ τ Q) ?_ ?_ (fun f50 p51 n52 => ?_)
                  · refine sm_b (l' := [(1, vr (some (gT g u1))), (3, vi u3), (4, vi w4), (6, vi v11), (7, vi v26)]) (st' := [vi v26]) (pc' := 217) [(.iload 7, vi 0, 217)] (by decide +kernel) rfl rfl ?_
                    refine sm_ldcw (x := 65536) (by decide) (by decide +kernel) q1799 ?_
                    refine sm_gd (fun h43 => ?_)
                    refine sm_case (V g mX4_isText d 231 [(1, vr (some (gT g u1))), (3, vi u3), (4, vi w4), (6, vi v11), (7, vi v26)] [] σ τ Q) (V g mX4_isText d 233 [(1, vr (some (gT g u1))), (3, vi u3), (4, vi w4), (6, vi v11), (7, vi v26)] [] σ τ Q) ?_ ?_ (fun f45 p46 n47 => ?_)
                    · refine sm_b (l' := [(1, vr (some (gT g u1))), (3, vi u3), (4, vi w4), (6, vi v11), (7, vi v26)]) (st' := [vi 0]) (pc' := 232) [(.iconst 0, vi 0, 232)] (by decide +kernel) rfl rfl ?_
                      exact sm_zret rfl (by decide +kernel) (by decide) (fun h => hRET _ (o41 _ h))
                    · refine sm_pick [0, 1, 2, 3] (l' := [(1, vr (some (gT g u1))), (3, vi u3), (4, vi w4), (6, vi v11)]) rfl ?_
                      exact sm_leaf (fun h => j40 _ h)
                    refine sm_icmp_lt (off := 11) (tgt := 231) h43 (by decide) (by decide +kernel) (fun c48 => ?_) (fun c48 => ?_)
                    · exact p46 (Or.inl c48)
                    · refine sm_b (l' := [(1, vr (some (gT g u1))), (3, vi u3), (4, vi w4), (6, vi v11), (7, vi v26)]) (st' := [vi v26]) (pc' := 225) [(.iload 7, vi 0, 225)] (by decide +kernel) rfl rfl ?_
                      refine sm_ldcw (x := 1114111) (by decide) (by decide +kernel) q1800 ?_
                      refine sm_icmp_le (off := 5) (tgt := 233) h43 (by decide) (by decide +kernel) (fun c49 => ?_) (fun c49 => ?_)
                      · exact n47 (fun q => q.elim c48 (fun q => q c49))
                      · exact p46 (Or.inr c49)
                  · refine sm_pick [0, 1, 2, 3] (l' := [(1, vr (some (gT g u1))), (3, vi u3), (4, vi w4), (6, vi v11)]) rfl ?_
                    exact sm_leaf (fun h => j40 _ h)
                  refine sm_icmp_ne (off := 21) (tgt := 233) h15 (by decide) (by decide +kernel) (fun c53 => ?_) (fun c53 => ?_)
                  · exact n52 c53
                  · exact p51 c53
              · refine sm_case (V g mX4_isText d 185 [(1, vr (some (gT g u1))), (3, vi u3), (4, vi w4), (6, vi v11), (7, vi v26)] [] σ τ Q) (V g mX4_isText d 209 [(1, vr (some (gT g u1))), (3, vi u3), (4, vi w4), (6, vi v11), (7, vi v26)] [] σ τ Q) ?_ ?_ (fun f66 p67 n68 => ?_)
                · refine sm_b (l' := [(1, vr (some (gT g u1))), (3, vi u3), (4, vi w4), (6, vi v11), (7, vi v26)]) (st' := [vi 2048, vi v26]) (pc' := 190) [(.iload 7, vi 0, 187), (.sipush 2048, vi 2048, 190)] (by decide +kernel) rfl rfl ?_
                  refine sm_gd (fun h54 => ?_)
                  refine sm_case (V g mX4_isText d 231 [(1, vr (some (gT g u1))), (3, vi u3), (4, vi w4), (6, vi v11), (7, vi v26)] [] σ τ Q) (V g mX4_isText d 193 [(1, vr (some (gT g u1))), (3, vi u3), (4, vi w4), (6, vi v11), (7, vi v26)] [] σ τ Q) ?_ ?_ (fun f62 p63 n64 => ?_)
                  · refine sm_b (l' := [(1, vr (some (gT g u1))), (3, vi u3), (4, vi w4), (6, vi v11), (7, vi v26)]) (st' := [vi 0]) (pc' := 232) [(.iconst 0, vi 0, 232)] (by decide +kernel) rfl rfl ?_
                    exact sm_zret rfl (by decide +kernel) (by decide) (fun h => hRET _ (o35 _ h))
                  · refine sm_b (l' := [(1, vr (some (gT g u1))), (3, vi u3), (4, vi w4), (6, vi v11), (7, vi v26)]) (st' := [vi v26]) (pc' := 195) [(.iload 7, vi 0, 195)] (by decide +kernel) rfl rfl ?_
                    refine sm_ldcw (x := 55296) (by decide) (by decide +kernel) q1797 ?_
                    refine sm_case (V g mX4_isText d 209 [(1, vr (some (gT g u1))), (3, vi u3), (4, vi w4), (6, vi v11), (7, vi v26)] [] σ τ Q) (V g mX4_isText d 231 [(1, vr (some (gT g u1))), (3, vi u3), (4, vi w4), (6, vi v11), (7, vi v26)] [] σ τ Q) ?_ ?_ (fun f57 p58 n59 => ?_)
                    · exact sm_leaf (fun h => j34 _ h)
                    · refine sm_b (l' := [(1, vr (some (gT g u1))), (3, vi u3), (4, vi w4), (6, vi v11), (7, vi v26)]) (st' := [vi 0]) (pc' := 232) [(.iconst 0, vi 0, 232)] (by decide +kernel) rfl rfl ?_
                      exact sm_zret rfl (by decide +kernel) (by decide) (fun h => hRET _ (o35 _ h))
                    refine sm_icmp_lt (off := 11) (tgt := 209) h54 (by decide) (by decide +kernel) (fun c60 => ?_) (fun c60 => ?_)
                    · exact p58 (Or.inl c60)
                    · refine sm_b (l' := [(1, vr (some (gT g u1))), (3, vi u3), (4, vi w4), (6, vi v11), (7, vi v26)]) (st' := [vi v26]) (pc' := 203) [(.iload 7, vi 0, 203)] (by decide +kernel) rfl rfl ?_
                      refine sm_ldcw (x := 57344) (by decide) (by decide +kernel) q1798 ?_
                      refine sm_icmp_lt (off := 25) (tgt := 231) h54 (by decide) (by decide +kernel) (fun c61 => ?_) (fun c61 => ?_)
                      · exact n59 (fun q => q.elim c60 (fun q => q c61))
                      · exact p58 (Or.inr c61)
                  refine sm_icmp_lt (off := 41) (tgt := 231) h54 (by decide) (by decide +kernel) (fun c65 => ?_) (fun c65 => ?_)
                  · exact p63 c65
                  · exact n64 c65
                · exact sm_leaf (fun h => j34 _ h)
                refine sm_icmp_ne (off := 27) (tgt := 209) h15 (by decide) (by decide +kernel) (fun c69 => ?_) (fun c69 => ?_)
                · exact n68 c69
                · exact p67 c69
            · exact m_isText_L133_ok G d hd1 u1 u3 w4 v11 τ hln hkd (fun r h => hRET _ (o29 _ h)) (fun _ h => j28 _ h) FU v22 1
          · refine sm_case (V g mX4_isText d 112 [(1, vr (some (gT g u1))), (3, vi u3), (4, vi w4), (5, vi x7), (6, vi v11)] [] σ τ Q) (V g mX4_isText d 117 [(1, vr (some (gT g u1))), (3, vi u3), (4, vi w4), (5, vi x7), (6, vi v11)] [] σ τ Q) ?_ ?_ (fun f91 p92 n93 => ?_)
            · refine sm_b (l' := [(1, vr (some (gT g u1))), (3, vi u3), (4, vi w4), (5, vi x7), (6, vi v11)]) (st' := [vi x7]) (pc' := 128) [(.iload 5, vi 0, 114), (.goto 14, vi 0, 128)] (by decide +kernel) rfl rfl ?_
              refine sm_pick [0, 1, 2, 4] (l' := [(1, vr (some (gT g u1))), (3, vi u3), (4, vi w4), (6, vi v11)]) rfl ?_
              exact sm_leaf (fun h => j24 _ h)
            · refine sm_b (l' := [(1, vr (some (gT g u1))), (3, vi u3), (4, vi w4), (5, vi x7), (6, vi v11)]) (st' := [vi (iAnd x7 (iShr 255 (v11 + 1)))]) (pc' := 128) [(.iload 5, vi 0, 119), (.sipush 255, vi 255, 122), (.iload 6, vi 0, 124), (.iconst 1, vi 1, 125), (.iadd, vi 0, 126), (.ishr, vi 0, 127), (.iand, vi 0, 128)] (by decide +kernel) rfl rfl ?_
              refine sm_pick [0, 1, 2, 4] (l' := [(1, vr (some (gT g u1))), (3, vi u3), (4, vi w4), (6, vi v11)]) rfl ?_
              exact sm_leaf (fun h => j24 _ h)
            refine sm_icmp_ne (off := 8) (tgt := 117) h15 (by decide) (by decide +kernel) (fun c94 => ?_) (fun c94 => ?_)
            · exact n93 c94
            · exact p92 c94
        refine sm_if_eq (off := 12) (tgt := 104) h15 (by decide +kernel) (fun c98 => ?_) (fun c98 => ?_)
        · exact p96 (Or.inl c98)
        · have w16 : ¬ (v11 = 0) := c98
          refine sm_b (l' := [(1, vr (some (gT g u1))), (3, vi u3), (4, vi w4), (5, vi x7), (6, vi v11)]) (st' := [vi u3, vi (w4 + v11)]) (pc' := 101) [(.iload 4, vi 0, 97), (.iload 6, vi 0, 99), (.iadd, vi 0, 100), (.iload_n 3, vi 0, 101)] (by decide +kernel) rfl rfl ?_
          refine sm_icmp_le (off := 5) (tgt := 106) (h17 w16) h2 (by decide +kernel) (fun c99 => ?_) (fun c99 => ?_)
          · exact n97 (fun q => q.elim c98 (fun q => q c99))
          · exact p96 (Or.inr c99)
      · refine sm_gd (fun h8 => ?_)
        refine sm_case (V g mX4_isText d 27 [(1, vr (some (gT g u1))), (3, vi u3), (4, vi w4), (5, vi x7)] [] σ τ Q) (V g mX4_isText d 23 [(1, vr (some (gT g u1))), (3, vi u3), (4, vi w4), (5, vi x7)] [] σ τ Q) ?_ ?_ (fun f124 p125 n126 => ?_)
        · refine sm_b (l' := [(1, vr (some (gT g u1))), (3, vi u3), (4, vi w4), (5, vi x7)]) (st' := [vi 194, vi x7]) (pc' := 32) [(.iload 5, vi 0, 29), (.sipush 194, vi 194, 32)] (by decide +kernel) rfl rfl ?_
          refine sm_case (V g mX4_isText d 47 [(1, vr (some (gT g u1))), (3, vi u3), (4, vi w4), (5, vi x7)] [] σ τ Q) (V g mX4_isText d 43 [(1, vr (some (gT g u1))), (3, vi u3), (4, vi w4), (5, vi x7)] [] σ τ Q) ?_ ?_ (fun f119 p120 n121 => ?_)
          · refine sm_b (l' := [(1, vr (some (gT g u1))), (3, vi u3), (4, vi w4), (5, vi x7)]) (st' := [vi 224, vi x7]) (pc' := 52) [(.iload 5, vi 0, 49), (.sipush 224, vi 224, 52)] (by decide +kernel) rfl rfl ?_
            refine sm_case (V g mX4_isText d 67 [(1, vr (some (gT g u1))), (3, vi u3), (4, vi w4), (5, vi x7)] [] σ τ Q) (V g mX4_isText d 63 [(1, vr (some (gT g u1))), (3, vi u3), (4, vi w4), (5, vi x7)] [] σ τ Q) ?_ ?_ (fun f114 p115 n116 => ?_)
            · refine sm_b (l' := [(1, vr (some (gT g u1))), (3, vi u3), (4, vi w4), (5, vi x7)]) (st' := [vi 240, vi x7]) (pc' := 72) [(.iload 5, vi 0, 69), (.sipush 240, vi 240, 72)] (by decide +kernel) rfl rfl ?_
              refine sm_case (V g mX4_isText d 87 [(1, vr (some (gT g u1))), (3, vi u3), (4, vi w4), (5, vi x7)] [] σ τ Q) (V g mX4_isText d 83 [(1, vr (some (gT g u1))), (3, vi u3), (4, vi w4), (5, vi x7)] [] σ τ Q) ?_ ?_ (fun f109 p110 n111 => ?_)
              · refine sm_b (l' := [(1, vr (some (gT g u1))), (3, vi u3), (4, vi w4), (5, vi x7)]) (st' := [vi 0]) (pc' := 88) [(.iconst 0, vi 0, 88)] (by decide +kernel) rfl rfl ?_
                exact sm_leaf (fun h => j13 _ h)
              · refine sm_b (l' := [(1, vr (some (gT g u1))), (3, vi u3), (4, vi w4), (5, vi x7)]) (st' := [vi 4]) (pc' := 88) [(.iconst 4, vi 4, 84), (.goto 4, vi 0, 88)] (by decide +kernel) rfl rfl ?_
                exact sm_leaf (fun h => j13 _ h)
              refine sm_icmp_lt (off := 15) (tgt := 87) h8 (by decide) (by decide +kernel) (fun c112 => ?_) (fun c112 => ?_)
              · exact p110 (Or.inl c112)
              · refine sm_b (l' := [(1, vr (some (gT g u1))), (3, vi u3), (4, vi w4), (5, vi x7)]) (st' := [vi 245, vi x7]) (pc' := 80) [(.iload 5, vi 0, 77), (.sipush 245, vi 245, 80)] (by decide +kernel) rfl rfl ?_
                refine sm_icmp_ge (off := 7) (tgt := 87) h8 (by decide) (by decide +kernel) (fun c113 => ?_) (fun c113 => ?_)
                · exact p110 (Or.inr c113)
                · exact n111 (fun q => q.elim c112 c113)
            · refine sm_b (l' := [(1, vr (some (gT g u1))), (3, vi u3), (4, vi w4), (5, vi x7)]) (st' := [vi 3]) (pc' := 88) [(.iconst 3, vi 3, 64), (.goto 24, vi 0, 88)] (by decide +kernel) rfl rfl ?_
              exact sm_leaf (fun h => j13 _ h)
            refine sm_icmp_lt (off := 15) (tgt := 67) h8 (by decide) (by decide +kernel) (fun c117 => ?_) (fun c117 => ?_)
            · exact p115 (Or.inl c117)
            · refine sm_b (l' := [(1, vr (some (gT g u1))), (3, vi u3), (4, vi w4), (5, vi x7)]) (st' := [vi 240, vi x7]) (pc' := 60) [(.iload 5, vi 0, 57), (.sipush 240, vi 240, 60)] (by decide +kernel) rfl rfl ?_
              refine sm_icmp_ge (off := 7) (tgt := 67) h8 (by decide) (by decide +kernel) (fun c118 => ?_) (fun c118 => ?_)
              · exact p115 (Or.inr c118)
              · exact n116 (fun q => q.elim c117 c118)
          · refine sm_b (l' := [(1, vr (some (gT g u1))), (3, vi u3), (4, vi w4), (5, vi x7)]) (st' := [vi 2]) (pc' := 88) [(.iconst 2, vi 2, 44), (.goto 44, vi 0, 88)] (by decide +kernel) rfl rfl ?_
            exact sm_leaf (fun h => j13 _ h)
          refine sm_icmp_lt (off := 15) (tgt := 47) h8 (by decide) (by decide +kernel) (fun c122 => ?_) (fun c122 => ?_)
          · exact p120 (Or.inl c122)
          · refine sm_b (l' := [(1, vr (some (gT g u1))), (3, vi u3), (4, vi w4), (5, vi x7)]) (st' := [vi 224, vi x7]) (pc' := 40) [(.iload 5, vi 0, 37), (.sipush 224, vi 224, 40)] (by decide +kernel) rfl rfl ?_
            refine sm_icmp_ge (off := 7) (tgt := 47) h8 (by decide) (by decide +kernel) (fun c123 => ?_) (fun c123 => ?_)
            · exact p120 (Or.inr c123)
            · exact n121 (fun q => q.elim c122 c123)
        · refine sm_b (l' := [(1, vr (some (gT g u1))), (3, vi u3), (4, vi w4), (5, vi x7)]) (st' := [vi 1]) (pc' := 88) [(.iconst 1, vi 1, 24), (.goto 64, vi 0, 88)] (by decide +kernel) rfl rfl ?_
          exact sm_leaf (fun h => j13 _ h)
        refine sm_icmp_ge (off := 7) (tgt := 27) h8 (by decide) (by decide +kernel) (fun c127 => ?_) (fun c127 => ?_)
        · exact p125 c127
        · exact n126 c127
    refine sm_icmp_ge (off := 237) (tgt := 243) h1 h2 (by decide +kernel) (fun c131 => ?_) (fun c131 => ?_)
    · exact p129 c131
    · exact n130 c131
set_option maxHeartbeats 4000000 in
theorem m_isText_ok {g : GE} (G : GG g) {σ : ST} (d : Nat) (hd1 : 1 ≤ d) (a1 : Nat) (a2 : Int) (a3 : Int) (hln : tln a1 ≠ 0) (hkd : tkd a1 = 1) (τ : TT) (Q : VQ) : Sm (V g mX4_isText d 0 [(0, vr (some (gw g))), (1, vr (some (gT g a1))), (2, vi a2), (3, vi a3)] [] σ τ Q) (m_isText a1 a2 a3 τ) (fun r => Q.1 (some (vi r)) σ τ) := by
  unfold m_isText
  refine sm_top (fun K hRET => ?_)
  refine sm_b (l' := [(0, vr (some (gw g))), (1, vr (some (gT g a1))), (2, vi a2), (3, vi a3), (4, vi a2)]) (st' := []) (pc' := 3) [(.iload_n 2, vi 0, 1), (.istore 4, vi 0, 3)] (by decide +kernel) rfl rfl ?_
  refine sm_pick [1, 3, 4] (l' := [(1, vr (some (gT g a1))), (3, vi a3), (4, vi a2)]) rfl ?_
  exact m_isText_L3_ok G d hd1 a1 a3 τ hln hkd (fun r h => hRET _ h) FU a2
def m_takeNumber_L61 (u3 : Int) : Nat → Int → TT → Option (TT)
  | 0, _, _ => none
  | n + 1, w4, τ => gd (rg w4) (if w4 < 0 then (some τ) else (gd (ib ((tI τ 46) + w4) 1000) (nm (uJ τ 47 ((lShl (tJ τ 47) 8) ||| (iL (tA τ 2 ((tI τ 46) + w4).toNat)))) fun τ32 => m_takeNumber_L61 u3 n (w4 + (-1)) τ32)))
def m_takeNumber (a1 : Int) (a2 : Int) (τ : TT) : Option (Int × TT) := Option.bind (m_ownKind a1 τ) fun y1 => Option.bind (gd (rg y1) (if y1 = 1 then (some 8) else (Option.bind (m_ownKind a1 τ) fun y45 => gd (rg y45) (if y45 = 5 then (some 4) else (some 0))))) fun (v7 : Int) => gd (rg v7) (if v7 = 0 then (Option.bind (m_takeVarint a2 τ) fun y15 => gd (zb y15.1) (some ((y15.1, y15.2)))) else (gd (rg (a2 - (tI τ 46))) (if v7 ≤ (a2 - (tI τ 46)) then (nm (uJ τ 47 0) fun τ20 => nm (v7 - 1) fun x21 => Option.bind (m_takeNumber_L61 v7 FU x21 τ20) fun (v22 : TT) => nm (uI v22 46 ((tI v22 46) + v7)) fun τ26 => some ((1, τ26))) else (some ((0, τ))))))
set_option maxHeartbeats 4000000 in
theorem m_takeNumber_L61_ok {g : GE} (G : GG g) {σ : ST} {Q : VQ} (d : Nat) (hd1 : 1 ≤ d) (u3 : Int)  {K : TT → Prop} (hE97 : ∀ v27 : TT, K (v27) → V g mX4_takeNumber d 97 [(0, vr (some (gw g))), (3, vi u3)] [] σ v27 Q) : ∀ (n : Nat) (w4 : Int) (τ : TT), Sm (V g mX4_takeNumber d 61 [(0, vr (some (gw g))), (3, vi u3), (4, vi w4)] [] σ τ Q) (m_takeNumber_L61 u3 n w4 τ) K := by
  intro n
  induction n with
  | zero => intro w4 τ; exact sm_none
  | succ n ih =>
    intro w4 τ
    rw [m_takeNumber_L61.eq_2]
    refine sm_b (l' := [(0, vr (some (gw g))), (3, vi u3), (4, vi w4)]) (st' := [vi w4]) (pc' := 63) [(.iload 4, vi 0, 63)] (by decide +kernel) rfl rfl ?_
    refine sm_gd (fun h28 => ?_)
    refine sm_case (V g mX4_takeNumber d 97 [(0, vr (some (gw g))), (3, vi u3), (4, vi w4)] [] σ τ Q) (V g mX4_takeNumber d 66 [(0, vr (some (gw g))), (3, vi u3), (4, vi w4)] [] σ τ Q) ?_ ?_ (fun f33 p34 n35 => ?_)
    · refine sm_pick [0, 1] (l' := [(0, vr (some (gw g))), (3, vi u3)]) rfl ?_
      exact sm_leaf (fun h => hE97 _ h)
    · refine sm_b (l' := [(0, vr (some (gw g))), (3, vi u3), (4, vi w4)]) (st' := [vr (some (gw g)), vr (some (gw g))]) (pc' := 68) [(.aload_n 0, vi 0, 67), (.aload_n 0, vi 0, 68)] (by decide +kernel) rfl rfl ?_
      refine sm_tg (k := 47) (x := vl (tJ τ 47)) G.2.1 q1465 rfl rfl (by decide +kernel) ?_
      refine sm_b (l' := [(0, vr (some (gw g))), (3, vi u3), (4, vi w4)]) (st' := [vr (some (gw g)), vl (lShl (tJ τ 47) 8), vr (some (gw g))]) (pc' := 75) [(.bipush 8, vi 8, 73), (.lshl, vi 0, 74), (.aload_n 0, vi 0, 75)] (by decide +kernel) rfl rfl ?_
      refine sm_tg (k := 2) (x := vr (some (gT g 2))) G.2.1 q1420 rfl rfl (by decide +kernel) ?_
      refine sm_b (l' := [(0, vr (some (gw g))), (3, vi u3), (4, vi w4)]) (st' := [vr (some (gw g)), vr (some (gT g 2)), vl (lShl (tJ τ 47) 8), vr (some (gw g))]) (pc' := 79) [(.aload_n 0, vi 0, 79)] (by decide +kernel) rfl rfl ?_
      refine sm_tg (k := 46) (x := vi (tI τ 46)) G.2.1 q1464 rfl rfl (by decide +kernel) ?_
      refine sm_b (l' := [(0, vr (some (gw g))), (3, vi u3), (4, vi w4)]) (st' := [vi ((tI τ 46) + w4), vr (some (gT g 2)), vl (lShl (tJ τ 47) 8), vr (some (gw g))]) (pc' := 85) [(.iload 4, vi 0, 84), (.iadd, vi 0, 85)] (by decide +kernel) rfl rfl ?_
      refine sm_gd (fun h31 => ?_)
      refine sm_ial (k := 2) G.2.1 (by decide) rfl (ibt (k := 2) h31) h31 (by decide +kernel) ?_
      refine sm_b (l' := [(0, vr (some (gw g))), (3, vi u3), (4, vi w4)]) (st' := [vl ((lShl (tJ τ 47) 8) ||| (iL (tA τ 2 ((tI τ 46) + w4).toNat))), vr (some (gw g))]) (pc' := 88) [(.i2l, vi 0, 87), (.lor, vi 0, 88)] (by decide +kernel) rfl rfl ?_
      refine sm_tpj (k := 47) G.2.1 q1465 rfl rfl rfl (tp_47 g τ ((lShl (tJ τ 47) 8) ||| (iL (tA τ 2 ((tI τ 46) + w4).toNat)))) (by decide +kernel) ?_
      refine sm_nmt (fun τ32 => ?_)
      refine sm_b (l' := [(0, vr (some (gw g))), (3, vi u3), (4, vi (w4 + (-1)))]) (st' := []) (pc' := 61) [(.iinc 4 (-1), vi (-1), 94), (.goto (-33), vi 0, 61)] (by decide +kernel) rfl rfl ?_
      exact ih (w4 + (-1)) τ32
    refine sm_if_lt (off := 34) (tgt := 97) h28 (by decide +kernel) (fun c36 => ?_) (fun c36 => ?_)
    · exact p34 c36
    · exact n35 c36
set_option maxHeartbeats 4000000 in
theorem m_takeNumber_ok {g : GE} (G : GG g) {σ : ST} (d : Nat) (hd1 : 1 ≤ d) (a1 : Int) (a2 : Int)  (τ : TT) (Q : VQ) : Sm (V g mX4_takeNumber d 0 [(0, vr (some (gw g))), (1, vi a1), (2, vi a2)] [] σ τ Q) (m_takeNumber a1 a2 τ) (fun r => Q.1 (some (vi r.1)) σ r.2) := by
  unfold m_takeNumber
  refine sm_top (fun K hRET => ?_)
  refine sm_b (l' := [(0, vr (some (gw g))), (1, vi a1), (2, vi a2)]) (st' := [vi a1, vr (some (gw g))]) (pc' := 2) [(.aload_n 0, vi 0, 1), (.iload_n 1, vi 0, 2)] (by decide +kernel) rfl rfl ?_
  refine sm_cv (N := mX4_ownKind) (d' := d - 1) (fun r => (some (vi r))) (fun _ => σ) (fun _ => τ) [vi a1] [] rfl (by decide +kernel) q1782 q1784 qs79 (Or.inl ⟨rfl, q1785⟩) (show okN yX4_ownKind 1 = true by decide +kernel) (fun H hR => hR.rvw G.1 G.2.1) rfl rfl (by omega) rfl (fun Q' => m_ownKind_ok G (d - 1) (by omega) a1 τ Q') (fun y1 => ?_)
  refine sm_b (l' := [(0, vr (some (gw g))), (1, vi a1), (2, vi a2)]) (st' := [vi 1, vi y1]) (pc' := 6) [(.iconst 1, vi 1, 6)] (by decide +kernel) rfl rfl ?_
  refine sm_bind1 (fun (v7 : Int) => V g mX4_takeNumber d 28 [(0, vr (some (gw g))), (2, vi a2)] [vi v7] σ τ Q) (fun v7 => ?_) (fun K8 j9 => ?_)
  · refine sm_b (l' := [(0, vr (some (gw g))), (2, vi a2), (3, vi v7)]) (st' := [vi v7]) (pc' := 30) [(.istore_n 3, vi 0, 29), (.iload_n 3, vi 0, 30)] (by decide +kernel) rfl rfl ?_
    refine sm_gd (fun h11 => ?_)
    refine sm_case (V g mX4_takeNumber d 33 [(0, vr (some (gw g))), (2, vi a2), (3, vi v7)] [] σ τ Q) (V g mX4_takeNumber d 39 [(0, vr (some (gw g))), (2, vi a2), (3, vi v7)] [] σ τ Q) ?_ ?_ (fun f41 p42 n43 => ?_)
    · refine sm_b (l' := [(0, vr (some (gw g))), (2, vi a2), (3, vi v7)]) (st' := [vi a2, vr (some (gw g))]) (pc' := 35) [(.aload_n 0, vi 0, 34), (.iload_n 2, vi 0, 35)] (by decide +kernel) rfl rfl ?_
      refine sm_cv (N := mX4_takeVarint) (d' := d - 1) (fun r => (some (vi r.1))) (fun _ => σ) (fun r => r.2) [vi a2] [] rfl (by decide +kernel) q1768 q1770 qs76 (Or.inl ⟨rfl, q1771⟩) (show okN yX4_takeVarint 1 = true by decide +kernel) (fun H hR => hR.rvw G.1 G.2.1) rfl rfl (by omega) rfl (fun Q' => m_takeVarint_ok G (d - 1) (by omega) a2 τ Q') (fun y15 => ?_)
      refine sm_gd (fun h16 => ?_)
      exact sm_zret rfl (by decide +kernel) h16 (fun h => hRET _ h)
    · refine sm_b (l' := [(0, vr (some (gw g))), (2, vi a2), (3, vi v7)]) (st' := [vr (some (gw g)), vi a2, vi v7]) (pc' := 42) [(.iload_n 3, vi 0, 40), (.iload_n 2, vi 0, 41), (.aload_n 0, vi 0, 42)] (by decide +kernel) rfl rfl ?_
      refine sm_tg (k := 46) (x := vi (tI τ 46)) G.2.1 q1464 rfl rfl (by decide +kernel) ?_
      refine sm_b (l' := [(0, vr (some (gw g))), (2, vi a2), (3, vi v7)]) (st' := [vi (a2 - (tI τ 46)), vi v7]) (pc' := 46) [(.isub, vi 0, 46)] (by decide +kernel) rfl rfl ?_
      refine sm_gd (fun h17 => ?_)
      refine sm_case (V g mX4_takeNumber d 51 [(0, vr (some (gw g))), (2, vi a2), (3, vi v7)] [] σ τ Q) (V g mX4_takeNumber d 49 [(0, vr (some (gw g))), (2, vi a2), (3, vi v7)] [] σ τ Q) ?_ ?_ (fun f37 p38 n39 => ?_)
      · refine sm_b (l' := [(0, vr (some (gw g))), (2, vi a2), (3, vi v7)]) (st' := [vl 0, vr (some (gw g))]) (pc' := 53) [(.aload_n 0, vi 0, 52), (.lconst 0, vl 0, 53)] (by decide +kernel) rfl rfl ?_
        refine sm_tpj (k := 47) G.2.1 q1465 rfl rfl rfl (tp_47 g τ 0) (by decide +kernel) ?_
        refine sm_nmt (fun τ20 => ?_)
        refine sm_b (l' := [(0, vr (some (gw g))), (2, vi a2), (3, vi v7)]) (st' := [vi (v7 - 1)]) (pc' := 59) [(.iload_n 3, vi 0, 57), (.iconst 1, vi 1, 58), (.isub, vi 0, 59)] (by decide +kernel) rfl rfl ?_
        refine sm_nmi (fun x21 => ?_)
        refine sm_b (l' := [(0, vr (some (gw g))), (2, vi a2), (3, vi v7), (4, vi x21)]) (st' := []) (pc' := 61) [(.istore 4, vi 0, 61)] (by decide +kernel) rfl rfl ?_
        refine sm_bind1 (fun (v22 : TT) => V g mX4_takeNumber d 97 [(0, vr (some (gw g))), (3, vi v7)] [] σ v22 Q) (fun v22 => ?_) (fun K23 j24 => ?_)
        · refine sm_b (l' := [(0, vr (some (gw g))), (3, vi v7)]) (st' := [vr (some (gw g)), vr (some (gw g))]) (pc' := 99) [(.aload_n 0, vi 0, 98), (.dup, vi 0, 99)] (by decide +kernel) rfl rfl ?_
          refine sm_tg (k := 46) (x := vi (tI v22 46)) G.2.1 q1464 rfl rfl (by decide +kernel) ?_
          refine sm_b (l' := [(0, vr (some (gw g))), (3, vi v7)]) (st' := [vi ((tI v22 46) + v7), vr (some (gw g))]) (pc' := 104) [(.iload_n 3, vi 0, 103), (.iadd, vi 0, 104)] (by decide +kernel) rfl rfl ?_
          refine sm_tpi (k := 46) G.2.1 q1464 rfl rfl rfl (tp_46 g v22 ((tI v22 46) + v7)) (by decide +kernel) ?_
          refine sm_nmt (fun τ26 => ?_)
          refine sm_b (l' := [(0, vr (some (gw g))), (3, vi v7)]) (st' := [vi 1]) (pc' := 108) [(.iconst 1, vi 1, 108)] (by decide +kernel) rfl rfl ?_
          exact sm_zret rfl (by decide +kernel) (by decide) (fun h => hRET _ h)
        · refine sm_pick [0, 2, 3] (l' := [(0, vr (some (gw g))), (3, vi v7), (4, vi x21)]) rfl ?_
          exact m_takeNumber_L61_ok G d hd1 v7  (fun _ h => j24 _ h) FU x21 τ20
      · refine sm_b (l' := [(0, vr (some (gw g))), (2, vi a2), (3, vi v7)]) (st' := [vi 0]) (pc' := 50) [(.iconst 0, vi 0, 50)] (by decide +kernel) rfl rfl ?_
        exact sm_zret rfl (by decide +kernel) (by decide) (fun h => hRET _ h)
      refine sm_icmp_le (off := 5) (tgt := 51) h11 h17 (by decide +kernel) (fun c40 => ?_) (fun c40 => ?_)
      · exact p38 c40
      · exact n39 c40
    refine sm_if_ne (off := 9) (tgt := 39) h11 (by decide +kernel) (fun c44 => ?_) (fun c44 => ?_)
    · exact n43 c44
    · exact p42 c44
  · refine sm_gd (fun h2 => ?_)
    refine sm_case (V g mX4_takeNumber d 9 [(0, vr (some (gw g))), (1, vi a1), (2, vi a2)] [] σ τ Q) (V g mX4_takeNumber d 14 [(0, vr (some (gw g))), (1, vi a1), (2, vi a2)] [] σ τ Q) ?_ ?_ (fun f53 p54 n55 => ?_)
    · refine sm_b (l' := [(0, vr (some (gw g))), (1, vi a1), (2, vi a2)]) (st' := [vi 8]) (pc' := 28) [(.bipush 8, vi 8, 11), (.goto 17, vi 0, 28)] (by decide +kernel) rfl rfl ?_
      refine sm_pick [0, 2] (l' := [(0, vr (some (gw g))), (2, vi a2)]) rfl ?_
      exact sm_leaf (fun h => j9 _ h)
    · refine sm_b (l' := [(0, vr (some (gw g))), (1, vi a1), (2, vi a2)]) (st' := [vi a1, vr (some (gw g))]) (pc' := 16) [(.aload_n 0, vi 0, 15), (.iload_n 1, vi 0, 16)] (by decide +kernel) rfl rfl ?_
      refine sm_cv (N := mX4_ownKind) (d' := d - 1) (fun r => (some (vi r))) (fun _ => σ) (fun _ => τ) [vi a1] [] rfl (by decide +kernel) q1782 q1784 qs79 (Or.inl ⟨rfl, q1785⟩) (show okN yX4_ownKind 1 = true by decide +kernel) (fun H hR => hR.rvw G.1 G.2.1) rfl rfl (by omega) rfl (fun Q' => m_ownKind_ok G (d - 1) (by omega) a1 τ Q') (fun y45 => ?_)
      refine sm_b (l' := [(0, vr (some (gw g))), (1, vi a1), (2, vi a2)]) (st' := [vi 5, vi y45]) (pc' := 20) [(.iconst 5, vi 5, 20)] (by decide +kernel) rfl rfl ?_
      refine sm_gd (fun h46 => ?_)
      refine sm_case (V g mX4_takeNumber d 23 [(0, vr (some (gw g))), (1, vi a1), (2, vi a2)] [] σ τ Q) (V g mX4_takeNumber d 27 [(0, vr (some (gw g))), (1, vi a1), (2, vi a2)] [] σ τ Q) ?_ ?_ (fun f49 p50 n51 => ?_)
      · refine sm_b (l' := [(0, vr (some (gw g))), (1, vi a1), (2, vi a2)]) (st' := [vi 4]) (pc' := 28) [(.iconst 4, vi 4, 24), (.goto 4, vi 0, 28)] (by decide +kernel) rfl rfl ?_
        refine sm_pick [0, 2] (l' := [(0, vr (some (gw g))), (2, vi a2)]) rfl ?_
        exact sm_leaf (fun h => j9 _ h)
      · refine sm_b (l' := [(0, vr (some (gw g))), (1, vi a1), (2, vi a2)]) (st' := [vi 0]) (pc' := 28) [(.iconst 0, vi 0, 28)] (by decide +kernel) rfl rfl ?_
        refine sm_pick [0, 2] (l' := [(0, vr (some (gw g))), (2, vi a2)]) rfl ?_
        exact sm_leaf (fun h => j9 _ h)
      refine sm_icmp_ne (off := 7) (tgt := 27) h46 (by decide) (by decide +kernel) (fun c52 => ?_) (fun c52 => ?_)
      · exact n51 c52
      · exact p50 c52
    refine sm_icmp_ne (off := 8) (tgt := 14) h2 (by decide) (by decide +kernel) (fun c56 => ?_) (fun c56 => ?_)
    · exact n55 c56
    · exact p54 c56
def m_arePacked_L5 (u1 : Int) (u3 : Int) : Nat → TT → Option (Int × TT)
  | 0, _ => none
  | n + 1, τ => gd (rg (tI τ 46)) (gd (rg u3) (if u3 ≤ (tI τ 46) then (some ((1, τ))) else (Option.bind (m_takeNumber u1 u3 τ) fun y6 => gd (rg y6.1) (if y6.1 = 0 then (some ((0, y6.2))) else (m_arePacked_L5 u1 u3 n y6.2)))))
def m_arePacked (a1 : Int) (a2 : Int) (a3 : Int) (τ : TT) : Option (Int × TT) := nm (uI τ 46 a2) fun τ1 => m_arePacked_L5 a1 a3 FU τ1
set_option maxHeartbeats 4000000 in
theorem m_arePacked_L5_ok {g : GE} (G : GG g) {σ : ST} {Q : VQ} (d : Nat) (hd1 : 2 ≤ d) (u1 : Int) (u3 : Int)  {K : Int × TT → Prop} (hRET : ∀ r : Int × TT, K (r) → Q.1 (some (vi r.1)) σ r.2) : ∀ (n : Nat) (τ : TT), Sm (V g mX4_arePacked d 5 [(0, vr (some (gw g))), (1, vi u1), (3, vi u3)] [] σ τ Q) (m_arePacked_L5 u1 u3 n τ) K := by
  intro n
  induction n with
  | zero => intro τ; exact sm_none
  | succ n ih =>
    intro τ
    rw [m_arePacked_L5.eq_2]
    refine sm_b (l' := [(0, vr (some (gw g))), (1, vi u1), (3, vi u3)]) (st' := [vr (some (gw g))]) (pc' := 6) [(.aload_n 0, vi 0, 6)] (by decide +kernel) rfl rfl ?_
    refine sm_tg (k := 46) (x := vi (tI τ 46)) G.2.1 q1464 rfl rfl (by decide +kernel) ?_
    refine sm_b (l' := [(0, vr (some (gw g))), (1, vi u1), (3, vi u3)]) (st' := [vi u3, vi (tI τ 46)]) (pc' := 10) [(.iload_n 3, vi 0, 10)] (by decide +kernel) rfl rfl ?_
    refine sm_gd (fun h2 => ?_)
    refine sm_gd (fun h3 => ?_)
    refine sm_case (V g mX4_arePacked d 24 [(0, vr (some (gw g))), (1, vi u1), (3, vi u3)] [] σ τ Q) (V g mX4_arePacked d 13 [(0, vr (some (gw g))), (1, vi u1), (3, vi u3)] [] σ τ Q) ?_ ?_ (fun f13 p14 n15 => ?_)
    · refine sm_b (l' := [(0, vr (some (gw g))), (1, vi u1), (3, vi u3)]) (st' := [vi 1]) (pc' := 25) [(.iconst 1, vi 1, 25)] (by decide +kernel) rfl rfl ?_
      exact sm_zret rfl (by decide +kernel) (by decide) (fun h => hRET _ h)
    · refine sm_b (l' := [(0, vr (some (gw g))), (1, vi u1), (3, vi u3)]) (st' := [vi u3, vi u1, vr (some (gw g))]) (pc' := 16) [(.aload_n 0, vi 0, 14), (.iload_n 1, vi 0, 15), (.iload_n 3, vi 0, 16)] (by decide +kernel) rfl rfl ?_
      refine sm_cv (N := mX4_takeNumber) (d' := d - 1) (fun r => (some (vi r.1))) (fun _ => σ) (fun r => r.2) [vi u1, vi u3] [] rfl (by decide +kernel) q1805 q1807 qs83 (Or.inl ⟨rfl, q1808⟩) (show okN yX4_takeNumber 2 = true by decide +kernel) (fun H hR => hR.rvw G.1 G.2.1) rfl rfl (by omega) rfl (fun Q' => m_takeNumber_ok G (d - 1) (by omega) u1 u3 τ Q') (fun y6 => ?_)
      refine sm_gd (fun h7 => ?_)
      refine sm_case (V g mX4_arePacked d 22 [(0, vr (some (gw g))), (1, vi u1), (3, vi u3)] [] σ y6.2 Q) (V g mX4_arePacked d 5 [(0, vr (some (gw g))), (1, vi u1), (3, vi u3)] [] σ y6.2 Q) ?_ ?_ (fun f9 p10 n11 => ?_)
      · refine sm_b (l' := [(0, vr (some (gw g))), (1, vi u1), (3, vi u3)]) (st' := [vi 0]) (pc' := 23) [(.iconst 0, vi 0, 23)] (by decide +kernel) rfl rfl ?_
        exact sm_zret rfl (by decide +kernel) (by decide) (fun h => hRET _ h)
      · exact ih y6.2
      refine sm_if_ne (off := (-14)) (tgt := 5) h7 (by decide +kernel) (fun c12 => ?_) (fun c12 => ?_)
      · exact n11 c12
      · exact p10 c12
    refine sm_icmp_ge (off := 14) (tgt := 24) h2 h3 (by decide +kernel) (fun c16 => ?_) (fun c16 => ?_)
    · exact p14 c16
    · exact n15 c16
set_option maxHeartbeats 4000000 in
theorem m_arePacked_ok {g : GE} (G : GG g) {σ : ST} (d : Nat) (hd1 : 2 ≤ d) (a1 : Int) (a2 : Int) (a3 : Int)  (τ : TT) (Q : VQ) : Sm (V g mX4_arePacked d 0 [(0, vr (some (gw g))), (1, vi a1), (2, vi a2), (3, vi a3)] [] σ τ Q) (m_arePacked a1 a2 a3 τ) (fun r => Q.1 (some (vi r.1)) σ r.2) := by
  unfold m_arePacked
  refine sm_top (fun K hRET => ?_)
  refine sm_b (l' := [(0, vr (some (gw g))), (1, vi a1), (2, vi a2), (3, vi a3)]) (st' := [vi a2, vr (some (gw g))]) (pc' := 2) [(.aload_n 0, vi 0, 1), (.iload_n 2, vi 0, 2)] (by decide +kernel) rfl rfl ?_
  refine sm_tpi (k := 46) G.2.1 q1464 rfl rfl rfl (tp_46 g τ a2) (by decide +kernel) ?_
  refine sm_nmt (fun τ1 => ?_)
  refine sm_pick [0, 1, 3] (l' := [(0, vr (some (gw g))), (1, vi a1), (3, vi a3)]) rfl ?_
  exact m_arePacked_L5_ok G d hd1 a1 a3  (fun r h => hRET _ h) FU τ1
def m_isMessage_L14 (rec : Int → Int → Int → Int → TT → Option (Int × TT)) (u1 : Int) (u3 : Int) (u4 : Int) : Nat → TT → Option (Int × TT)
  | 0, _ => none
  | n + 1, τ => gd (rg (tI τ 46)) (gd (rg u3) (if u3 ≤ (tI τ 46) then (some ((1, τ))) else (Option.bind (m_takeField u3 τ) fun y9 => gd (rg y9.1) (if y9.1 = 0 then (some ((0, y9.2))) else (Option.bind (m_rightField u1 y9.2) fun y14 => nm (tI y9.2 46) fun x15 => nm (tI y9.2 50) fun x16 => nm (tI y9.2 51) fun x17 => gd (rg y14) (gd (¬ (y14 = ((-1))) → ib y14 50) (gd (¬ (y14 = ((-1))) → rg (tA y9.2 28 y14.toNat)) (gd (¬ ((y14 = ((-1))) ∨ (¬ ((tA y9.2 28 y14.toNat) = 9))) → ok (m_isText 2 x16 x17 y9.2)) (gd (¬ ((y14 = ((-1))) ∨ (¬ ((tA y9.2 28 y14.toNat) = 9))) → rg (vv (m_isText 2 x16 x17 y9.2))) (if ((y14 = ((-1))) ∨ (¬ ((tA y9.2 28 y14.toNat) = 9))) ∨ (¬ ((vv (m_isText 2 x16 x17 y9.2)) = 0)) then (Option.bind (gd (¬ (y14 = ((-1))) → ok (m_isPlain y14 y9.2)) (gd (¬ (y14 = ((-1))) → rg (vv (m_isPlain y14 y9.2))) (gd (¬ ((y14 = ((-1))) ∨ ((vv (m_isPlain y14 y9.2)) = 0)) → rg (tI y9.2 49)) (if ((y14 = ((-1))) ∨ ((vv (m_isPlain y14 y9.2)) = 0)) ∨ (¬ ((tI y9.2 49) = 2)) then (some (Sum.inr y9.2)) else (Option.bind (m_arePacked y14 x16 x17 y9.2) fun y64 => gd (rg y64.1) (if y64.1 = 0 then (some (Sum.inl ((0, y64.2)))) else (some (Sum.inr y64.2)))))))) (Sum.elim some fun (v33 : TT) => Option.bind (gd (¬ (y14 = ((-1))) → ib y14 50) (gd (¬ (y14 = ((-1))) → rg (tA v33 28 y14.toNat)) (gd (¬ ((y14 = ((-1))) ∨ ((tA v33 28 y14.toNat) < 16)) → ib y14 50) (gd (¬ ((y14 = ((-1))) ∨ ((tA v33 28 y14.toNat) < 16)) → rg (tA v33 28 y14.toNat)) (if ((y14 = ((-1))) ∨ ((tA v33 28 y14.toNat) < 16)) ∨ (32 ≤ (tA v33 28 y14.toNat)) then (some (Sum.inr v33)) else (gd (ib y14 50) (Option.bind (rec ((tA v33 28 y14.toNat) - 16) x16 x17 (u4 + 1) v33) fun y51 => gd (rg y51.1) (if y51.1 = 0 then (some (Sum.inl ((0, y51.2)))) else (some (Sum.inr y51.2)))))))))) (Sum.elim some fun (v45 : TT) => nm (uI v45 46 x15) fun τ49 => m_isMessage_L14 rec u1 u3 u4 n τ49))) else (some ((0, y9.2)))))))))))))
def m_isMessageb (rec : Int → Int → Int → Int → TT → Option (Int × TT)) (a1 : Int) (a2 : Int) (a3 : Int) (a4 : Int) (τ : TT) : Option (Int × TT) := gd (rg a4) (if a4 ≤ 8 then (nm (uI τ 46 a2) fun τ4 => m_isMessage_L14 rec a1 a3 a4 FU τ4) else (some ((0, τ))))
set_option maxHeartbeats 4000000 in
theorem m_isMessage_L14_ok {g : GE} (G : GG g) {D : Nat} (rec : Int → Int → Int → Int → TT → Option (Int × TT)) (hrec : ∀ (d : Nat), D ≤ d → ∀ {σ : ST} (a1 : Int) (a2 : Int) (a3 : Int) (a4 : Int) (τ : TT) (Q' : VQ), Sm (V g mX4_isMessage d 0 [(0, vr (some (gw g))), (1, vi a1), (2, vi a2), (3, vi a3), (4, vi a4)] [] σ τ Q') (rec a1 a2 a3 a4 τ) (fun r => Q'.1 (some (vi r.1)) σ r.2)) {σ : ST} {Q : VQ} (d : Nat) (hd1 : D + 1 ≤ d) (hd2 : 3 ≤ d) (u1 : Int) (u3 : Int) (u4 : Int)  {K : Int × TT → Prop} (hRET : ∀ r : Int × TT, K (r) → Q.1 (some (vi r.1)) σ r.2) : ∀ (n : Nat) (τ : TT), Sm (V g mX4_isMessage d 14 [(0, vr (some (gw g))), (1, vi u1), (3, vi u3), (4, vi u4)] [] σ τ Q) (m_isMessage_L14 rec u1 u3 u4 n τ) K := by
  intro n
  induction n with
  | zero => intro τ; exact sm_none
  | succ n ih =>
    intro τ
    rw [m_isMessage_L14.eq_2]
    refine sm_b (l' := [(0, vr (some (gw g))), (1, vi u1), (3, vi u3), (4, vi u4)]) (st' := [vr (some (gw g))]) (pc' := 15) [(.aload_n 0, vi 0, 15)] (by decide +kernel) rfl rfl ?_
    refine sm_tg (k := 46) (x := vi (tI τ 46)) G.2.1 q1464 rfl rfl (by decide +kernel) ?_
    refine sm_b (l' := [(0, vr (some (gw g))), (1, vi u1), (3, vi u3), (4, vi u4)]) (st' := [vi u3, vi (tI τ 46)]) (pc' := 19) [(.iload_n 3, vi 0, 19)] (by decide +kernel) rfl rfl ?_
    refine sm_gd (fun h5 => ?_)
    refine sm_gd (fun h6 => ?_)
    refine sm_case (V g mX4_isMessage d 196 [(0, vr (some (gw g))), (1, vi u1), (3, vi u3), (4, vi u4)] [] σ τ Q) (V g mX4_isMessage d 22 [(0, vr (some (gw g))), (1, vi u1), (3, vi u3), (4, vi u4)] [] σ τ Q) ?_ ?_ (fun f87 p88 n89 => ?_)
    · refine sm_b (l' := [(0, vr (some (gw g))), (1, vi u1), (3, vi u3), (4, vi u4)]) (st' := [vi 1]) (pc' := 197) [(.iconst 1, vi 1, 197)] (by decide +kernel) rfl rfl ?_
      exact sm_zret rfl (by decide +kernel) (by decide) (fun h => hRET _ h)
    · refine sm_b (l' := [(0, vr (some (gw g))), (1, vi u1), (3, vi u3), (4, vi u4)]) (st' := [vi u3, vr (some (gw g))]) (pc' := 24) [(.aload_n 0, vi 0, 23), (.iload_n 3, vi 0, 24)] (by decide +kernel) rfl rfl ?_
      refine sm_cv (N := mX4_takeField) (d' := d - 1) (fun r => (some (vi r.1))) (fun _ => σ) (fun r => r.2) [vi u3] [] rfl (by decide +kernel) q1764 q1766 qs75 (Or.inl ⟨rfl, q1767⟩) (show okN yX4_takeField 1 = true by decide +kernel) (fun H hR => hR.rvw G.1 G.2.1) rfl rfl (by omega) rfl (fun Q' => m_takeField_ok G (d - 1) (by omega) u3 τ Q') (fun y9 => ?_)
      refine sm_gd (fun h10 => ?_)
      refine sm_case (V g mX4_isMessage d 30 [(0, vr (some (gw g))), (1, vi u1), (3, vi u3), (4, vi u4)] [] σ y9.2 Q) (V g mX4_isMessage d 32 [(0, vr (some (gw g))), (1, vi u1), (3, vi u3), (4, vi u4)] [] σ y9.2 Q) ?_ ?_ (fun f83 p84 n85 => ?_)
      · refine sm_b (l' := [(0, vr (some (gw g))), (1, vi u1), (3, vi u3), (4, vi u4)]) (st' := [vi 0]) (pc' := 31) [(.iconst 0, vi 0, 31)] (by decide +kernel) rfl rfl ?_
        exact sm_zret rfl (by decide +kernel) (by decide) (fun h => hRET _ h)
      · refine sm_b (l' := [(0, vr (some (gw g))), (1, vi u1), (3, vi u3), (4, vi u4)]) (st' := [vi u1, vr (some (gw g))]) (pc' := 34) [(.aload_n 0, vi 0, 33), (.iload_n 1, vi 0, 34)] (by decide +kernel) rfl rfl ?_
        refine sm_cv (N := mX4_rightField) (d' := d - 1) (fun r => (some (vi r))) (fun _ => σ) (fun _ => y9.2) [vi u1] [] rfl (by decide +kernel) q1774 q1776 qs77 (Or.inl ⟨rfl, q1777⟩) (show okN yX4_rightField 1 = true by decide +kernel) (fun H hR => hR.rvw G.1 G.2.1) rfl rfl (by omega) rfl (fun Q' => m_rightField_ok G (d - 1) (by omega) u1 y9.2 Q') (fun y14 => ?_)
        refine sm_b (l' := [(0, vr (some (gw g))), (1, vi u1), (3, vi u3), (4, vi u4), (5, vi y14)]) (st' := [vr (some (gw g))]) (pc' := 40) [(.istore 5, vi 0, 39), (.aload_n 0, vi 0, 40)] (by decide +kernel) rfl rfl ?_
        refine sm_tg (k := 46) (x := vi (tI y9.2 46)) G.2.1 q1464 rfl rfl (by decide +kernel) ?_
        refine sm_nmi (fun x15 => ?_)
        refine sm_b (l' := [(0, vr (some (gw g))), (1, vi u1), (3, vi u3), (4, vi u4), (5, vi y14), (6, vi x15)]) (st' := [vr (some (gw g))]) (pc' := 46) [(.istore 6, vi 0, 45), (.aload_n 0, vi 0, 46)] (by decide +kernel) rfl rfl ?_
        refine sm_tg (k := 50) (x := vi (tI y9.2 50)) G.2.1 q1468 rfl rfl (by decide +kernel) ?_
        refine sm_nmi (fun x16 => ?_)
        refine sm_b (l' := [(0, vr (some (gw g))), (1, vi u1), (3, vi u3), (4, vi u4), (5, vi y14), (6, vi x15), (7, vi x16)]) (st' := [vr (some (gw g))]) (pc' := 52) [(.istore 7, vi 0, 51), (.aload_n 0, vi 0, 52)] (by decide +kernel) rfl rfl ?_
        refine sm_tg (k := 51) (x := vi (tI y9.2 51)) G.2.1 q1469 rfl rfl (by decide +kernel) ?_
        refine sm_nmi (fun x17 => ?_)
        refine sm_b (l' := [(0, vr (some (gw g))), (1, vi u1), (3, vi u3), (4, vi u4), (5, vi y14), (6, vi x15), (7, vi x16), (8, vi x17)]) (st' := [vi ((-1)), vi y14]) (pc' := 60) [(.istore 8, vi 0, 57), (.iload 5, vi 0, 59), (.iconst (-1), vi (-1), 60)] (by decide +kernel) rfl rfl ?_
        refine sm_gd (fun h18 => ?_)
        refine sm_gd (fun h20 => ?_)
        refine sm_gd (fun h21 => ?_)
        refine sm_gd (fun h23 => ?_)
        refine sm_gd (fun h24 => ?_)
        refine sm_case (V g mX4_isMessage d 92 [(0, vr (some (gw g))), (1, vi u1), (3, vi u3), (4, vi u4), (5, vi y14), (6, vi x15), (7, vi x16), (8, vi x17)] [] σ y9.2 Q) (V g mX4_isMessage d 90 [(0, vr (some (gw g))), (1, vi u1), (3, vi u3), (4, vi u4), (5, vi y14), (6, vi x15), (7, vi x16), (8, vi x17)] [] σ y9.2 Q) ?_ ?_ (fun f77 p78 n79 => ?_)
        · refine sm_b (l' := [(0, vr (some (gw g))), (1, vi u1), (3, vi u3), (4, vi u4), (5, vi y14), (6, vi x15), (7, vi x16), (8, vi x17)]) (st' := [vi ((-1)), vi y14]) (pc' := 95) [(.iload 5, vi 0, 94), (.iconst (-1), vi (-1), 95)] (by decide +kernel) rfl rfl ?_
          refine sm_bindS (fun (v33 : TT) => V g mX4_isMessage d 130 [(0, vr (some (gw g))), (1, vi u1), (3, vi u3), (4, vi u4), (5, vi y14), (6, vi x15), (7, vi x16), (8, vi x17)] [] σ v33 Q) (fun v33 => ?_) (fun K34 o36 j35 => ?_)
          · refine sm_b (l' := [(0, vr (some (gw g))), (1, vi u1), (3, vi u3), (4, vi u4), (5, vi y14), (6, vi x15), (7, vi x16), (8, vi x17)]) (st' := [vi ((-1)), vi y14]) (pc' := 133) [(.iload 5, vi 0, 132), (.iconst (-1), vi (-1), 133)] (by decide +kernel) rfl rfl ?_
            refine sm_bindS (fun (v45 : TT) => V g mX4_isMessage d 187 [(0, vr (some (gw g))), (1, vi u1), (3, vi u3), (4, vi u4), (6, vi x15)] [] σ v45 Q) (fun v45 => ?_) (fun K46 o48 j47 => ?_)
            · refine sm_b (l' := [(0, vr (some (gw g))), (1, vi u1), (3, vi u3), (4, vi u4), (6, vi x15)]) (st' := [vi x15, vr (some (gw g))]) (pc' := 190) [(.aload_n 0, vi 0, 188), (.iload 6, vi 0, 190)] (by decide +kernel) rfl rfl ?_
              refine sm_tpi (k := 46) G.2.1 q1464 rfl rfl rfl (tp_46 g v45 x15) (by decide +kernel) ?_
              refine sm_nmt (fun τ49 => ?_)
              refine sm_b (l' := [(0, vr (some (gw g))), (1, vi u1), (3, vi u3), (4, vi u4), (6, vi x15)]) (st' := []) (pc' := 14) [(.goto (-179), vi 0, 14)] (by decide +kernel) rfl rfl ?_
              refine sm_pick [0, 1, 2, 3] (l' := [(0, vr (some (gw g))), (1, vi u1), (3, vi u3), (4, vi u4)]) rfl ?_
              exact ih τ49
            · refine sm_gd (fun h38 => ?_)
              refine sm_gd (fun h39 => ?_)
              refine sm_gd (fun h41 => ?_)
              refine sm_gd (fun h42 => ?_)
              refine sm_case (V g mX4_isMessage d 187 [(0, vr (some (gw g))), (1, vi u1), (3, vi u3), (4, vi u4), (5, vi y14), (6, vi x15), (7, vi x16), (8, vi x17)] [] σ v33 Q) (V g mX4_isMessage d 160 [(0, vr (some (gw g))), (1, vi u1), (3, vi u3), (4, vi u4), (5, vi y14), (6, vi x15), (7, vi x16), (8, vi x17)] [] σ v33 Q) ?_ ?_ (fun f58 p59 n60 => ?_)
              · refine sm_pick [0, 1, 2, 3, 5] (l' := [(0, vr (some (gw g))), (1, vi u1), (3, vi u3), (4, vi u4), (6, vi x15)]) rfl ?_
                exact sm_leaf (fun h => j47 _ h)
              · refine sm_b (l' := [(0, vr (some (gw g))), (1, vi u1), (3, vi u3), (4, vi u4), (5, vi y14), (6, vi x15), (7, vi x16), (8, vi x17)]) (st' := [vr (some (gw g)), vr (some (gw g))]) (pc' := 162) [(.aload_n 0, vi 0, 161), (.aload_n 0, vi 0, 162)] (by decide +kernel) rfl rfl ?_
                refine sm_tg (k := 28) (x := vr (some (gT g 28))) G.2.1 q1446 rfl rfl (by decide +kernel) ?_
                refine sm_b (l' := [(0, vr (some (gw g))), (1, vi u1), (3, vi u3), (4, vi u4), (5, vi y14), (6, vi x15), (7, vi x16), (8, vi x17)]) (st' := [vi y14, vr (some (gT g 28)), vr (some (gw g))]) (pc' := 167) [(.iload 5, vi 0, 167)] (by decide +kernel) rfl rfl ?_
                refine sm_gd (fun h50 => ?_)
                refine sm_ial (k := 28) G.2.1 (by decide) rfl (ibt (k := 28) h50) h50 (by decide +kernel) ?_
                refine sm_b (l' := [(0, vr (some (gw g))), (1, vi u1), (3, vi u3), (4, vi u4), (5, vi y14), (6, vi x15), (7, vi x16), (8, vi x17)]) (st' := [vi (u4 + 1), vi x17, vi x16, vi ((tA v33 28 y14.toNat) - 16), vr (some (gw g))]) (pc' := 179) [(.bipush 16, vi 16, 170), (.isub, vi 0, 171), (.iload 7, vi 0, 173), (.iload 8, vi 0, 175), (.iload 4, vi 0, 177), (.iconst 1, vi 1, 178), (.iadd, vi 0, 179)] (by decide +kernel) rfl rfl ?_
                refine sm_cv (N := mX4_isMessage) (d' := d - 1) (fun r => (some (vi r.1))) (fun _ => σ) (fun r => r.2) [vi ((tA v33 28 y14.toNat) - 16), vi x16, vi x17, vi (u4 + 1)] [] rfl (by decide +kernel) q1760 q1762 qs74 (Or.inl ⟨rfl, q1763⟩) (show okN yX4_isMessage 4 = true by decide +kernel) (fun H hR => hR.rvw G.1 G.2.1) rfl rfl (by omega) rfl (fun Q' => hrec (d - 1) (by omega) ((tA v33 28 y14.toNat) - 16) x16 x17 (u4 + 1) v33 Q') (fun y51 => ?_)
                refine sm_gd (fun h52 => ?_)
                refine sm_case (V g mX4_isMessage d 185 [(0, vr (some (gw g))), (1, vi u1), (3, vi u3), (4, vi u4), (5, vi y14), (6, vi x15), (7, vi x16), (8, vi x17)] [] σ y51.2 Q) (V g mX4_isMessage d 187 [(0, vr (some (gw g))), (1, vi u1), (3, vi u3), (4, vi u4), (5, vi y14), (6, vi x15), (7, vi x16), (8, vi x17)] [] σ y51.2 Q) ?_ ?_ (fun f54 p55 n56 => ?_)
                · refine sm_b (l' := [(0, vr (some (gw g))), (1, vi u1), (3, vi u3), (4, vi u4), (5, vi y14), (6, vi x15), (7, vi x16), (8, vi x17)]) (st' := [vi 0]) (pc' := 186) [(.iconst 0, vi 0, 186)] (by decide +kernel) rfl rfl ?_
                  exact sm_zret rfl (by decide +kernel) (by decide) (fun h => hRET _ (o48 _ h))
                · refine sm_pick [0, 1, 2, 3, 5] (l' := [(0, vr (some (gw g))), (1, vi u1), (3, vi u3), (4, vi u4), (6, vi x15)]) rfl ?_
                  exact sm_leaf (fun h => j47 _ h)
                refine sm_if_ne (off := 5) (tgt := 187) h52 (by decide +kernel) (fun c57 => ?_) (fun c57 => ?_)
                · exact n56 c57
                · exact p55 c57
              refine sm_icmp_eq (off := 54) (tgt := 187) h18 (by decide) (by decide +kernel) (fun c61 => ?_) (fun c61 => ?_)
              · exact p59 (Or.inl (Or.inl c61))
              · have w37 : ¬ (y14 = ((-1))) := c61
                refine sm_b (l' := [(0, vr (some (gw g))), (1, vi u1), (3, vi u3), (4, vi u4), (5, vi y14), (6, vi x15), (7, vi x16), (8, vi x17)]) (st' := [vr (some (gw g))]) (pc' := 137) [(.aload_n 0, vi 0, 137)] (by decide +kernel) rfl rfl ?_
                refine sm_tg (k := 28) (x := vr (some (gT g 28))) G.2.1 q1446 rfl rfl (by decide +kernel) ?_
                refine sm_b (l' := [(0, vr (some (gw g))), (1, vi u1), (3, vi u3), (4, vi u4), (5, vi y14), (6, vi x15), (7, vi x16), (8, vi x17)]) (st' := [vi y14, vr (some (gT g 28))]) (pc' := 142) [(.iload 5, vi 0, 142)] (by decide +kernel) rfl rfl ?_
                refine sm_ial (k := 28) G.2.1 (by decide) rfl (ibt (k := 28) (h38 w37)) (h38 w37) (by decide +kernel) ?_
                refine sm_b (l' := [(0, vr (some (gw g))), (1, vi u1), (3, vi u3), (4, vi u4), (5, vi y14), (6, vi x15), (7, vi x16), (8, vi x17)]) (st' := [vi 16, vi (tA v33 28 y14.toNat)]) (pc' := 145) [(.bipush 16, vi 16, 145)] (by decide +kernel) rfl rfl ?_
                refine sm_icmp_lt (off := 42) (tgt := 187) (h39 w37) (by decide) (by decide +kernel) (fun c62 => ?_) (fun c62 => ?_)
                · exact p59 (Or.inl (Or.inr c62))
                · have w40 : ¬ ((y14 = ((-1))) ∨ ((tA v33 28 y14.toNat) < 16)) := (fun q => q.elim c61 c62)
                  refine sm_b (l' := [(0, vr (some (gw g))), (1, vi u1), (3, vi u3), (4, vi u4), (5, vi y14), (6, vi x15), (7, vi x16), (8, vi x17)]) (st' := [vr (some (gw g))]) (pc' := 149) [(.aload_n 0, vi 0, 149)] (by decide +kernel) rfl rfl ?_
                  refine sm_tg (k := 28) (x := vr (some (gT g 28))) G.2.1 q1446 rfl rfl (by decide +kernel) ?_
                  refine sm_b (l' := [(0, vr (some (gw g))), (1, vi u1), (3, vi u3), (4, vi u4), (5, vi y14), (6, vi x15), (7, vi x16), (8, vi x17)]) (st' := [vi y14, vr (some (gT g 28))]) (pc' := 154) [(.iload 5, vi 0, 154)] (by decide +kernel) rfl rfl ?_
                  refine sm_ial (k := 28) G.2.1 (by decide) rfl (ibt (k := 28) (h41 w40)) (h41 w40) (by decide +kernel) ?_
                  refine sm_b (l' := [(0, vr (some (gw g))), (1, vi u1), (3, vi u3), (4, vi u4), (5, vi y14), (6, vi x15), (7, vi x16), (8, vi x17)]) (st' := [vi 32, vi (tA v33 28 y14.toNat)]) (pc' := 157) [(.bipush 32, vi 32, 157)] (by decide +kernel) rfl rfl ?_
                  refine sm_icmp_ge (off := 30) (tgt := 187) (h42 w40) (by decide) (by decide +kernel) (fun c63 => ?_) (fun c63 => ?_)
                  · exact p59 (Or.inr c63)
                  · exact n60 (fun q => q.elim (fun q => q.elim c61 c62) c63)
          · refine sm_gd (fun h28 => ?_)
            refine sm_gd (fun h29 => ?_)
            refine sm_gd (fun h31 => ?_)
            refine sm_case (V g mX4_isMessage d 130 [(0, vr (some (gw g))), (1, vi u1), (3, vi u3), (4, vi u4), (5, vi y14), (6, vi x15), (7, vi x16), (8, vi x17)] [] σ y9.2 Q) (V g mX4_isMessage d 115 [(0, vr (some (gw g))), (1, vi u1), (3, vi u3), (4, vi u4), (5, vi y14), (6, vi x15), (7, vi x16), (8, vi x17)] [] σ y9.2 Q) ?_ ?_ (fun f71 p72 n73 => ?_)
            · exact sm_leaf (fun h => j35 _ h)
            · refine sm_b (l' := [(0, vr (some (gw g))), (1, vi u1), (3, vi u3), (4, vi u4), (5, vi y14), (6, vi x15), (7, vi x16), (8, vi x17)]) (st' := [vi x17, vi x16, vi y14, vr (some (gw g))]) (pc' := 122) [(.aload_n 0, vi 0, 116), (.iload 5, vi 0, 118), (.iload 7, vi 0, 120), (.iload 8, vi 0, 122)] (by decide +kernel) rfl rfl ?_
              refine sm_cv (N := mX4_arePacked) (d' := d - 1) (fun r => (some (vi r.1))) (fun _ => σ) (fun r => r.2) [vi y14, vi x16, vi x17] [] rfl (by decide +kernel) q1801 q1803 qs82 (Or.inl ⟨rfl, q1804⟩) (show okN yX4_arePacked 3 = true by decide +kernel) (fun H hR => hR.rvw G.1 G.2.1) rfl rfl (by omega) rfl (fun Q' => m_arePacked_ok G (d - 1) (by omega) y14 x16 x17 y9.2 Q') (fun y64 => ?_)
              refine sm_gd (fun h65 => ?_)
              refine sm_case (V g mX4_isMessage d 128 [(0, vr (some (gw g))), (1, vi u1), (3, vi u3), (4, vi u4), (5, vi y14), (6, vi x15), (7, vi x16), (8, vi x17)] [] σ y64.2 Q) (V g mX4_isMessage d 130 [(0, vr (some (gw g))), (1, vi u1), (3, vi u3), (4, vi u4), (5, vi y14), (6, vi x15), (7, vi x16), (8, vi x17)] [] σ y64.2 Q) ?_ ?_ (fun f67 p68 n69 => ?_)
              · refine sm_b (l' := [(0, vr (some (gw g))), (1, vi u1), (3, vi u3), (4, vi u4), (5, vi y14), (6, vi x15), (7, vi x16), (8, vi x17)]) (st' := [vi 0]) (pc' := 129) [(.iconst 0, vi 0, 129)] (by decide +kernel) rfl rfl ?_
                exact sm_zret rfl (by decide +kernel) (by decide) (fun h => hRET _ (o36 _ h))
              · exact sm_leaf (fun h => j35 _ h)
              refine sm_if_ne (off := 5) (tgt := 130) h65 (by decide +kernel) (fun c70 => ?_) (fun c70 => ?_)
              · exact n69 c70
              · exact p68 c70
            refine sm_icmp_eq (off := 35) (tgt := 130) h18 (by decide) (by decide +kernel) (fun c74 => ?_) (fun c74 => ?_)
            · exact p72 (Or.inl (Or.inl c74))
            · have w27 : ¬ (y14 = ((-1))) := c74
              refine sm_b (l' := [(0, vr (some (gw g))), (1, vi u1), (3, vi u3), (4, vi u4), (5, vi y14), (6, vi x15), (7, vi x16), (8, vi x17)]) (st' := [vi y14, vr (some (gw g))]) (pc' := 101) [(.aload_n 0, vi 0, 99), (.iload 5, vi 0, 101)] (by decide +kernel) rfl rfl ?_
              refine sm_cvp (N := mX4_isPlain) (d' := d - 1) (fun r => (some (vi r))) (some (vi (vv (m_isPlain y14 y9.2)))) (h28 w27) (fun y h => by rw [vv_some h]) [vi y14] [] rfl (by decide +kernel) q1786 q1788 qs80 (Or.inl ⟨rfl, q1789⟩) (show okN yX4_isPlain 1 = true by decide +kernel) (fun H hR => hR.rvw G.1 G.2.1) rfl rfl (by omega) rfl (fun Q' => m_isPlain_ok G (d - 1) (by omega) y14 y9.2 Q') ?_
              refine sm_if_eq (off := 26) (tgt := 130) (h29 w27) (by decide +kernel) (fun c75 => ?_) (fun c75 => ?_)
              · exact p72 (Or.inl (Or.inr c75))
              · have w30 : ¬ ((y14 = ((-1))) ∨ ((vv (m_isPlain y14 y9.2)) = 0)) := (fun q => q.elim c74 c75)
                refine sm_b (l' := [(0, vr (some (gw g))), (1, vi u1), (3, vi u3), (4, vi u4), (5, vi y14), (6, vi x15), (7, vi x16), (8, vi x17)]) (st' := [vr (some (gw g))]) (pc' := 108) [(.aload_n 0, vi 0, 108)] (by decide +kernel) rfl rfl ?_
                refine sm_tg (k := 49) (x := vi (tI y9.2 49)) G.2.1 q1467 rfl rfl (by decide +kernel) ?_
                refine sm_b (l' := [(0, vr (some (gw g))), (1, vi u1), (3, vi u3), (4, vi u4), (5, vi y14), (6, vi x15), (7, vi x16), (8, vi x17)]) (st' := [vi 2, vi (tI y9.2 49)]) (pc' := 112) [(.iconst 2, vi 2, 112)] (by decide +kernel) rfl rfl ?_
                refine sm_icmp_ne (off := 18) (tgt := 130) (h31 w30) (by decide) (by decide +kernel) (fun c76 => ?_) (fun c76 => ?_)
                · exact p72 (Or.inr c76)
                · exact n73 (fun q => q.elim (fun q => q.elim c74 c75) (fun q => q c76))
        · refine sm_b (l' := [(0, vr (some (gw g))), (1, vi u1), (3, vi u3), (4, vi u4), (5, vi y14), (6, vi x15), (7, vi x16), (8, vi x17)]) (st' := [vi 0]) (pc' := 91) [(.iconst 0, vi 0, 91)] (by decide +kernel) rfl rfl ?_
          exact sm_zret rfl (by decide +kernel) (by decide) (fun h => hRET _ h)
        refine sm_icmp_eq (off := 32) (tgt := 92) h18 (by decide) (by decide +kernel) (fun c80 => ?_) (fun c80 => ?_)
        · exact p78 (Or.inl (Or.inl c80))
        · have w19 : ¬ (y14 = ((-1))) := c80
          refine sm_b (l' := [(0, vr (some (gw g))), (1, vi u1), (3, vi u3), (4, vi u4), (5, vi y14), (6, vi x15), (7, vi x16), (8, vi x17)]) (st' := [vr (some (gw g))]) (pc' := 64) [(.aload_n 0, vi 0, 64)] (by decide +kernel) rfl rfl ?_
          refine sm_tg (k := 28) (x := vr (some (gT g 28))) G.2.1 q1446 rfl rfl (by decide +kernel) ?_
          refine sm_b (l' := [(0, vr (some (gw g))), (1, vi u1), (3, vi u3), (4, vi u4), (5, vi y14), (6, vi x15), (7, vi x16), (8, vi x17)]) (st' := [vi y14, vr (some (gT g 28))]) (pc' := 69) [(.iload 5, vi 0, 69)] (by decide +kernel) rfl rfl ?_
          refine sm_ial (k := 28) G.2.1 (by decide) rfl (ibt (k := 28) (h20 w19)) (h20 w19) (by decide +kernel) ?_
          refine sm_b (l' := [(0, vr (some (gw g))), (1, vi u1), (3, vi u3), (4, vi u4), (5, vi y14), (6, vi x15), (7, vi x16), (8, vi x17)]) (st' := [vi 9, vi (tA y9.2 28 y14.toNat)]) (pc' := 72) [(.bipush 9, vi 9, 72)] (by decide +kernel) rfl rfl ?_
          refine sm_icmp_ne (off := 20) (tgt := 92) (h21 w19) (by decide) (by decide +kernel) (fun c81 => ?_) (fun c81 => ?_)
          · exact p78 (Or.inl (Or.inr c81))
          · have w22 : ¬ ((y14 = ((-1))) ∨ (¬ ((tA y9.2 28 y14.toNat) = 9))) := (fun q => q.elim c80 (fun q => q c81))
            refine sm_b (l' := [(0, vr (some (gw g))), (1, vi u1), (3, vi u3), (4, vi u4), (5, vi y14), (6, vi x15), (7, vi x16), (8, vi x17)]) (st' := [vr (some (gw g)), vr (some (gw g))]) (pc' := 77) [(.aload_n 0, vi 0, 76), (.aload_n 0, vi 0, 77)] (by decide +kernel) rfl rfl ?_
            refine sm_tg (k := 2) (x := vr (some (gT g 2))) G.2.1 q1420 rfl rfl (by decide +kernel) ?_
            refine sm_b (l' := [(0, vr (some (gw g))), (1, vi u1), (3, vi u3), (4, vi u4), (5, vi y14), (6, vi x15), (7, vi x16), (8, vi x17)]) (st' := [vi x17, vi x16, vr (some (gT g 2)), vr (some (gw g))]) (pc' := 84) [(.iload 7, vi 0, 82), (.iload 8, vi 0, 84)] (by decide +kernel) rfl rfl ?_
            refine sm_cvp (N := mX4_isText) (d' := d - 1) (fun r => (some (vi r))) (some (vi (vv (m_isText 2 x16 x17 y9.2)))) (h23 w22) (fun y h => by rw [vv_some h]) [vr (some (gT g 2)), vi x16, vi x17] [] rfl (by decide +kernel) q1790 q1792 qs81 (Or.inl ⟨rfl, q1793⟩) (show okN yX4_isText 3 = true by decide +kernel) (fun H hR => hR.rvw G.1 G.2.1) rfl rfl (by omega) rfl (fun Q' => m_isText_ok G (d - 1) (by omega) 2 x16 x17 (by decide) rfl y9.2 Q') ?_
            refine sm_if_ne (off := 5) (tgt := 92) (h24 w22) (by decide +kernel) (fun c82 => ?_) (fun c82 => ?_)
            · exact p78 (Or.inr c82)
            · exact n79 (fun q => q.elim (fun q => q.elim c80 (fun q => q c81)) (fun q => q c82))
      refine sm_if_ne (off := 5) (tgt := 32) h10 (by decide +kernel) (fun c86 => ?_) (fun c86 => ?_)
      · exact n85 c86
      · exact p84 c86
    refine sm_icmp_ge (off := 177) (tgt := 196) h5 h6 (by decide +kernel) (fun c90 => ?_) (fun c90 => ?_)
    · exact p88 c90
    · exact n89 c90
set_option maxHeartbeats 4000000 in
theorem m_isMessageb_ok {g : GE} (G : GG g) {D : Nat} (rec : Int → Int → Int → Int → TT → Option (Int × TT)) (hrec : ∀ (d : Nat), D ≤ d → ∀ {σ : ST} (a1 : Int) (a2 : Int) (a3 : Int) (a4 : Int) (τ : TT) (Q' : VQ), Sm (V g mX4_isMessage d 0 [(0, vr (some (gw g))), (1, vi a1), (2, vi a2), (3, vi a3), (4, vi a4)] [] σ τ Q') (rec a1 a2 a3 a4 τ) (fun r => Q'.1 (some (vi r.1)) σ r.2)) {σ : ST} (d : Nat) (hd1 : D + 1 ≤ d) (hd2 : 3 ≤ d) (a1 : Int) (a2 : Int) (a3 : Int) (a4 : Int)  (τ : TT) (Q : VQ) : Sm (V g mX4_isMessage d 0 [(0, vr (some (gw g))), (1, vi a1), (2, vi a2), (3, vi a3), (4, vi a4)] [] σ τ Q) (m_isMessageb rec a1 a2 a3 a4 τ) (fun r => Q.1 (some (vi r.1)) σ r.2) := by
  unfold m_isMessageb
  refine sm_top (fun K hRET => ?_)
  refine sm_b (l' := [(0, vr (some (gw g))), (1, vi a1), (2, vi a2), (3, vi a3), (4, vi a4)]) (st' := [vi 8, vi a4]) (pc' := 4) [(.iload 4, vi 0, 2), (.bipush 8, vi 8, 4)] (by decide +kernel) rfl rfl ?_
  refine sm_gd (fun h1 => ?_)
  refine sm_case (V g mX4_isMessage d 9 [(0, vr (some (gw g))), (1, vi a1), (2, vi a2), (3, vi a3), (4, vi a4)] [] σ τ Q) (V g mX4_isMessage d 7 [(0, vr (some (gw g))), (1, vi a1), (2, vi a2), (3, vi a3), (4, vi a4)] [] σ τ Q) ?_ ?_ (fun f91 p92 n93 => ?_)
  · refine sm_b (l' := [(0, vr (some (gw g))), (1, vi a1), (2, vi a2), (3, vi a3), (4, vi a4)]) (st' := [vi a2, vr (some (gw g))]) (pc' := 11) [(.aload_n 0, vi 0, 10), (.iload_n 2, vi 0, 11)] (by decide +kernel) rfl rfl ?_
    refine sm_tpi (k := 46) G.2.1 q1464 rfl rfl rfl (tp_46 g τ a2) (by decide +kernel) ?_
    refine sm_nmt (fun τ4 => ?_)
    refine sm_pick [0, 1, 3, 4] (l' := [(0, vr (some (gw g))), (1, vi a1), (3, vi a3), (4, vi a4)]) rfl ?_
    exact m_isMessage_L14_ok G rec hrec d hd1 hd2 a1 a3 a4  (fun r h => hRET _ h) FU τ4
  · refine sm_b (l' := [(0, vr (some (gw g))), (1, vi a1), (2, vi a2), (3, vi a3), (4, vi a4)]) (st' := [vi 0]) (pc' := 8) [(.iconst 0, vi 0, 8)] (by decide +kernel) rfl rfl ?_
    exact sm_zret rfl (by decide +kernel) (by decide) (fun h => hRET _ h)
  refine sm_icmp_le (off := 5) (tgt := 9) h1 (by decide) (by decide +kernel) (fun c94 => ?_) (fun c94 => ?_)
  · exact p92 c94
  · exact n93 c94
def m_isMessage : Nat → Int → Int → Int → Int → TT → Option (Int × TT)
  | 0 => fun _ _ _ _ _ => none
  | n + 1 => fun a1 a2 a3 a4 τ => m_isMessageb (m_isMessage n) a1 a2 a3 a4 τ
set_option maxHeartbeats 4000000 in
theorem m_isMessage_ok {g : GE} (G : GG g) (n : Nat) : ∀ (d : Nat), 3 + 1 * n ≤ d → ∀ {σ : ST} (a1 : Int) (a2 : Int) (a3 : Int) (a4 : Int) (τ : TT) (Q : VQ), Sm (V g mX4_isMessage d 0 [(0, vr (some (gw g))), (1, vi a1), (2, vi a2), (3, vi a3), (4, vi a4)] [] σ τ Q) (m_isMessage n a1 a2 a3 a4 τ) (fun r => Q.1 (some (vi r.1)) σ r.2) := by
  induction n with
  | zero => intro d hd σ a1 a2 a3 a4 τ Q; exact sm_none
  | succ n ih =>
    intro d hd σ a1 a2 a3 a4 τ Q
    exact m_isMessageb_ok G (D := 3 + 1 * n) (m_isMessage n) ih d (by omega) (by omega) a1 a2 a3 a4 τ Q
def m_put (a1 : Int) (τ : TT) : Option (TT) := gd (rg (tI τ 6)) (if (tI τ 6) = 4000 then (nm (uI τ 7 1) fun τ4 => some τ4) else (gd (ib (tI τ 6) 4000) (nm (uA τ 3 (tI τ 6).toNat (iAnd a1 255)) fun τ6 => nm (uI τ6 6 ((tI τ6 6) + 1)) fun τ7 => some τ7)))
set_option maxHeartbeats 4000000 in
theorem m_put_ok {g : GE} (G : GG g) {σ : ST} (d : Nat) (hd1 : 0 ≤ d) (a1 : Int)  (τ : TT) (Q : VQ) : Sm (V g mX4_put d 0 [(0, vr (some (gw g))), (1, vi a1)] [] σ τ Q) (m_put a1 τ) (fun r => Q.1 none σ r) := by
  unfold m_put
  refine sm_top (fun K hRET => ?_)
  refine sm_b (l' := [(0, vr (some (gw g))), (1, vi a1)]) (st' := [vr (some (gw g))]) (pc' := 1) [(.aload_n 0, vi 0, 1)] (by decide +kernel) rfl rfl ?_
  refine sm_tg (k := 6) (x := vi (tI τ 6)) G.2.1 q1424 rfl rfl (by decide +kernel) ?_
  refine sm_b (l' := [(0, vr (some (gw g))), (1, vi a1)]) (st' := [vi 4000, vi (tI τ 6)]) (pc' := 7) [(.sipush 4000, vi 4000, 7)] (by decide +kernel) rfl rfl ?_
  refine sm_gd (fun h1 => ?_)
  refine sm_case (V g mX4_put d 10 [(0, vr (some (gw g))), (1, vi a1)] [] σ τ Q) (V g mX4_put d 16 [(0, vr (some (gw g))), (1, vi a1)] [] σ τ Q) ?_ ?_ (fun f8 p9 n10 => ?_)
  · refine sm_b (l' := [(0, vr (some (gw g))), (1, vi a1)]) (st' := [vi 1, vr (some (gw g))]) (pc' := 12) [(.aload_n 0, vi 0, 11), (.iconst 1, vi 1, 12)] (by decide +kernel) rfl rfl ?_
    refine sm_tpz (k := 7) G.2.1 q1425 rfl rfl rfl (tp_7 g τ 1) (by decide) (by decide +kernel) ?_
    refine sm_nmt (fun τ4 => ?_)
    exact sm_vret rfl (by decide +kernel) (fun h => hRET _ h)
  · refine sm_b (l' := [(0, vr (some (gw g))), (1, vi a1)]) (st' := [vr (some (gw g))]) (pc' := 17) [(.aload_n 0, vi 0, 17)] (by decide +kernel) rfl rfl ?_
    refine sm_tg (k := 3) (x := vr (some (gT g 3))) G.2.1 q1421 rfl rfl (by decide +kernel) ?_
    refine sm_b (l' := [(0, vr (some (gw g))), (1, vi a1)]) (st' := [vr (some (gw g)), vr (some (gT g 3))]) (pc' := 21) [(.aload_n 0, vi 0, 21)] (by decide +kernel) rfl rfl ?_
    refine sm_tg (k := 6) (x := vi (tI τ 6)) G.2.1 q1424 rfl rfl (by decide +kernel) ?_
    refine sm_b (l' := [(0, vr (some (gw g))), (1, vi a1)]) (st' := [vi (iAnd a1 255), vi (tI τ 6), vr (some (gT g 3))]) (pc' := 29) [(.iload_n 1, vi 0, 25), (.sipush 255, vi 255, 28), (.iand, vi 0, 29)] (by decide +kernel) rfl rfl ?_
    refine sm_gd (fun h5 => ?_)
    refine sm_ias (k := 3) G.2.1 (by decide) rfl (ibt (k := 3) h5) h5 (by decide +kernel) ?_
    refine sm_nmt (fun τ6 => ?_)
    refine sm_b (l' := [(0, vr (some (gw g))), (1, vi a1)]) (st' := [vr (some (gw g)), vr (some (gw g))]) (pc' := 32) [(.aload_n 0, vi 0, 31), (.dup, vi 0, 32)] (by decide +kernel) rfl rfl ?_
    refine sm_tg (k := 6) (x := vi (tI τ6 6)) G.2.1 q1424 rfl rfl (by decide +kernel) ?_
    refine sm_b (l' := [(0, vr (some (gw g))), (1, vi a1)]) (st' := [vi ((tI τ6 6) + 1), vr (some (gw g))]) (pc' := 37) [(.iconst 1, vi 1, 36), (.iadd, vi 0, 37)] (by decide +kernel) rfl rfl ?_
    refine sm_tpi (k := 6) G.2.1 q1424 rfl rfl rfl (tp_6 g τ6 ((tI τ6 6) + 1)) (by decide +kernel) ?_
    refine sm_nmt (fun τ7 => ?_)
    exact sm_vret rfl (by decide +kernel) (fun h => hRET _ h)
  refine sm_icmp_ne (off := 9) (tgt := 16) h1 (by decide) (by decide +kernel) (fun c11 => ?_) (fun c11 => ?_)
  · exact n10 c11
  · exact p9 c11
def m_after_L5 (u1 : Int) (u2 : Int) (τ : TT) : Nat → Int → Int → Option (Int)
  | 0, _, _ => none
  | n + 1, w3, w4 => gd (rg w4) (gd (rg (tI τ 38)) (if (tI τ 38) ≤ w4 then (some w3) else (gd (ib w4 50) (Option.bind (gd (rg (tA τ 23 w4.toNat)) (gd (rg u1) (gd ((tA τ 23 w4.toNat) = u1 → rg (tA τ 24 w4.toNat)) (gd ((tA τ 23 w4.toNat) = u1 → rg u2) (if ((tA τ 23 w4.toNat) = u1) ∧ (¬ ((tA τ 24 w4.toNat) ≤ u2)) then (gd (rg w3) (gd (¬ (w3 = ((-1))) → ib w3 50) (gd (¬ (w3 = ((-1))) → rg (tA τ 24 w4.toNat)) (gd (¬ (w3 = ((-1))) → rg (tA τ 24 w3.toNat)) (if (w3 = ((-1))) ∨ (¬ ((tA τ 24 w3.toNat) ≤ (tA τ 24 w4.toNat))) then (some w4) else (some w3)))))) else (some w3)))))) fun (v16 : Int) => m_after_L5 u1 u2 τ n v16 (w4 + 1)))))
def m_after (a1 : Int) (a2 : Int) (τ : TT) : Option (Int) := m_after_L5 a1 a2 τ FU ((-1)) 0
set_option maxHeartbeats 4000000 in
theorem m_after_L5_ok {g : GE} (G : GG g) {σ : ST} {Q : VQ} (d : Nat) (hd1 : 0 ≤ d) (u1 : Int) (u2 : Int) (τ : TT)  {K : Int → Prop} (hRET : ∀ r : Int, K (r) → Q.1 (some (vi r)) σ τ) : ∀ (n : Nat) (w3 : Int) (w4 : Int), Sm (V g mX4_after d 5 [(0, vr (some (gw g))), (1, vi u1), (2, vi u2), (3, vi w3), (4, vi w4)] [] σ τ Q) (m_after_L5 u1 u2 τ n w3 w4) K := by
  intro n
  induction n with
  | zero => intro w3 w4; exact sm_none
  | succ n ih =>
    intro w3 w4
    rw [m_after_L5.eq_2]
    refine sm_b (l' := [(0, vr (some (gw g))), (1, vi u1), (2, vi u2), (3, vi w3), (4, vi w4)]) (st' := [vr (some (gw g)), vi w4]) (pc' := 8) [(.iload 4, vi 0, 7), (.aload_n 0, vi 0, 8)] (by decide +kernel) rfl rfl ?_
    refine sm_tg (k := 38) (x := vi (tI τ 38)) G.2.1 q1456 rfl rfl (by decide +kernel) ?_
    refine sm_gd (fun h1 => ?_)
    refine sm_gd (fun h2 => ?_)
    refine sm_case (V g mX4_after d 66 [(0, vr (some (gw g))), (1, vi u1), (2, vi u2), (3, vi w3), (4, vi w4)] [] σ τ Q) (V g mX4_after d 14 [(0, vr (some (gw g))), (1, vi u1), (2, vi u2), (3, vi w3), (4, vi w4)] [] σ τ Q) ?_ ?_ (fun f36 p37 n38 => ?_)
    · refine sm_b (l' := [(0, vr (some (gw g))), (1, vi u1), (2, vi u2), (3, vi w3), (4, vi w4)]) (st' := [vi w3]) (pc' := 67) [(.iload_n 3, vi 0, 67)] (by decide +kernel) rfl rfl ?_
      exact sm_iret rfl (by decide +kernel) (fun h => hRET _ h)
    · refine sm_b (l' := [(0, vr (some (gw g))), (1, vi u1), (2, vi u2), (3, vi w3), (4, vi w4)]) (st' := [vr (some (gw g))]) (pc' := 15) [(.aload_n 0, vi 0, 15)] (by decide +kernel) rfl rfl ?_
      refine sm_tg (k := 23) (x := vr (some (gT g 23))) G.2.1 q1441 rfl rfl (by decide +kernel) ?_
      refine sm_b (l' := [(0, vr (some (gw g))), (1, vi u1), (2, vi u2), (3, vi w3), (4, vi w4)]) (st' := [vi w4, vr (some (gT g 23))]) (pc' := 20) [(.iload 4, vi 0, 20)] (by decide +kernel) rfl rfl ?_
      refine sm_gd (fun h8 => ?_)
      refine sm_ial (k := 23) G.2.1 (by decide) rfl (ibt (k := 23) h8) h8 (by decide +kernel) ?_
      refine sm_b (l' := [(0, vr (some (gw g))), (1, vi u1), (2, vi u2), (3, vi w3), (4, vi w4)]) (st' := [vi u1, vi (tA τ 23 w4.toNat)]) (pc' := 22) [(.iload_n 1, vi 0, 22)] (by decide +kernel) rfl rfl ?_
      refine sm_bind1 (fun (v16 : Int) => V g mX4_after d 60 [(0, vr (some (gw g))), (1, vi u1), (2, vi u2), (3, vi v16), (4, vi w4)] [] σ τ Q) (fun v16 => ?_) (fun K17 j18 => ?_)
      · refine sm_b (l' := [(0, vr (some (gw g))), (1, vi u1), (2, vi u2), (3, vi v16), (4, vi (w4 + 1))]) (st' := []) (pc' := 5) [(.iinc 4 1, vi 1, 63), (.goto (-58), vi 0, 5)] (by decide +kernel) rfl rfl ?_
        exact ih v16 (w4 + 1)
      · refine sm_gd (fun h9 => ?_)
        refine sm_gd (fun h10 => ?_)
        refine sm_gd (fun h12 => ?_)
        refine sm_gd (fun h13 => ?_)
        refine sm_case (V g mX4_after d 36 [(0, vr (some (gw g))), (1, vi u1), (2, vi u2), (3, vi w3), (4, vi w4)] [] σ τ Q) (V g mX4_after d 60 [(0, vr (some (gw g))), (1, vi u1), (2, vi u2), (3, vi w3), (4, vi w4)] [] σ τ Q) ?_ ?_ (fun f31 p32 n33 => ?_)
        · refine sm_b (l' := [(0, vr (some (gw g))), (1, vi u1), (2, vi u2), (3, vi w3), (4, vi w4)]) (st' := [vi ((-1)), vi w3]) (pc' := 38) [(.iload_n 3, vi 0, 37), (.iconst (-1), vi (-1), 38)] (by decide +kernel) rfl rfl ?_
          refine sm_gd (fun h20 => ?_)
          refine sm_gd (fun h22 => ?_)
          refine sm_gd (fun h23 => ?_)
          refine sm_gd (fun h24 => ?_)
          refine sm_case (V g mX4_after d 57 [(0, vr (some (gw g))), (1, vi u1), (2, vi u2), (3, vi w3), (4, vi w4)] [] σ τ Q) (V g mX4_after d 60 [(0, vr (some (gw g))), (1, vi u1), (2, vi u2), (3, vi w3), (4, vi w4)] [] σ τ Q) ?_ ?_ (fun f26 p27 n28 => ?_)
          · refine sm_b (l' := [(0, vr (some (gw g))), (1, vi u1), (2, vi u2), (3, vi w4), (4, vi w4)]) (st' := []) (pc' := 60) [(.iload 4, vi 0, 59), (.istore_n 3, vi 0, 60)] (by decide +kernel) rfl rfl ?_
            exact sm_leaf (fun h => j18 _ h)
          · exact sm_leaf (fun h => j18 _ h)
          refine sm_icmp_eq (off := 19) (tgt := 57) h20 (by decide) (by decide +kernel) (fun c29 => ?_) (fun c29 => ?_)
          · exact p27 (Or.inl c29)
          · have w21 : ¬ (w3 = ((-1))) := c29
            refine sm_b (l' := [(0, vr (some (gw g))), (1, vi u1), (2, vi u2), (3, vi w3), (4, vi w4)]) (st' := [vr (some (gw g))]) (pc' := 42) [(.aload_n 0, vi 0, 42)] (by decide +kernel) rfl rfl ?_
            refine sm_tg (k := 24) (x := vr (some (gT g 24))) G.2.1 q1442 rfl rfl (by decide +kernel) ?_
            refine sm_b (l' := [(0, vr (some (gw g))), (1, vi u1), (2, vi u2), (3, vi w3), (4, vi w4)]) (st' := [vi w4, vr (some (gT g 24))]) (pc' := 47) [(.iload 4, vi 0, 47)] (by decide +kernel) rfl rfl ?_
            refine sm_ial (k := 24) G.2.1 (by decide) rfl (ibt (k := 24) h8) h8 (by decide +kernel) ?_
            refine sm_b (l' := [(0, vr (some (gw g))), (1, vi u1), (2, vi u2), (3, vi w3), (4, vi w4)]) (st' := [vr (some (gw g)), vi (tA τ 24 w4.toNat)]) (pc' := 49) [(.aload_n 0, vi 0, 49)] (by decide +kernel) rfl rfl ?_
            refine sm_tg (k := 24) (x := vr (some (gT g 24))) G.2.1 q1442 rfl rfl (by decide +kernel) ?_
            refine sm_b (l' := [(0, vr (some (gw g))), (1, vi u1), (2, vi u2), (3, vi w3), (4, vi w4)]) (st' := [vi w3, vr (some (gT g 24)), vi (tA τ 24 w4.toNat)]) (pc' := 53) [(.iload_n 3, vi 0, 53)] (by decide +kernel) rfl rfl ?_
            refine sm_ial (k := 24) G.2.1 (by decide) rfl (ibt (k := 24) (h22 w21)) (h22 w21) (by decide +kernel) ?_
            refine sm_icmp_ge (off := 6) (tgt := 60) (h23 w21) (h24 w21) (by decide +kernel) (fun c30 => ?_) (fun c30 => ?_)
            · exact n28 (fun q => q.elim c29 (fun q => q c30))
            · exact p27 (Or.inr c30)
        · exact sm_leaf (fun h => j18 _ h)
        refine sm_icmp_ne (off := 38) (tgt := 60) h9 h10 (by decide +kernel) (fun c34 => ?_) (fun c34 => ?_)
        · exact n33 (fun q => c34 q.1)
        · have w11 : (tA τ 23 w4.toNat) = u1 := c34
          refine sm_b (l' := [(0, vr (some (gw g))), (1, vi u1), (2, vi u2), (3, vi w3), (4, vi w4)]) (st' := [vr (some (gw g))]) (pc' := 26) [(.aload_n 0, vi 0, 26)] (by decide +kernel) rfl rfl ?_
          refine sm_tg (k := 24) (x := vr (some (gT g 24))) G.2.1 q1442 rfl rfl (by decide +kernel) ?_
          refine sm_b (l' := [(0, vr (some (gw g))), (1, vi u1), (2, vi u2), (3, vi w3), (4, vi w4)]) (st' := [vi w4, vr (some (gT g 24))]) (pc' := 31) [(.iload 4, vi 0, 31)] (by decide +kernel) rfl rfl ?_
          refine sm_ial (k := 24) G.2.1 (by decide) rfl (ibt (k := 24) h8) h8 (by decide +kernel) ?_
          refine sm_b (l' := [(0, vr (some (gw g))), (1, vi u1), (2, vi u2), (3, vi w3), (4, vi w4)]) (st' := [vi u2, vi (tA τ 24 w4.toNat)]) (pc' := 33) [(.iload_n 2, vi 0, 33)] (by decide +kernel) rfl rfl ?_
          refine sm_icmp_le (off := 27) (tgt := 60) (h12 w11) (h13 w11) (by decide +kernel) (fun c35 => ?_) (fun c35 => ?_)
          · exact n33 (fun q => (fun q => q c35) q.2)
          · exact p32 ⟨c34, c35⟩
    refine sm_icmp_ge (off := 55) (tgt := 66) h1 h2 (by decide +kernel) (fun c39 => ?_) (fun c39 => ?_)
    · exact p37 c39
    · exact n38 c39
set_option maxHeartbeats 4000000 in
theorem m_after_ok {g : GE} (G : GG g) {σ : ST} (d : Nat) (hd1 : 0 ≤ d) (a1 : Int) (a2 : Int)  (τ : TT) (Q : VQ) : Sm (V g mX4_after d 0 [(0, vr (some (gw g))), (1, vi a1), (2, vi a2)] [] σ τ Q) (m_after a1 a2 τ) (fun r => Q.1 (some (vi r)) σ τ) := by
  unfold m_after
  refine sm_top (fun K hRET => ?_)
  refine sm_b (l' := [(0, vr (some (gw g))), (1, vi a1), (2, vi a2), (3, vi ((-1))), (4, vi 0)]) (st' := []) (pc' := 5) [(.iconst (-1), vi (-1), 1), (.istore_n 3, vi 0, 2), (.iconst 0, vi 0, 3), (.istore 4, vi 0, 5)] (by decide +kernel) rfl rfl ?_
  exact m_after_L5_ok G d hd1 a1 a2 τ  (fun r h => hRET _ h) FU ((-1)) 0
