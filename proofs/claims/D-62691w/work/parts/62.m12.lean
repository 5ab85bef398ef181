set_option maxRecDepth 100000
/-! the reference: X4_sixOf, X4_unbase, X4_valueNamed, X4_symbol, X4_digits, X4_numberText, X4_grows -/
def m_sixOf (a1 : Int) : Option (Int) := gd (rg a1) (if (a1 < 65) ∨ (90 < a1) then (if (a1 < 97) ∨ (122 < a1) then (Option.bind (m_isDigit a1) fun y10 => gd (rg y10) (if y10 = 0 then (if (a1 = 43) ∨ (a1 = 45) then (some 62) else (if (a1 = 47) ∨ (a1 = 95) then (some 63) else (some (((-1)))))) else (some (((a1 - 48) + 52))))) else (some (((a1 - 97) + 26)))) else (some ((a1 - 65))))
set_option maxHeartbeats 4000000 in
theorem m_sixOf_ok {g : GE} (G : GG g) {σ : ST} (d : Nat) (hd1 : 1 ≤ d) (a1 : Int)  (τ : TT) (Q : VQ) : Sm (V g mX4_sixOf d 0 [(0, vi a1)] [] σ τ Q) (m_sixOf a1) (fun r => Q.1 (some (vi r)) σ τ) := by
  unfold m_sixOf
  refine sm_top (fun K hRET => ?_)
  refine sm_b (l' := [(0, vi a1)]) (st' := [vi 65, vi a1]) (pc' := 3) [(.iload_n 0, vi 0, 1), (.bipush 65, vi 65, 3)] (by decide +kernel) rfl rfl ?_
  refine sm_gd (fun h1 => ?_)
  refine sm_case (V g mX4_sixOf d 19 [(0, vi a1)] [] σ τ Q) (V g mX4_sixOf d 12 [(0, vi a1)] [] σ τ Q) ?_ ?_ (fun f39 p40 n41 => ?_)
  · refine sm_b (l' := [(0, vi a1)]) (st' := [vi 97, vi a1]) (pc' := 22) [(.iload_n 0, vi 0, 20), (.bipush 97, vi 97, 22)] (by decide +kernel) rfl rfl ?_
    refine sm_case (V g mX4_sixOf d 41 [(0, vi a1)] [] σ τ Q) (V g mX4_sixOf d 31 [(0, vi a1)] [] σ τ Q) ?_ ?_ (fun f34 p35 n36 => ?_)
    · refine sm_b (l' := [(0, vi a1)]) (st' := [vi a1]) (pc' := 42) [(.iload_n 0, vi 0, 42)] (by decide +kernel) rfl rfl ?_
      refine sm_cs (N := mX4_isDigit) (d' := d - 1) (fun r => (some (vi r))) (fun _ => σ) (fun _ => τ) [vi a1] [] rfl (by decide +kernel) q1626 q1627 q138 (Or.inl ⟨rfl, q1628⟩) (show okN yX4_isDigit 1 = true by decide +kernel) rfl rfl (by omega) rfl (fun Q' => m_isDigit_ok G (d - 1) (by omega) a1 τ Q') (fun y10 => ?_)
      refine sm_gd (fun h11 => ?_)
      refine sm_case (V g mX4_sixOf d 58 [(0, vi a1)] [] σ τ Q) (V g mX4_sixOf d 48 [(0, vi a1)] [] σ τ Q) ?_ ?_ (fun f30 p31 n32 => ?_)
      · refine sm_b (l' := [(0, vi a1)]) (st' := [vi 43, vi a1]) (pc' := 61) [(.iload_n 0, vi 0, 59), (.bipush 43, vi 43, 61)] (by decide +kernel) rfl rfl ?_
        refine sm_case (V g mX4_sixOf d 70 [(0, vi a1)] [] σ τ Q) (V g mX4_sixOf d 75 [(0, vi a1)] [] σ τ Q) ?_ ?_ (fun f25 p26 n27 => ?_)
        · refine sm_b (l' := [(0, vi a1)]) (st' := [vi 62]) (pc' := 93) [(.bipush 62, vi 62, 72), (.goto 21, vi 0, 93)] (by decide +kernel) rfl rfl ?_
          exact sm_iret rfl (by decide +kernel) (fun h => hRET _ h)
        · refine sm_b (l' := [(0, vi a1)]) (st' := [vi 47, vi a1]) (pc' := 78) [(.iload_n 0, vi 0, 76), (.bipush 47, vi 47, 78)] (by decide +kernel) rfl rfl ?_
          refine sm_case (V g mX4_sixOf d 87 [(0, vi a1)] [] σ τ Q) (V g mX4_sixOf d 92 [(0, vi a1)] [] σ τ Q) ?_ ?_ (fun f20 p21 n22 => ?_)
          · refine sm_b (l' := [(0, vi a1)]) (st' := [vi 63]) (pc' := 93) [(.bipush 63, vi 63, 89), (.goto 4, vi 0, 93)] (by decide +kernel) rfl rfl ?_
            exact sm_iret rfl (by decide +kernel) (fun h => hRET _ h)
          · refine sm_b (l' := [(0, vi a1)]) (st' := [vi ((-1))]) (pc' := 93) [(.iconst (-1), vi (-1), 93)] (by decide +kernel) rfl rfl ?_
            exact sm_iret rfl (by decide +kernel) (fun h => hRET _ h)
          refine sm_icmp_eq (off := 9) (tgt := 87) h1 (by decide) (by decide +kernel) (fun c23 => ?_) (fun c23 => ?_)
          · exact p21 (Or.inl c23)
          · refine sm_b (l' := [(0, vi a1)]) (st' := [vi 95, vi a1]) (pc' := 84) [(.iload_n 0, vi 0, 82), (.bipush 95, vi 95, 84)] (by decide +kernel) rfl rfl ?_
            refine sm_icmp_ne (off := 8) (tgt := 92) h1 (by decide) (by decide +kernel) (fun c24 => ?_) (fun c24 => ?_)
            · exact n22 (fun q => q.elim c23 c24)
            · exact p21 (Or.inr c24)
        refine sm_icmp_eq (off := 9) (tgt := 70) h1 (by decide) (by decide +kernel) (fun c28 => ?_) (fun c28 => ?_)
        · exact p26 (Or.inl c28)
        · refine sm_b (l' := [(0, vi a1)]) (st' := [vi 45, vi a1]) (pc' := 67) [(.iload_n 0, vi 0, 65), (.bipush 45, vi 45, 67)] (by decide +kernel) rfl rfl ?_
          refine sm_icmp_ne (off := 8) (tgt := 75) h1 (by decide) (by decide +kernel) (fun c29 => ?_) (fun c29 => ?_)
          · exact n27 (fun q => q.elim c28 c29)
          · exact p26 (Or.inr c29)
      · refine sm_b (l' := [(0, vi a1)]) (st' := [vi ((a1 - 48) + 52)]) (pc' := 93) [(.iload_n 0, vi 0, 49), (.bipush 48, vi 48, 51), (.isub, vi 0, 52), (.bipush 52, vi 52, 54), (.iadd, vi 0, 55), (.goto 38, vi 0, 93)] (by decide +kernel) rfl rfl ?_
        exact sm_iret rfl (by decide +kernel) (fun h => hRET _ h)
      refine sm_if_eq (off := 13) (tgt := 58) h11 (by decide +kernel) (fun c33 => ?_) (fun c33 => ?_)
      · exact p31 c33
      · exact n32 c33
    · refine sm_b (l' := [(0, vi a1)]) (st' := [vi ((a1 - 97) + 26)]) (pc' := 93) [(.iload_n 0, vi 0, 32), (.bipush 97, vi 97, 34), (.isub, vi 0, 35), (.bipush 26, vi 26, 37), (.iadd, vi 0, 38), (.goto 55, vi 0, 93)] (by decide +kernel) rfl rfl ?_
      exact sm_iret rfl (by decide +kernel) (fun h => hRET _ h)
    refine sm_icmp_lt (off := 19) (tgt := 41) h1 (by decide) (by decide +kernel) (fun c37 => ?_) (fun c37 => ?_)
    · exact p35 (Or.inl c37)
    · refine sm_b (l' := [(0, vi a1)]) (st' := [vi 122, vi a1]) (pc' := 28) [(.iload_n 0, vi 0, 26), (.bipush 122, vi 122, 28)] (by decide +kernel) rfl rfl ?_
      refine sm_icmp_gt (off := 13) (tgt := 41) h1 (by decide) (by decide +kernel) (fun c38 => ?_) (fun c38 => ?_)
      · exact p35 (Or.inr c38)
      · exact n36 (fun q => q.elim c37 c38)
  · refine sm_b (l' := [(0, vi a1)]) (st' := [vi (a1 - 65)]) (pc' := 93) [(.iload_n 0, vi 0, 13), (.bipush 65, vi 65, 15), (.isub, vi 0, 16), (.goto 77, vi 0, 93)] (by decide +kernel) rfl rfl ?_
    exact sm_iret rfl (by decide +kernel) (fun h => hRET _ h)
  refine sm_icmp_lt (off := 16) (tgt := 19) h1 (by decide) (by decide +kernel) (fun c42 => ?_) (fun c42 => ?_)
  · exact p40 (Or.inl c42)
  · refine sm_b (l' := [(0, vi a1)]) (st' := [vi 90, vi a1]) (pc' := 9) [(.iload_n 0, vi 0, 7), (.bipush 90, vi 90, 9)] (by decide +kernel) rfl rfl ?_
    refine sm_icmp_gt (off := 10) (tgt := 19) h1 (by decide) (by decide +kernel) (fun c43 => ?_) (fun c43 => ?_)
    · exact p40 (Or.inr c43)
    · exact n41 (fun q => q.elim c42 c43)
def m_unbase_L74 (u1 : Int) : Nat → Int → Int → Int → Int → TT → Option ((Int × TT) ⊕ (Int × Int × Int × TT))
  | 0, _, _, _, _, _ => none
  | n + 1, w2, w3, w4, w5, τ => gd (rg w5) (gd (rg u1) (if u1 ≤ w5 then (some (Sum.inr ((w2, w3, w4, τ)))) else (gd (ib w5 1000) (Option.bind (m_sixOf (tA τ 56 w5.toNat)) fun y32 => gd (rg y32) (if y32 = ((-1)) then (some (Sum.inl ((0, τ)))) else (nm (iAnd (iOr (iShl w2 6) y32) 16777215) fun x36 => Option.bind (gd (rg (w3 + 6)) (if 8 ≤ (w3 + 6) then (gd (ib w4 1000) (nm (uA τ 56 w4.toNat (iAnd (iShr x36 ((w3 + 6) + (-8))) 255)) fun τ45 => some (((w3 + 6) + (-8), w4 + 1, τ45)))) else (some ((w3 + 6, w4, τ))))) fun (v40 : Int × Int × TT) => m_unbase_L74 u1 n x36 v40.1 v40.2.1 (w5 + 1) v40.2.2))))))
def m_unbase_L5 (τ : TT) : Nat → Int → Option (Int)
  | 0, _ => none
  | n + 1, w1 => gd (rg w1) (gd (¬ (w1 ≤ 0) → ib (w1 - 1) 1000) (gd (¬ (w1 ≤ 0) → rg (tA τ 56 (w1 - 1).toNat)) (if (w1 ≤ 0) ∨ (¬ ((tA τ 56 (w1 - 1).toNat) = 61)) then (some w1) else (m_unbase_L5 τ n (w1 + (-1))))))
def m_unbase  (τ : TT) : Option (Int × TT) := nm (tI τ 57) fun x1 => Option.bind (m_unbase_L5 τ FU x1) fun (v2 : Int) => Option.bind (gd (rg v2) (gd (rg (tI τ 57)) (if (tI τ 57) ≤ v2 then (some (Sum.inr (()))) else (gd ((iRem (tI τ 57) 4) = 0 → rg ((tI τ 57) - v2)) (if ((iRem (tI τ 57) 4) = 0) ∧ (¬ (2 < ((tI τ 57) - v2))) then (some (Sum.inr (()))) else (some (Sum.inl ((0, τ))))))))) (Sum.elim some fun (v9 : Unit) => if (iRem v2 4) = 1 then (some ((0, τ))) else (Option.bind (m_unbase_L74 v2 FU 0 0 0 0 τ) (Sum.elim some fun (v14 : Int × Int × Int × TT) => nm (uI v14.2.2.2 57 v14.2.2.1) fun τ18 => if (iAnd v14.1 ((iShl 1 v14.2.1) - 1)) = 0 then (some ((1, τ18))) else (some ((0, τ18))))))
set_option maxHeartbeats 4000000 in
theorem m_unbase_L74_ok {g : GE} (G : GG g) {σ : ST} {Q : VQ} (d : Nat) (hd1 : 2 ≤ d) (u1 : Int)  {K : (Int × TT) ⊕ (Int × Int × Int × TT) → Prop} (hRET : ∀ r : Int × TT, K (Sum.inl r) → Q.1 (some (vi r.1)) σ r.2) (hE150 : ∀ v25 : Int × Int × Int × TT, K (Sum.inr v25) → V g mX4_unbase d 150 [(0, vr (some (gw g))), (2, vi v25.1), (3, vi v25.2.1), (4, vi v25.2.2.1)] [] σ v25.2.2.2 Q) : ∀ (n : Nat) (w2 : Int) (w3 : Int) (w4 : Int) (w5 : Int) (τ : TT), Sm (V g mX4_unbase d 74 [(0, vr (some (gw g))), (1, vi u1), (2, vi w2), (3, vi w3), (4, vi w4), (5, vi w5)] [] σ τ Q) (m_unbase_L74 u1 n w2 w3 w4 w5 τ) K := by
  intro n
  induction n with
  | zero => intro w2 w3 w4 w5 τ; exact sm_none
  | succ n ih =>
    intro w2 w3 w4 w5 τ
    rw [m_unbase_L74.eq_2]
    refine sm_b (l' := [(0, vr (some (gw g))), (1, vi u1), (2, vi w2), (3, vi w3), (4, vi w4), (5, vi w5)]) (st' := [vi u1, vi w5]) (pc' := 77) [(.iload 5, vi 0, 76), (.iload_n 1, vi 0, 77)] (by decide +kernel) rfl rfl ?_
    refine sm_gd (fun h26 => ?_)
    refine sm_gd (fun h27 => ?_)
    refine sm_case (V g mX4_unbase d 150 [(0, vr (some (gw g))), (1, vi u1), (2, vi w2), (3, vi w3), (4, vi w4), (5, vi w5)] [] σ τ Q) (V g mX4_unbase d 80 [(0, vr (some (gw g))), (1, vi u1), (2, vi w2), (3, vi w3), (4, vi w4), (5, vi w5)] [] σ τ Q) ?_ ?_ (fun f54 p55 n56 => ?_)
    · refine sm_pick [0, 2, 3, 4] (l' := [(0, vr (some (gw g))), (2, vi w2), (3, vi w3), (4, vi w4)]) rfl ?_
      exact sm_leaf (fun h => hE150 _ h)
    · refine sm_b (l' := [(0, vr (some (gw g))), (1, vi u1), (2, vi w2), (3, vi w3), (4, vi w4), (5, vi w5)]) (st' := [vr (some (gw g))]) (pc' := 81) [(.aload_n 0, vi 0, 81)] (by decide +kernel) rfl rfl ?_
      refine sm_tg (k := 56) (x := vr (some (gT g 56))) G.2.1 q1474 rfl rfl (by decide +kernel) ?_
      refine sm_b (l' := [(0, vr (some (gw g))), (1, vi u1), (2, vi w2), (3, vi w3), (4, vi w4), (5, vi w5)]) (st' := [vi w5, vr (some (gT g 56))]) (pc' := 86) [(.iload 5, vi 0, 86)] (by decide +kernel) rfl rfl ?_
      refine sm_gd (fun h31 => ?_)
      refine sm_ial (k := 56) G.2.1 (by decide) rfl (ibt (k := 56) h31) h31 (by decide +kernel) ?_
      refine sm_cs (N := mX4_sixOf) (d' := d - 1) (fun r => (some (vi r))) (fun _ => σ) (fun _ => τ) [vi (tA τ 56 w5.toNat)] [] rfl (by decide +kernel) q1944 q1945 q138 (Or.inl ⟨rfl, q1946⟩) (show okN yX4_sixOf 1 = true by decide +kernel) rfl rfl (by omega) rfl (fun Q' => m_sixOf_ok G (d - 1) (by omega) (tA τ 56 w5.toNat) τ Q') (fun y32 => ?_)
      refine sm_b (l' := [(0, vr (some (gw g))), (1, vi u1), (2, vi w2), (3, vi w3), (4, vi w4), (5, vi w5), (6, vi y32)]) (st' := [vi ((-1)), vi y32]) (pc' := 95) [(.istore 6, vi 0, 92), (.iload 6, vi 0, 94), (.iconst (-1), vi (-1), 95)] (by decide +kernel) rfl rfl ?_
      refine sm_gd (fun h33 => ?_)
      refine sm_case (V g mX4_unbase d 98 [(0, vr (some (gw g))), (1, vi u1), (2, vi w2), (3, vi w3), (4, vi w4), (5, vi w5), (6, vi y32)] [] σ τ Q) (V g mX4_unbase d 100 [(0, vr (some (gw g))), (1, vi u1), (2, vi w2), (3, vi w3), (4, vi w4), (5, vi w5), (6, vi y32)] [] σ τ Q) ?_ ?_ (fun f50 p51 n52 => ?_)
      · refine sm_b (l' := [(0, vr (some (gw g))), (1, vi u1), (2, vi w2), (3, vi w3), (4, vi w4), (5, vi w5), (6, vi y32)]) (st' := [vi 0]) (pc' := 99) [(.iconst 0, vi 0, 99)] (by decide +kernel) rfl rfl ?_
        exact sm_zret rfl (by decide +kernel) (by decide) (fun h => hRET _ h)
      · refine sm_b (l' := [(0, vr (some (gw g))), (1, vi u1), (2, vi w2), (3, vi w3), (4, vi w4), (5, vi w5), (6, vi y32)]) (st' := [vi (iOr (iShl w2 6) y32)]) (pc' := 107) [(.iload_n 2, vi 0, 101), (.bipush 6, vi 6, 103), (.ishl, vi 0, 104), (.iload 6, vi 0, 106), (.ior, vi 0, 107)] (by decide +kernel) rfl rfl ?_
        refine sm_ldcw (x := 16777215) (by decide) (by decide +kernel) q1947 ?_
        refine sm_b (l' := [(0, vr (some (gw g))), (1, vi u1), (2, vi w2), (3, vi w3), (4, vi w4), (5, vi w5), (6, vi y32)]) (st' := [vi (iAnd (iOr (iShl w2 6) y32) 16777215)]) (pc' := 111) [(.iand, vi 0, 111)] (by decide +kernel) rfl rfl ?_
        refine sm_nmi (fun x36 => ?_)
        refine sm_b (l' := [(0, vr (some (gw g))), (1, vi u1), (2, vi x36), (3, vi (w3 + 6)), (4, vi w4), (5, vi w5), (6, vi y32)]) (st' := [vi 8, vi (w3 + 6)]) (pc' := 118) [(.istore_n 2, vi 0, 112), (.iinc 3 6, vi 6, 115), (.iload_n 3, vi 0, 116), (.bipush 8, vi 8, 118)] (by decide +kernel) rfl rfl ?_
        refine sm_bind1 (fun (v40 : Int × Int × TT) => V g mX4_unbase d 144 [(0, vr (some (gw g))), (1, vi u1), (2, vi x36), (3, vi v40.1), (4, vi v40.2.1), (5, vi w5)] [] σ v40.2.2 Q) (fun v40 => ?_) (fun K41 j42 => ?_)
        · refine sm_b (l' := [(0, vr (some (gw g))), (1, vi u1), (2, vi x36), (3, vi v40.1), (4, vi v40.2.1), (5, vi (w5 + 1))]) (st' := []) (pc' := 74) [(.iinc 5 1, vi 1, 147), (.goto (-73), vi 0, 74)] (by decide +kernel) rfl rfl ?_
          exact ih x36 v40.1 v40.2.1 (w5 + 1) v40.2.2
        · refine sm_gd (fun h37 => ?_)
          refine sm_case (V g mX4_unbase d 124 [(0, vr (some (gw g))), (1, vi u1), (2, vi x36), (3, vi (w3 + 6)), (4, vi w4), (5, vi w5), (6, vi y32)] [] σ τ Q) (V g mX4_unbase d 121 [(0, vr (some (gw g))), (1, vi u1), (2, vi x36), (3, vi (w3 + 6)), (4, vi w4), (5, vi w5), (6, vi y32)] [] σ τ Q) ?_ ?_ (fun f46 p47 n48 => ?_)
          · refine sm_b (l' := [(0, vr (some (gw g))), (1, vi u1), (2, vi x36), (3, vi ((w3 + 6) + (-8))), (4, vi w4), (5, vi w5), (6, vi y32)]) (st' := [vr (some (gw g))]) (pc' := 128) [(.iinc 3 (-8), vi (-8), 127), (.aload_n 0, vi 0, 128)] (by decide +kernel) rfl rfl ?_
            refine sm_tg (k := 56) (x := vr (some (gT g 56))) G.2.1 q1474 rfl rfl (by decide +kernel) ?_
            refine sm_b (l' := [(0, vr (some (gw g))), (1, vi u1), (2, vi x36), (3, vi ((w3 + 6) + (-8))), (4, vi w4), (5, vi w5), (6, vi y32)]) (st' := [vi (iAnd (iShr x36 ((w3 + 6) + (-8))) 255), vi w4, vr (some (gT g 56))]) (pc' := 140) [(.iload 4, vi 0, 133), (.iload_n 2, vi 0, 134), (.iload_n 3, vi 0, 135), (.ishr, vi 0, 136), (.sipush 255, vi 255, 139), (.iand, vi 0, 140)] (by decide +kernel) rfl rfl ?_
            refine sm_gd (fun h44 => ?_)
            refine sm_ias (k := 56) G.2.1 (by decide) rfl (ibt (k := 56) h44) h44 (by decide +kernel) ?_
            refine sm_nmt (fun τ45 => ?_)
            refine sm_b (l' := [(0, vr (some (gw g))), (1, vi u1), (2, vi x36), (3, vi ((w3 + 6) + (-8))), (4, vi (w4 + 1)), (5, vi w5), (6, vi y32)]) (st' := []) (pc' := 144) [(.iinc 4 1, vi 1, 144)] (by decide +kernel) rfl rfl ?_
            refine sm_pick [0, 1, 2, 3, 4, 5] (l' := [(0, vr (some (gw g))), (1, vi u1), (2, vi x36), (3, vi ((w3 + 6) + (-8))), (4, vi (w4 + 1)), (5, vi w5)]) rfl ?_
            exact sm_leaf (fun h => j42 _ h)
          · refine sm_b (l' := [(0, vr (some (gw g))), (1, vi u1), (2, vi x36), (3, vi (w3 + 6)), (4, vi w4), (5, vi w5), (6, vi y32)]) (st' := []) (pc' := 144) [(.goto 23, vi 0, 144)] (by decide +kernel) rfl rfl ?_
            refine sm_pick [0, 1, 2, 3, 4, 5] (l' := [(0, vr (some (gw g))), (1, vi u1), (2, vi x36), (3, vi (w3 + 6)), (4, vi w4), (5, vi w5)]) rfl ?_
            exact sm_leaf (fun h => j42 _ h)
          refine sm_icmp_ge (off := 6) (tgt := 124) h37 (by decide) (by decide +kernel) (fun c49 => ?_) (fun c49 => ?_)
          · exact p47 c49
          · exact n48 c49
      refine sm_icmp_ne (off := 5) (tgt := 100) h33 (by decide) (by decide +kernel) (fun c53 => ?_) (fun c53 => ?_)
      · exact n52 c53
      · exact p51 c53
    refine sm_icmp_ge (off := 73) (tgt := 150) h26 h27 (by decide +kernel) (fun c57 => ?_) (fun c57 => ?_)
    · exact p55 c57
    · exact n56 c57
set_option maxHeartbeats 4000000 in
theorem m_unbase_L5_ok {g : GE} (G : GG g) {σ : ST} {Q : VQ} (d : Nat) (hd1 : 2 ≤ d) (τ : TT)  {K : Int → Prop} (hE28 : ∀ v73 : Int, K (v73) → V g mX4_unbase d 28 [(0, vr (some (gw g))), (1, vi v73)] [] σ τ Q) : ∀ (n : Nat) (w1 : Int), Sm (V g mX4_unbase d 5 [(0, vr (some (gw g))), (1, vi w1)] [] σ τ Q) (m_unbase_L5 τ n w1) K := by
  intro n
  induction n with
  | zero => intro w1; exact sm_none
  | succ n ih =>
    intro w1
    rw [m_unbase_L5.eq_2]
    refine sm_b (l' := [(0, vr (some (gw g))), (1, vi w1)]) (st' := [vi w1]) (pc' := 6) [(.iload_n 1, vi 0, 6)] (by decide +kernel) rfl rfl ?_
    refine sm_gd (fun h74 => ?_)
    refine sm_gd (fun h76 => ?_)
    refine sm_gd (fun h77 => ?_)
    refine sm_case (V g mX4_unbase d 28 [(0, vr (some (gw g))), (1, vi w1)] [] σ τ Q) (V g mX4_unbase d 22 [(0, vr (some (gw g))), (1, vi w1)] [] σ τ Q) ?_ ?_ (fun f79 p80 n81 => ?_)
    · exact sm_leaf (fun h => hE28 _ h)
    · refine sm_b (l' := [(0, vr (some (gw g))), (1, vi (w1 + (-1)))]) (st' := []) (pc' := 5) [(.iinc 1 (-1), vi (-1), 25), (.goto (-20), vi 0, 5)] (by decide +kernel) rfl rfl ?_
      exact ih (w1 + (-1))
    refine sm_if_le (off := 22) (tgt := 28) h74 (by decide +kernel) (fun c82 => ?_) (fun c82 => ?_)
    · exact p80 (Or.inl c82)
    · have w75 : ¬ (w1 ≤ 0) := c82
      refine sm_b (l' := [(0, vr (some (gw g))), (1, vi w1)]) (st' := [vr (some (gw g))]) (pc' := 10) [(.aload_n 0, vi 0, 10)] (by decide +kernel) rfl rfl ?_
      refine sm_tg (k := 56) (x := vr (some (gT g 56))) G.2.1 q1474 rfl rfl (by decide +kernel) ?_
      refine sm_b (l' := [(0, vr (some (gw g))), (1, vi w1)]) (st' := [vi (w1 - 1), vr (some (gT g 56))]) (pc' := 16) [(.iload_n 1, vi 0, 14), (.iconst 1, vi 1, 15), (.isub, vi 0, 16)] (by decide +kernel) rfl rfl ?_
      refine sm_ial (k := 56) G.2.1 (by decide) rfl (ibt (k := 56) (h76 w75)) (h76 w75) (by decide +kernel) ?_
      refine sm_b (l' := [(0, vr (some (gw g))), (1, vi w1)]) (st' := [vi 61, vi (tA τ 56 (w1 - 1).toNat)]) (pc' := 19) [(.bipush 61, vi 61, 19)] (by decide +kernel) rfl rfl ?_
      refine sm_icmp_ne (off := 9) (tgt := 28) (h77 w75) (by decide) (by decide +kernel) (fun c83 => ?_) (fun c83 => ?_)
      · exact p80 (Or.inr c83)
      · exact n81 (fun q => q.elim c82 (fun q => q c83))
set_option maxHeartbeats 4000000 in
theorem m_unbase_ok {g : GE} (G : GG g) {σ : ST} (d : Nat) (hd1 : 2 ≤ d)   (τ : TT) (Q : VQ) : Sm (V g mX4_unbase d 0 [(0, vr (some (gw g)))] [] σ τ Q) (m_unbase τ) (fun r => Q.1 (some (vi r.1)) σ r.2) := by
  unfold m_unbase
  refine sm_top (fun K hRET => ?_)
  refine sm_b (l' := [(0, vr (some (gw g)))]) (st' := [vr (some (gw g))]) (pc' := 1) [(.aload_n 0, vi 0, 1)] (by decide +kernel) rfl rfl ?_
  refine sm_tg (k := 57) (x := vi (tI τ 57)) G.2.1 q1475 rfl rfl (by decide +kernel) ?_
  refine sm_nmi (fun x1 => ?_)
  refine sm_b (l' := [(0, vr (some (gw g))), (1, vi x1)]) (st' := []) (pc' := 5) [(.istore_n 1, vi 0, 5)] (by decide +kernel) rfl rfl ?_
  refine sm_bind1 (fun (v2 : Int) => V g mX4_unbase d 28 [(0, vr (some (gw g))), (1, vi v2)] [] σ τ Q) (fun v2 => ?_) (fun K3 j4 => ?_)
  · refine sm_b (l' := [(0, vr (some (gw g))), (1, vi v2)]) (st' := [vr (some (gw g)), vi v2]) (pc' := 30) [(.iload_n 1, vi 0, 29), (.aload_n 0, vi 0, 30)] (by decide +kernel) rfl rfl ?_
    refine sm_tg (k := 57) (x := vi (tI τ 57)) G.2.1 q1475 rfl rfl (by decide +kernel) ?_
    refine sm_bindS (fun (v9 : Unit) => V g mX4_unbase d 55 [(0, vr (some (gw g))), (1, vi v2)] [] σ τ Q) (fun v9 => ?_) (fun K10 o12 j11 => ?_)
    · refine sm_b (l' := [(0, vr (some (gw g))), (1, vi v2)]) (st' := [vi 4, vi v2]) (pc' := 57) [(.iload_n 1, vi 0, 56), (.iconst 4, vi 4, 57)] (by decide +kernel) rfl rfl ?_
      refine sm_irem (by decide +kernel) (by decide) ?_
      refine sm_b (l' := [(0, vr (some (gw g))), (1, vi v2)]) (st' := [vi 1, vi (iRem v2 4)]) (pc' := 59) [(.iconst 1, vi 1, 59)] (by decide +kernel) rfl rfl ?_
      refine sm_case (V g mX4_unbase d 62 [(0, vr (some (gw g))), (1, vi v2)] [] σ τ Q) (V g mX4_unbase d 64 [(0, vr (some (gw g))), (1, vi v2)] [] σ τ Q) ?_ ?_ (fun f58 p59 n60 => ?_)
      · refine sm_b (l' := [(0, vr (some (gw g))), (1, vi v2)]) (st' := [vi 0]) (pc' := 63) [(.iconst 0, vi 0, 63)] (by decide +kernel) rfl rfl ?_
        exact sm_zret rfl (by decide +kernel) (by decide) (fun h => hRET _ h)
      · refine sm_b (l' := [(0, vr (some (gw g))), (1, vi v2), (2, vi 0), (3, vi 0), (4, vi 0), (5, vi 0)]) (st' := []) (pc' := 74) [(.iconst 0, vi 0, 65), (.istore_n 2, vi 0, 66), (.iconst 0, vi 0, 67), (.istore_n 3, vi 0, 68), (.iconst 0, vi 0, 69), (.istore 4, vi 0, 71), (.iconst 0, vi 0, 72), (.istore 5, vi 0, 74)] (by decide +kernel) rfl rfl ?_
        refine sm_bindS (fun (v14 : Int × Int × Int × TT) => V g mX4_unbase d 150 [(0, vr (some (gw g))), (2, vi v14.1), (3, vi v14.2.1), (4, vi v14.2.2.1)] [] σ v14.2.2.2 Q) (fun v14 => ?_) (fun K15 o17 j16 => ?_)
        · refine sm_b (l' := [(0, vr (some (gw g))), (2, vi v14.1), (3, vi v14.2.1), (4, vi v14.2.2.1)]) (st' := [vi v14.2.2.1, vr (some (gw g))]) (pc' := 153) [(.aload_n 0, vi 0, 151), (.iload 4, vi 0, 153)] (by decide +kernel) rfl rfl ?_
          refine sm_tpi (k := 57) G.2.1 q1475 rfl rfl rfl (tp_57 g v14.2.2.2 v14.2.2.1) (by decide +kernel) ?_
          refine sm_nmt (fun τ18 => ?_)
          refine sm_b (l' := [(0, vr (some (gw g))), (2, vi v14.1), (3, vi v14.2.1), (4, vi v14.2.2.1)]) (st' := [vi (iAnd v14.1 ((iShl 1 v14.2.1) - 1))]) (pc' := 163) [(.iload_n 2, vi 0, 157), (.iconst 1, vi 1, 158), (.iload_n 3, vi 0, 159), (.ishl, vi 0, 160), (.iconst 1, vi 1, 161), (.isub, vi 0, 162), (.iand, vi 0, 163)] (by decide +kernel) rfl rfl ?_
          refine sm_case (V g mX4_unbase d 166 [(0, vr (some (gw g))), (2, vi v14.1), (3, vi v14.2.1), (4, vi v14.2.2.1)] [] σ τ18 Q) (V g mX4_unbase d 170 [(0, vr (some (gw g))), (2, vi v14.1), (3, vi v14.2.1), (4, vi v14.2.2.1)] [] σ τ18 Q) ?_ ?_ (fun f21 p22 n23 => ?_)
          · refine sm_b (l' := [(0, vr (some (gw g))), (2, vi v14.1), (3, vi v14.2.1), (4, vi v14.2.2.1)]) (st' := [vi 1]) (pc' := 171) [(.iconst 1, vi 1, 167), (.goto 4, vi 0, 171)] (by decide +kernel) rfl rfl ?_
            exact sm_zret rfl (by decide +kernel) (by decide) (fun h => hRET _ h)
          · refine sm_b (l' := [(0, vr (some (gw g))), (2, vi v14.1), (3, vi v14.2.1), (4, vi v14.2.2.1)]) (st' := [vi 0]) (pc' := 171) [(.iconst 0, vi 0, 171)] (by decide +kernel) rfl rfl ?_
            exact sm_zret rfl (by decide +kernel) (by decide) (fun h => hRET _ h)
          refine sm_if_ne (off := 7) (tgt := 170) (rg_in _) (by decide +kernel) (fun c24 => ?_) (fun c24 => ?_)
          · exact n23 c24
          · exact p22 c24
        · exact m_unbase_L74_ok G d hd1 v2  (fun r h => hRET _ (o17 _ h)) (fun _ h => j16 _ h) FU 0 0 0 0 τ
      refine sm_icmp_ne (off := 5) (tgt := 64) (rg_in _) (by decide) (by decide +kernel) (fun c61 => ?_) (fun c61 => ?_)
      · exact n60 c61
      · exact p59 c61
    · refine sm_gd (fun h6 => ?_)
      refine sm_gd (fun h7 => ?_)
      refine sm_case (V g mX4_unbase d 55 [(0, vr (some (gw g))), (1, vi v2)] [] σ τ Q) (V g mX4_unbase d 36 [(0, vr (some (gw g))), (1, vi v2)] [] σ τ Q) ?_ ?_ (fun f69 p70 n71 => ?_)
      · exact sm_leaf (fun h => j11 _ h)
      · refine sm_b (l' := [(0, vr (some (gw g))), (1, vi v2)]) (st' := [vr (some (gw g))]) (pc' := 37) [(.aload_n 0, vi 0, 37)] (by decide +kernel) rfl rfl ?_
        refine sm_tg (k := 57) (x := vi (tI τ 57)) G.2.1 q1475 rfl rfl (by decide +kernel) ?_
        refine sm_b (l' := [(0, vr (some (gw g))), (1, vi v2)]) (st' := [vi 4, vi (tI τ 57)]) (pc' := 41) [(.iconst 4, vi 4, 41)] (by decide +kernel) rfl rfl ?_
        refine sm_irem (by decide +kernel) (by decide) ?_
        refine sm_gd (fun h63 => ?_)
        refine sm_case (V g mX4_unbase d 55 [(0, vr (some (gw g))), (1, vi v2)] [] σ τ Q) (V g mX4_unbase d 62 [(0, vr (some (gw g))), (1, vi v2)] [] σ τ Q) ?_ ?_ (fun f64 p65 n66 => ?_)
        · exact sm_leaf (fun h => j11 _ h)
        · refine sm_b (l' := [(0, vr (some (gw g))), (1, vi v2)]) (st' := [vi 0]) (pc' := 63) [(.iconst 0, vi 0, 63)] (by decide +kernel) rfl rfl ?_
          exact sm_zret rfl (by decide +kernel) (by decide) (fun h => hRET _ (o12 _ h))
        refine sm_if_ne (off := 20) (tgt := 62) (rg_in _) (by decide +kernel) (fun c67 => ?_) (fun c67 => ?_)
        · exact n66 (fun q => c67 q.1)
        · have w62 : (iRem (tI τ 57) 4) = 0 := c67
          refine sm_b (l' := [(0, vr (some (gw g))), (1, vi v2)]) (st' := [vr (some (gw g))]) (pc' := 46) [(.aload_n 0, vi 0, 46)] (by decide +kernel) rfl rfl ?_
          refine sm_tg (k := 57) (x := vi (tI τ 57)) G.2.1 q1475 rfl rfl (by decide +kernel) ?_
          refine sm_b (l' := [(0, vr (some (gw g))), (1, vi v2)]) (st' := [vi 2, vi ((tI τ 57) - v2)]) (pc' := 52) [(.iload_n 1, vi 0, 50), (.isub, vi 0, 51), (.iconst 2, vi 2, 52)] (by decide +kernel) rfl rfl ?_
          refine sm_icmp_gt (off := 10) (tgt := 62) (h63 w62) (by decide) (by decide +kernel) (fun c68 => ?_) (fun c68 => ?_)
          · exact n66 (fun q => (fun q => q c68) q.2)
          · exact p65 ⟨c67, c68⟩
      refine sm_icmp_ge (off := 22) (tgt := 55) h6 h7 (by decide +kernel) (fun c72 => ?_) (fun c72 => ?_)
      · exact p70 c72
      · exact n71 c72
  · exact m_unbase_L5_ok G d hd1 τ  (fun _ h => j4 _ h) FU x1
def m_valueNamed_L46 (u1 : Int) (u2 : Int) (τ : TT) : Nat → Int → Int → Option (Int)
  | 0, _, _ => none
  | n + 1, w3, w4 => gd (rg w4) (gd (rg (tI τ 57)) (gd (¬ ((tI τ 57) ≤ w4) → rg w3) (if ((tI τ 57) ≤ w4) ∨ (w3 = 0) then (some w3) else (gd (ib u2 40) (gd (ib (tA τ 19 u2.toNat) 1001) (gd (ib ((tA τ 10 (tA τ 19 u2.toNat).toNat) + w4) 1000) (gd (ib w4 1000) (Option.bind (gd (rg (tA τ 8 ((tA τ 10 (tA τ 19 u2.toNat).toNat) + w4).toNat)) (gd (rg (tA τ 56 w4.toNat)) (if (tA τ 8 ((tA τ 10 (tA τ 19 u2.toNat).toNat) + w4).toNat) = (tA τ 56 w4.toNat) then (some 1) else (some 0)))) fun (v54 : Int) => m_valueNamed_L46 u1 u2 τ n v54 (w4 + 1)))))))))
def m_valueNamed_L2 (u1 : Int) (τ : TT) : Nat → Int → Option (Int)
  | 0, _ => none
  | n + 1, w2 => gd (rg w2) (gd (rg (tI τ 37)) (if (tI τ 37) ≤ w2 then (some (((-1)))) else (gd (ib w2 40) (Option.bind (gd (rg (tA τ 21 w2.toNat)) (gd (rg u1) (if (tA τ 21 w2.toNat) = u1 then (gd (ib (tA τ 19 w2.toNat) 1001) (gd (rg (tA τ 11 (tA τ 19 w2.toNat).toNat)) (gd (rg (tI τ 57)) (if (tA τ 11 (tA τ 19 w2.toNat).toNat) = (tI τ 57) then (Option.bind (m_valueNamed_L46 u1 w2 τ FU 1 0) fun (v24 : Int) => gd (rg v24) (if v24 = 0 then (some (Sum.inr (()))) else (some (Sum.inl w2)))) else (some (Sum.inr (()))))))) else (some (Sum.inr (())))))) (Sum.elim some fun (v15 : Unit) => m_valueNamed_L2 u1 τ n (w2 + 1))))))
def m_valueNamed (a1 : Int) (τ : TT) : Option (Int) := m_valueNamed_L2 a1 τ FU 0
set_option maxHeartbeats 4000000 in
theorem m_valueNamed_L46_ok {g : GE} (G : GG g) {σ : ST} {Q : VQ} (d : Nat) (hd1 : 0 ≤ d) (u1 : Int) (u2 : Int) (τ : TT)  {K : Int → Prop} (hE100 : ∀ v34 : Int, K (v34) → V g mX4_valueNamed d 100 [(0, vr (some (gw g))), (1, vi u1), (2, vi u2), (3, vi v34)] [] σ τ Q) : ∀ (n : Nat) (w3 : Int) (w4 : Int), Sm (V g mX4_valueNamed d 46 [(0, vr (some (gw g))), (1, vi u1), (2, vi u2), (3, vi w3), (4, vi w4)] [] σ τ Q) (m_valueNamed_L46 u1 u2 τ n w3 w4) K := by
  intro n
  induction n with
  | zero => intro w3 w4; exact sm_none
  | succ n ih =>
    intro w3 w4
    rw [m_valueNamed_L46.eq_2]
    refine sm_b (l' := [(0, vr (some (gw g))), (1, vi u1), (2, vi u2), (3, vi w3), (4, vi w4)]) (st' := [vr (some (gw g)), vi w4]) (pc' := 49) [(.iload 4, vi 0, 48), (.aload_n 0, vi 0, 49)] (by decide +kernel) rfl rfl ?_
    refine sm_tg (k := 57) (x := vi (tI τ 57)) G.2.1 q1475 rfl rfl (by decide +kernel) ?_
    refine sm_gd (fun h35 => ?_)
    refine sm_gd (fun h36 => ?_)
    refine sm_gd (fun h38 => ?_)
    refine sm_case (V g mX4_valueNamed d 100 [(0, vr (some (gw g))), (1, vi u1), (2, vi u2), (3, vi w3), (4, vi w4)] [] σ τ Q) (V g mX4_valueNamed d 59 [(0, vr (some (gw g))), (1, vi u1), (2, vi u2), (3, vi w3), (4, vi w4)] [] σ τ Q) ?_ ?_ (fun f62 p63 n64 => ?_)
    · refine sm_pick [0, 1, 2, 3] (l' := [(0, vr (some (gw g))), (1, vi u1), (2, vi u2), (3, vi w3)]) rfl ?_
      exact sm_leaf (fun h => hE100 _ h)
    · refine sm_b (l' := [(0, vr (some (gw g))), (1, vi u1), (2, vi u2), (3, vi w3), (4, vi w4)]) (st' := [vr (some (gw g))]) (pc' := 60) [(.aload_n 0, vi 0, 60)] (by decide +kernel) rfl rfl ?_
      refine sm_tg (k := 8) (x := vr (some (gT g 8))) G.2.1 q1426 rfl rfl (by decide +kernel) ?_
      refine sm_b (l' := [(0, vr (some (gw g))), (1, vi u1), (2, vi u2), (3, vi w3), (4, vi w4)]) (st' := [vr (some (gw g)), vr (some (gT g 8))]) (pc' := 64) [(.aload_n 0, vi 0, 64)] (by decide +kernel) rfl rfl ?_
      refine sm_tg (k := 10) (x := vr (some (gT g 10))) G.2.1 q1428 rfl rfl (by decide +kernel) ?_
      refine sm_b (l' := [(0, vr (some (gw g))), (1, vi u1), (2, vi u2), (3, vi w3), (4, vi w4)]) (st' := [vr (some (gw g)), vr (some (gT g 10)), vr (some (gT g 8))]) (pc' := 68) [(.aload_n 0, vi 0, 68)] (by decide +kernel) rfl rfl ?_
      refine sm_tg (k := 19) (x := vr (some (gT g 19))) G.2.1 q1437 rfl rfl (by decide +kernel) ?_
      refine sm_b (l' := [(0, vr (some (gw g))), (1, vi u1), (2, vi u2), (3, vi w3), (4, vi w4)]) (st' := [vi u2, vr (some (gT g 19)), vr (some (gT g 10)), vr (some (gT g 8))]) (pc' := 72) [(.iload_n 2, vi 0, 72)] (by decide +kernel) rfl rfl ?_
      refine sm_gd (fun h46 => ?_)
      refine sm_ial (k := 19) G.2.1 (by decide) rfl (ibt (k := 19) h46) h46 (by decide +kernel) ?_
      refine sm_gd (fun h47 => ?_)
      refine sm_ial (k := 10) G.2.1 (by decide) rfl (ibt (k := 10) h47) h47 (by decide +kernel) ?_
      refine sm_b (l' := [(0, vr (some (gw g))), (1, vi u1), (2, vi u2), (3, vi w3), (4, vi w4)]) (st' := [vi ((tA τ 10 (tA τ 19 u2.toNat).toNat) + w4), vr (some (gT g 8))]) (pc' := 77) [(.iload 4, vi 0, 76), (.iadd, vi 0, 77)] (by decide +kernel) rfl rfl ?_
      refine sm_gd (fun h48 => ?_)
      refine sm_ial (k := 8) G.2.1 (by decide) rfl (ibt (k := 8) h48) h48 (by decide +kernel) ?_
      refine sm_b (l' := [(0, vr (some (gw g))), (1, vi u1), (2, vi u2), (3, vi w3), (4, vi w4)]) (st' := [vr (some (gw g)), vi (tA τ 8 ((tA τ 10 (tA τ 19 u2.toNat).toNat) + w4).toNat)]) (pc' := 79) [(.aload_n 0, vi 0, 79)] (by decide +kernel) rfl rfl ?_
      refine sm_tg (k := 56) (x := vr (some (gT g 56))) G.2.1 q1474 rfl rfl (by decide +kernel) ?_
      refine sm_b (l' := [(0, vr (some (gw g))), (1, vi u1), (2, vi u2), (3, vi w3), (4, vi w4)]) (st' := [vi w4, vr (some (gT g 56)), vi (tA τ 8 ((tA τ 10 (tA τ 19 u2.toNat).toNat) + w4).toNat)]) (pc' := 84) [(.iload 4, vi 0, 84)] (by decide +kernel) rfl rfl ?_
      refine sm_gd (fun h49 => ?_)
      refine sm_ial (k := 56) G.2.1 (by decide) rfl (ibt (k := 56) h49) h49 (by decide +kernel) ?_
      refine sm_bind1 (fun (v54 : Int) => V g mX4_valueNamed d 93 [(0, vr (some (gw g))), (1, vi u1), (2, vi u2), (4, vi w4)] [vi v54] σ τ Q) (fun v54 => ?_) (fun K55 j56 => ?_)
      · refine sm_b (l' := [(0, vr (some (gw g))), (1, vi u1), (2, vi u2), (4, vi (w4 + 1)), (3, vi v54)]) (st' := []) (pc' := 46) [(.istore_n 3, vi 0, 94), (.iinc 4 1, vi 1, 97), (.goto (-51), vi 0, 46)] (by decide +kernel) rfl rfl ?_
        refine sm_pick [0, 1, 2, 4, 3] (l' := [(0, vr (some (gw g))), (1, vi u1), (2, vi u2), (3, vi v54), (4, vi (w4 + 1))]) rfl ?_
        exact ih v54 (w4 + 1)
      · refine sm_gd (fun h50 => ?_)
        refine sm_gd (fun h51 => ?_)
        refine sm_case (V g mX4_valueNamed d 88 [(0, vr (some (gw g))), (1, vi u1), (2, vi u2), (3, vi w3), (4, vi w4)] [] σ τ Q) (V g mX4_valueNamed d 92 [(0, vr (some (gw g))), (1, vi u1), (2, vi u2), (3, vi w3), (4, vi w4)] [] σ τ Q) ?_ ?_ (fun f58 p59 n60 => ?_)
        · refine sm_b (l' := [(0, vr (some (gw g))), (1, vi u1), (2, vi u2), (3, vi w3), (4, vi w4)]) (st' := [vi 1]) (pc' := 93) [(.iconst 1, vi 1, 89), (.goto 4, vi 0, 93)] (by decide +kernel) rfl rfl ?_
          refine sm_pick [0, 1, 2, 4] (l' := [(0, vr (some (gw g))), (1, vi u1), (2, vi u2), (4, vi w4)]) rfl ?_
          exact sm_leaf (fun h => j56 _ h)
        · refine sm_b (l' := [(0, vr (some (gw g))), (1, vi u1), (2, vi u2), (3, vi w3), (4, vi w4)]) (st' := [vi 0]) (pc' := 93) [(.iconst 0, vi 0, 93)] (by decide +kernel) rfl rfl ?_
          refine sm_pick [0, 1, 2, 4] (l' := [(0, vr (some (gw g))), (1, vi u1), (2, vi u2), (4, vi w4)]) rfl ?_
          exact sm_leaf (fun h => j56 _ h)
        refine sm_icmp_ne (off := 7) (tgt := 92) h50 h51 (by decide +kernel) (fun c61 => ?_) (fun c61 => ?_)
        · exact n60 c61
        · exact p59 c61
    refine sm_icmp_ge (off := 48) (tgt := 100) h35 h36 (by decide +kernel) (fun c65 => ?_) (fun c65 => ?_)
    · exact p63 (Or.inl c65)
    · have w37 : ¬ ((tI τ 57) ≤ w4) := c65
      refine sm_b (l' := [(0, vr (some (gw g))), (1, vi u1), (2, vi u2), (3, vi w3), (4, vi w4)]) (st' := [vi w3]) (pc' := 56) [(.iload_n 3, vi 0, 56)] (by decide +kernel) rfl rfl ?_
      refine sm_if_eq (off := 44) (tgt := 100) (h38 w37) (by decide +kernel) (fun c66 => ?_) (fun c66 => ?_)
      · exact p63 (Or.inr c66)
      · exact n64 (fun q => q.elim c65 c66)
set_option maxHeartbeats 4000000 in
theorem m_valueNamed_L2_ok {g : GE} (G : GG g) {σ : ST} {Q : VQ} (d : Nat) (hd1 : 0 ≤ d) (u1 : Int) (τ : TT)  {K : Int → Prop} (hRET : ∀ r : Int, K (r) → Q.1 (some (vi r)) σ τ) : ∀ (n : Nat) (w2 : Int), Sm (V g mX4_valueNamed d 2 [(0, vr (some (gw g))), (1, vi u1), (2, vi w2)] [] σ τ Q) (m_valueNamed_L2 u1 τ n w2) K := by
  intro n
  induction n with
  | zero => intro w2; exact sm_none
  | succ n ih =>
    intro w2
    rw [m_valueNamed_L2.eq_2]
    refine sm_b (l' := [(0, vr (some (gw g))), (1, vi u1), (2, vi w2)]) (st' := [vr (some (gw g)), vi w2]) (pc' := 4) [(.iload_n 2, vi 0, 3), (.aload_n 0, vi 0, 4)] (by decide +kernel) rfl rfl ?_
    refine sm_tg (k := 37) (x := vi (tI τ 37)) G.2.1 q1455 rfl rfl (by decide +kernel) ?_
    refine sm_gd (fun h1 => ?_)
    refine sm_gd (fun h2 => ?_)
    refine sm_case (V g mX4_valueNamed d 112 [(0, vr (some (gw g))), (1, vi u1), (2, vi w2)] [] σ τ Q) (V g mX4_valueNamed d 10 [(0, vr (some (gw g))), (1, vi u1), (2, vi w2)] [] σ τ Q) ?_ ?_ (fun f75 p76 n77 => ?_)
    · refine sm_b (l' := [(0, vr (some (gw g))), (1, vi u1), (2, vi w2)]) (st' := [vi ((-1))]) (pc' := 113) [(.iconst (-1), vi (-1), 113)] (by decide +kernel) rfl rfl ?_
      exact sm_iret rfl (by decide +kernel) (fun h => hRET _ h)
    · refine sm_b (l' := [(0, vr (some (gw g))), (1, vi u1), (2, vi w2)]) (st' := [vr (some (gw g))]) (pc' := 11) [(.aload_n 0, vi 0, 11)] (by decide +kernel) rfl rfl ?_
      refine sm_tg (k := 21) (x := vr (some (gT g 21))) G.2.1 q1439 rfl rfl (by decide +kernel) ?_
      refine sm_b (l' := [(0, vr (some (gw g))), (1, vi u1), (2, vi w2)]) (st' := [vi w2, vr (some (gT g 21))]) (pc' := 15) [(.iload_n 2, vi 0, 15)] (by decide +kernel) rfl rfl ?_
      refine sm_gd (fun h8 => ?_)
      refine sm_ial (k := 21) G.2.1 (by decide) rfl (ibt (k := 21) h8) h8 (by decide +kernel) ?_
      refine sm_b (l' := [(0, vr (some (gw g))), (1, vi u1), (2, vi w2)]) (st' := [vi u1, vi (tA τ 21 w2.toNat)]) (pc' := 17) [(.iload_n 1, vi 0, 17)] (by decide +kernel) rfl rfl ?_
      refine sm_bindS (fun (v15 : Unit) => V g mX4_valueNamed d 106 [(0, vr (some (gw g))), (1, vi u1), (2, vi w2)] [] σ τ Q) (fun v15 => ?_) (fun K16 o18 j17 => ?_)
      · refine sm_b (l' := [(0, vr (some (gw g))), (1, vi u1), (2, vi (w2 + 1))]) (st' := []) (pc' := 2) [(.iinc 2 1, vi 1, 109), (.goto (-107), vi 0, 2)] (by decide +kernel) rfl rfl ?_
        exact ih (w2 + 1)
      · refine sm_gd (fun h9 => ?_)
        refine sm_gd (fun h10 => ?_)
        refine sm_case (V g mX4_valueNamed d 20 [(0, vr (some (gw g))), (1, vi u1), (2, vi w2)] [] σ τ Q) (V g mX4_valueNamed d 106 [(0, vr (some (gw g))), (1, vi u1), (2, vi w2)] [] σ τ Q) ?_ ?_ (fun f71 p72 n73 => ?_)
        · refine sm_b (l' := [(0, vr (some (gw g))), (1, vi u1), (2, vi w2)]) (st' := [vr (some (gw g))]) (pc' := 21) [(.aload_n 0, vi 0, 21)] (by decide +kernel) rfl rfl ?_
          refine sm_tg (k := 11) (x := vr (some (gT g 11))) G.2.1 q1429 rfl rfl (by decide +kernel) ?_
          refine sm_b (l' := [(0, vr (some (gw g))), (1, vi u1), (2, vi w2)]) (st' := [vr (some (gw g)), vr (some (gT g 11))]) (pc' := 25) [(.aload_n 0, vi 0, 25)] (by decide +kernel) rfl rfl ?_
          refine sm_tg (k := 19) (x := vr (some (gT g 19))) G.2.1 q1437 rfl rfl (by decide +kernel) ?_
          refine sm_b (l' := [(0, vr (some (gw g))), (1, vi u1), (2, vi w2)]) (st' := [vi w2, vr (some (gT g 19)), vr (some (gT g 11))]) (pc' := 29) [(.iload_n 2, vi 0, 29)] (by decide +kernel) rfl rfl ?_
          refine sm_ial (k := 19) G.2.1 (by decide) rfl (ibt (k := 19) h8) h8 (by decide +kernel) ?_
          refine sm_gd (fun h19 => ?_)
          refine sm_ial (k := 11) G.2.1 (by decide) rfl (ibt (k := 11) h19) h19 (by decide +kernel) ?_
          refine sm_b (l' := [(0, vr (some (gw g))), (1, vi u1), (2, vi w2)]) (st' := [vr (some (gw g)), vi (tA τ 11 (tA τ 19 w2.toNat).toNat)]) (pc' := 32) [(.aload_n 0, vi 0, 32)] (by decide +kernel) rfl rfl ?_
          refine sm_tg (k := 57) (x := vi (tI τ 57)) G.2.1 q1475 rfl rfl (by decide +kernel) ?_
          refine sm_gd (fun h20 => ?_)
          refine sm_gd (fun h21 => ?_)
          refine sm_case (V g mX4_valueNamed d 41 [(0, vr (some (gw g))), (1, vi u1), (2, vi w2)] [] σ τ Q) (V g mX4_valueNamed d 38 [(0, vr (some (gw g))), (1, vi u1), (2, vi w2)] [] σ τ Q) ?_ ?_ (fun f67 p68 n69 => ?_)
          · refine sm_b (l' := [(0, vr (some (gw g))), (1, vi u1), (2, vi w2), (3, vi 1), (4, vi 0)]) (st' := []) (pc' := 46) [(.iconst 1, vi 1, 42), (.istore_n 3, vi 0, 43), (.iconst 0, vi 0, 44), (.istore 4, vi 0, 46)] (by decide +kernel) rfl rfl ?_
            refine sm_bind1 (fun (v24 : Int) => V g mX4_valueNamed d 100 [(0, vr (some (gw g))), (1, vi u1), (2, vi w2), (3, vi v24)] [] σ τ Q) (fun v24 => ?_) (fun K25 j26 => ?_)
            · refine sm_b (l' := [(0, vr (some (gw g))), (1, vi u1), (2, vi w2), (3, vi v24)]) (st' := [vi v24]) (pc' := 101) [(.iload_n 3, vi 0, 101)] (by decide +kernel) rfl rfl ?_
              refine sm_gd (fun h28 => ?_)
              refine sm_case (V g mX4_valueNamed d 106 [(0, vr (some (gw g))), (1, vi u1), (2, vi w2), (3, vi v24)] [] σ τ Q) (V g mX4_valueNamed d 104 [(0, vr (some (gw g))), (1, vi u1), (2, vi w2), (3, vi v24)] [] σ τ Q) ?_ ?_ (fun f30 p31 n32 => ?_)
              · refine sm_pick [0, 1, 2] (l' := [(0, vr (some (gw g))), (1, vi u1), (2, vi w2)]) rfl ?_
                exact sm_leaf (fun h => j17 _ h)
              · refine sm_b (l' := [(0, vr (some (gw g))), (1, vi u1), (2, vi w2), (3, vi v24)]) (st' := [vi w2]) (pc' := 105) [(.iload_n 2, vi 0, 105)] (by decide +kernel) rfl rfl ?_
                exact sm_iret rfl (by decide +kernel) (fun h => hRET _ (o18 _ h))
              refine sm_if_eq (off := 5) (tgt := 106) h28 (by decide +kernel) (fun c33 => ?_) (fun c33 => ?_)
              · exact p31 c33
              · exact n32 c33
            · exact m_valueNamed_L46_ok G d hd1 u1 w2 τ  (fun _ h => j26 _ h) FU 1 0
          · refine sm_b (l' := [(0, vr (some (gw g))), (1, vi u1), (2, vi w2)]) (st' := []) (pc' := 106) [(.goto 68, vi 0, 106)] (by decide +kernel) rfl rfl ?_
            exact sm_leaf (fun h => j17 _ h)
          refine sm_icmp_eq (off := 6) (tgt := 41) h20 h21 (by decide +kernel) (fun c70 => ?_) (fun c70 => ?_)
          · exact p68 c70
          · exact n69 c70
        · exact sm_leaf (fun h => j17 _ h)
        refine sm_icmp_ne (off := 89) (tgt := 106) h9 h10 (by decide +kernel) (fun c74 => ?_) (fun c74 => ?_)
        · exact n73 c74
        · exact p72 c74
    refine sm_icmp_ge (off := 105) (tgt := 112) h1 h2 (by decide +kernel) (fun c78 => ?_) (fun c78 => ?_)
    · exact p76 c78
    · exact n77 c78
set_option maxHeartbeats 4000000 in
theorem m_valueNamed_ok {g : GE} (G : GG g) {σ : ST} (d : Nat) (hd1 : 0 ≤ d) (a1 : Int)  (τ : TT) (Q : VQ) : Sm (V g mX4_valueNamed d 0 [(0, vr (some (gw g))), (1, vi a1)] [] σ τ Q) (m_valueNamed a1 τ) (fun r => Q.1 (some (vi r)) σ τ) := by
  unfold m_valueNamed
  refine sm_top (fun K hRET => ?_)
  refine sm_b (l' := [(0, vr (some (gw g))), (1, vi a1), (2, vi 0)]) (st' := []) (pc' := 2) [(.iconst 0, vi 0, 1), (.istore_n 2, vi 0, 2)] (by decide +kernel) rfl rfl ?_
  exact m_valueNamed_L2_ok G d hd1 a1 τ  (fun r h => hRET _ h) FU 0
def m_symbol (a1 : Int) (τ : TT) : Option (Int) := gd (rg (tI τ 58)) (if (tI τ 58) = 0 then (Option.bind (m_look a1 τ) fun y7 => some y7) else (gd (rg a1) (gd (rg (tI τ 57)) (if (tI τ 57) ≤ a1 then (some (((-1)))) else (gd (ib a1 1000) (some ((tA τ 56 a1.toNat))))))))
set_option maxHeartbeats 4000000 in
theorem m_symbol_ok {g : GE} (G : GG g) {σ : ST} (d : Nat) (hd1 : 1 ≤ d) (a1 : Int)  (τ : TT) (Q : VQ) : Sm (V g mX4_symbol d 0 [(0, vr (some (gw g))), (1, vi a1)] [] σ τ Q) (m_symbol a1 τ) (fun r => Q.1 (some (vi r)) σ τ) := by
  unfold m_symbol
  refine sm_top (fun K hRET => ?_)
  refine sm_b (l' := [(0, vr (some (gw g))), (1, vi a1)]) (st' := [vr (some (gw g))]) (pc' := 1) [(.aload_n 0, vi 0, 1)] (by decide +kernel) rfl rfl ?_
  refine sm_tg (k := 58) (x := vi (tI τ 58)) G.2.1 q1476 rfl rfl (by decide +kernel) ?_
  refine sm_gd (fun h1 => ?_)
  refine sm_case (V g mX4_symbol d 7 [(0, vr (some (gw g))), (1, vi a1)] [] σ τ Q) (V g mX4_symbol d 15 [(0, vr (some (gw g))), (1, vi a1)] [] σ τ Q) ?_ ?_ (fun f18 p19 n20 => ?_)
  · refine sm_b (l' := [(0, vr (some (gw g))), (1, vi a1)]) (st' := [vi a1, vr (some (gw g))]) (pc' := 9) [(.aload_n 0, vi 0, 8), (.iload_n 1, vi 0, 9)] (by decide +kernel) rfl rfl ?_
    refine sm_cv (N := mX4_look) (d' := d - 1) (fun r => (some (vi r))) (fun _ => σ) (fun _ => τ) [vi a1] [] rfl (by decide +kernel) q1902 q1904 qs103 (Or.inl ⟨rfl, q1905⟩) (show okN yX4_look 1 = true by decide +kernel) (fun H hR => hR.rvw G.1 G.2.1) rfl rfl (by omega) rfl (fun Q' => m_look_ok G (d - 1) (by omega) a1 τ Q') (fun y7 => ?_)
    refine sm_b (l' := [(0, vr (some (gw g))), (1, vi a1)]) (st' := [vi y7]) (pc' := 33) [(.goto 21, vi 0, 33)] (by decide +kernel) rfl rfl ?_
    exact sm_iret rfl (by decide +kernel) (fun h => hRET _ h)
  · refine sm_b (l' := [(0, vr (some (gw g))), (1, vi a1)]) (st' := [vr (some (gw g)), vi a1]) (pc' := 17) [(.iload_n 1, vi 0, 16), (.aload_n 0, vi 0, 17)] (by decide +kernel) rfl rfl ?_
    refine sm_tg (k := 57) (x := vi (tI τ 57)) G.2.1 q1475 rfl rfl (by decide +kernel) ?_
    refine sm_gd (fun h8 => ?_)
    refine sm_gd (fun h9 => ?_)
    refine sm_case (V g mX4_symbol d 32 [(0, vr (some (gw g))), (1, vi a1)] [] σ τ Q) (V g mX4_symbol d 23 [(0, vr (some (gw g))), (1, vi a1)] [] σ τ Q) ?_ ?_ (fun f14 p15 n16 => ?_)
    · refine sm_b (l' := [(0, vr (some (gw g))), (1, vi a1)]) (st' := [vi ((-1))]) (pc' := 33) [(.iconst (-1), vi (-1), 33)] (by decide +kernel) rfl rfl ?_
      exact sm_iret rfl (by decide +kernel) (fun h => hRET _ h)
    · refine sm_b (l' := [(0, vr (some (gw g))), (1, vi a1)]) (st' := [vr (some (gw g))]) (pc' := 24) [(.aload_n 0, vi 0, 24)] (by decide +kernel) rfl rfl ?_
      refine sm_tg (k := 56) (x := vr (some (gT g 56))) G.2.1 q1474 rfl rfl (by decide +kernel) ?_
      refine sm_b (l' := [(0, vr (some (gw g))), (1, vi a1)]) (st' := [vi a1, vr (some (gT g 56))]) (pc' := 28) [(.iload_n 1, vi 0, 28)] (by decide +kernel) rfl rfl ?_
      refine sm_gd (fun h13 => ?_)
      refine sm_ial (k := 56) G.2.1 (by decide) rfl (ibt (k := 56) h13) h13 (by decide +kernel) ?_
      refine sm_b (l' := [(0, vr (some (gw g))), (1, vi a1)]) (st' := [vi (tA τ 56 a1.toNat)]) (pc' := 33) [(.goto 4, vi 0, 33)] (by decide +kernel) rfl rfl ?_
      exact sm_iret rfl (by decide +kernel) (fun h => hRET _ h)
    refine sm_icmp_ge (off := 12) (tgt := 32) h8 h9 (by decide +kernel) (fun c17 => ?_) (fun c17 => ?_)
    · exact p15 c17
    · exact n16 c17
  refine sm_if_ne (off := 11) (tgt := 15) h1 (by decide +kernel) (fun c21 => ?_) (fun c21 => ?_)
  · exact n20 c21
  · exact p19 c21
def m_digits_L2 (τ : TT) : Nat → Int → Option (Int)
  | 0, _ => none
  | n + 1, w2 => Option.bind (m_symbol w2 τ) fun y1 => Option.bind (m_isDigit y1) fun y2 => gd (rg y2) (if y2 = 0 then (some w2) else (m_digits_L2 τ n (w2 + 1)))
def m_digits (a1 : Int) (τ : TT) : Option (Int) := m_digits_L2 τ FU a1
set_option maxHeartbeats 4000000 in
theorem m_digits_L2_ok {g : GE} (G : GG g) {σ : ST} {Q : VQ} (d : Nat) (hd1 : 2 ≤ d) (τ : TT)  {K : Int → Prop} (hRET : ∀ r : Int, K (r) → Q.1 (some (vi r)) σ τ) : ∀ (n : Nat) (w2 : Int), Sm (V g mX4_digits d 2 [(0, vr (some (gw g))), (2, vi w2)] [] σ τ Q) (m_digits_L2 τ n w2) K := by
  intro n
  induction n with
  | zero => intro w2; exact sm_none
  | succ n ih =>
    intro w2
    rw [m_digits_L2.eq_2]
    refine sm_b (l' := [(0, vr (some (gw g))), (2, vi w2)]) (st' := [vi w2, vr (some (gw g))]) (pc' := 4) [(.aload_n 0, vi 0, 3), (.iload_n 2, vi 0, 4)] (by decide +kernel) rfl rfl ?_
    refine sm_cv (N := mX4_symbol) (d' := d - 1) (fun r => (some (vi r))) (fun _ => σ) (fun _ => τ) [vi w2] [] rfl (by decide +kernel) q1960 q1962 qs116 (Or.inl ⟨rfl, q1963⟩) (show okN yX4_symbol 1 = true by decide +kernel) (fun H hR => hR.rvw G.1 G.2.1) rfl rfl (by omega) rfl (fun Q' => m_symbol_ok G (d - 1) (by omega) w2 τ Q') (fun y1 => ?_)
    refine sm_cs (N := mX4_isDigit) (d' := d - 1) (fun r => (some (vi r))) (fun _ => σ) (fun _ => τ) [vi y1] [] rfl (by decide +kernel) q1626 q1627 q138 (Or.inl ⟨rfl, q1628⟩) (show okN yX4_isDigit 1 = true by decide +kernel) rfl rfl (by omega) rfl (fun Q' => m_isDigit_ok G (d - 1) (by omega) y1 τ Q') (fun y2 => ?_)
    refine sm_gd (fun h3 => ?_)
    refine sm_case (V g mX4_digits d 19 [(0, vr (some (gw g))), (2, vi w2)] [] σ τ Q) (V g mX4_digits d 13 [(0, vr (some (gw g))), (2, vi w2)] [] σ τ Q) ?_ ?_ (fun f6 p7 n8 => ?_)
    · refine sm_b (l' := [(0, vr (some (gw g))), (2, vi w2)]) (st' := [vi w2]) (pc' := 20) [(.iload_n 2, vi 0, 20)] (by decide +kernel) rfl rfl ?_
      exact sm_iret rfl (by decide +kernel) (fun h => hRET _ h)
    · refine sm_b (l' := [(0, vr (some (gw g))), (2, vi (w2 + 1))]) (st' := []) (pc' := 2) [(.iinc 2 1, vi 1, 16), (.goto (-14), vi 0, 2)] (by decide +kernel) rfl rfl ?_
      exact ih (w2 + 1)
    refine sm_if_eq (off := 9) (tgt := 19) h3 (by decide +kernel) (fun c9 => ?_) (fun c9 => ?_)
    · exact p7 c9
    · exact n8 c9
set_option maxHeartbeats 4000000 in
theorem m_digits_ok {g : GE} (G : GG g) {σ : ST} (d : Nat) (hd1 : 2 ≤ d) (a1 : Int)  (τ : TT) (Q : VQ) : Sm (V g mX4_digits d 0 [(0, vr (some (gw g))), (1, vi a1)] [] σ τ Q) (m_digits a1 τ) (fun r => Q.1 (some (vi r)) σ τ) := by
  unfold m_digits
  refine sm_top (fun K hRET => ?_)
  refine sm_b (l' := [(0, vr (some (gw g))), (1, vi a1), (2, vi a1)]) (st' := []) (pc' := 2) [(.iload_n 1, vi 0, 1), (.istore_n 2, vi 0, 2)] (by decide +kernel) rfl rfl ?_
  refine sm_pick [0, 2] (l' := [(0, vr (some (gw g))), (2, vi a1)]) rfl ?_
  exact m_digits_L2_ok G d hd1 τ  (fun r h => hRET _ h) FU a1
def m_numberText (a1 : Int) (τ : TT) : Option (Int) := Option.bind (m_symbol a1 τ) fun y1 => Option.bind (gd (rg y1) (if y1 = 45 then (some ((a1 + 1))) else (some a1))) fun (v5 : Int) => Option.bind (m_digits v5 τ) fun y9 => gd (rg y9) (gd (rg v5) (if y9 = v5 then (some (((-1)))) else (Option.bind (m_symbol v5 τ) fun y15 => gd (rg y15) (gd (y15 = 48 → rg (v5 + 1)) (if (y15 = 48) ∧ (¬ (y9 ≤ (v5 + 1))) then (some (((-1)))) else (Option.bind (m_symbol y9 τ) fun y22 => Option.bind (gd (rg y22) (if y22 = 46 then (nm (y9 + 1) fun x64 => Option.bind (m_digits x64 τ) fun y65 => gd (rg y65) (gd (rg x64) (if y65 = x64 then (some (Sum.inl (((-1))))) else (some (Sum.inr y65))))) else (some (Sum.inr y9)))) (Sum.elim some fun (v25 : Int) => Option.bind (m_symbol v25 τ) fun y29 => gd (rg y29) (gd (¬ (y29 = 101) → ok (m_symbol v25 τ)) (gd (¬ (y29 = 101) → rg (vv (m_symbol v25 τ))) (if (y29 = 101) ∨ ((vv (m_symbol v25 τ)) = 69) then (nm (v25 + 1) fun x35 => Option.bind (m_symbol x35 τ) fun y36 => Option.bind (gd (rg y36) (gd (¬ (y36 = 43) → ok (m_symbol x35 τ)) (gd (¬ (y36 = 43) → rg (vv (m_symbol x35 τ))) (if (y36 = 43) ∨ ((vv (m_symbol x35 τ)) = 45) then (some ((x35 + 1))) else (some x35))))) fun (v42 : Int) => Option.bind (m_digits v42 τ) fun y46 => gd (rg y46) (gd (rg v42) (if y46 = v42 then (some (((-1)))) else (some y46)))) else (some v25)))))))))))
set_option maxHeartbeats 4000000 in
theorem m_numberText_ok {g : GE} (G : GG g) {σ : ST} (d : Nat) (hd1 : 3 ≤ d) (a1 : Int)  (τ : TT) (Q : VQ) : Sm (V g mX4_numberText d 0 [(0, vr (some (gw g))), (1, vi a1)] [] σ τ Q) (m_numberText a1 τ) (fun r => Q.1 (some (vi r)) σ τ) := by
  unfold m_numberText
  refine sm_top (fun K hRET => ?_)
  refine sm_b (l' := [(0, vr (some (gw g))), (1, vi a1)]) (st' := [vi a1, vr (some (gw g))]) (pc' := 2) [(.aload_n 0, vi 0, 1), (.iload_n 1, vi 0, 2)] (by decide +kernel) rfl rfl ?_
  refine sm_cv (N := mX4_symbol) (d' := d - 1) (fun r => (some (vi r))) (fun _ => σ) (fun _ => τ) [vi a1] [] rfl (by decide +kernel) q1960 q1962 qs116 (Or.inl ⟨rfl, q1963⟩) (show okN yX4_symbol 1 = true by decide +kernel) (fun H hR => hR.rvw G.1 G.2.1) rfl rfl (by omega) rfl (fun Q' => m_symbol_ok G (d - 1) (by omega) a1 τ Q') (fun y1 => ?_)
  refine sm_b (l' := [(0, vr (some (gw g))), (1, vi a1)]) (st' := [vi 45, vi y1]) (pc' := 7) [(.bipush 45, vi 45, 7)] (by decide +kernel) rfl rfl ?_
  refine sm_bind1 (fun (v5 : Int) => V g mX4_numberText d 17 [(0, vr (some (gw g)))] [vi v5] σ τ Q) (fun v5 => ?_) (fun K6 j7 => ?_)
  · refine sm_b (l' := [(0, vr (some (gw g))), (2, vi v5)]) (st' := [vi v5, vr (some (gw g))]) (pc' := 20) [(.istore_n 2, vi 0, 18), (.aload_n 0, vi 0, 19), (.iload_n 2, vi 0, 20)] (by decide +kernel) rfl rfl ?_
    refine sm_cv (N := mX4_digits) (d' := d - 1) (fun r => (some (vi r))) (fun _ => σ) (fun _ => τ) [vi v5] [] rfl (by decide +kernel) q1964 q1966 qs117 (Or.inl ⟨rfl, q1967⟩) (show okN yX4_digits 1 = true by decide +kernel) (fun H hR => hR.rvw G.1 G.2.1) rfl rfl (by omega) rfl (fun Q' => m_digits_ok G (d - 1) (by omega) v5 τ Q') (fun y9 => ?_)
    refine sm_b (l' := [(0, vr (some (gw g))), (2, vi v5), (3, vi y9)]) (st' := [vi v5, vi y9]) (pc' := 26) [(.istore_n 3, vi 0, 24), (.iload_n 3, vi 0, 25), (.iload_n 2, vi 0, 26)] (by decide +kernel) rfl rfl ?_
    refine sm_gd (fun h10 => ?_)
    refine sm_gd (fun h11 => ?_)
    refine sm_case (V g mX4_numberText d 46 [(0, vr (some (gw g))), (2, vi v5), (3, vi y9)] [] σ τ Q) (V g mX4_numberText d 29 [(0, vr (some (gw g))), (2, vi v5), (3, vi y9)] [] σ τ Q) ?_ ?_ (fun f82 p83 n84 => ?_)
    · refine sm_b (l' := [(0, vr (some (gw g))), (2, vi v5), (3, vi y9)]) (st' := [vi ((-1))]) (pc' := 47) [(.iconst (-1), vi (-1), 47)] (by decide +kernel) rfl rfl ?_
      exact sm_iret rfl (by decide +kernel) (fun h => hRET _ h)
    · refine sm_b (l' := [(0, vr (some (gw g))), (2, vi v5), (3, vi y9)]) (st' := [vi v5, vr (some (gw g))]) (pc' := 31) [(.aload_n 0, vi 0, 30), (.iload_n 2, vi 0, 31)] (by decide +kernel) rfl rfl ?_
      refine sm_cv (N := mX4_symbol) (d' := d - 1) (fun r => (some (vi r))) (fun _ => σ) (fun _ => τ) [vi v5] [] rfl (by decide +kernel) q1960 q1962 qs116 (Or.inl ⟨rfl, q1963⟩) (show okN yX4_symbol 1 = true by decide +kernel) (fun H hR => hR.rvw G.1 G.2.1) rfl rfl (by omega) rfl (fun Q' => m_symbol_ok G (d - 1) (by omega) v5 τ Q') (fun y15 => ?_)
      refine sm_b (l' := [(0, vr (some (gw g))), (2, vi v5), (3, vi y9)]) (st' := [vi 48, vi y15]) (pc' := 36) [(.bipush 48, vi 48, 36)] (by decide +kernel) rfl rfl ?_
      refine sm_gd (fun h16 => ?_)
      refine sm_gd (fun h18 => ?_)
      refine sm_case (V g mX4_numberText d 46 [(0, vr (some (gw g))), (2, vi v5), (3, vi y9)] [] σ τ Q) (V g mX4_numberText d 48 [(0, vr (some (gw g))), (2, vi v5), (3, vi y9)] [] σ τ Q) ?_ ?_ (fun f77 p78 n79 => ?_)
      · refine sm_b (l' := [(0, vr (some (gw g))), (2, vi v5), (3, vi y9)]) (st' := [vi ((-1))]) (pc' := 47) [(.iconst (-1), vi (-1), 47)] (by decide +kernel) rfl rfl ?_
        exact sm_iret rfl (by decide +kernel) (fun h => hRET _ h)
      · refine sm_b (l' := [(0, vr (some (gw g))), (2, vi v5), (3, vi y9)]) (st' := [vi y9, vr (some (gw g))]) (pc' := 50) [(.aload_n 0, vi 0, 49), (.iload_n 3, vi 0, 50)] (by decide +kernel) rfl rfl ?_
        refine sm_cv (N := mX4_symbol) (d' := d - 1) (fun r => (some (vi r))) (fun _ => σ) (fun _ => τ) [vi y9] [] rfl (by decide +kernel) q1960 q1962 qs116 (Or.inl ⟨rfl, q1963⟩) (show okN yX4_symbol 1 = true by decide +kernel) (fun H hR => hR.rvw G.1 G.2.1) rfl rfl (by omega) rfl (fun Q' => m_symbol_ok G (d - 1) (by omega) y9 τ Q') (fun y22 => ?_)
        refine sm_b (l' := [(0, vr (some (gw g))), (2, vi v5), (3, vi y9)]) (st' := [vi 46, vi y22]) (pc' := 55) [(.bipush 46, vi 46, 55)] (by decide +kernel) rfl rfl ?_
        refine sm_bindS (fun (v25 : Int) => V g mX4_numberText d 75 [(0, vr (some (gw g))), (3, vi v25)] [] σ τ Q) (fun v25 => ?_) (fun K26 o28 j27 => ?_)
        · refine sm_b (l' := [(0, vr (some (gw g))), (3, vi v25)]) (st' := [vi v25, vr (some (gw g))]) (pc' := 77) [(.aload_n 0, vi 0, 76), (.iload_n 3, vi 0, 77)] (by decide +kernel) rfl rfl ?_
          refine sm_cv (N := mX4_symbol) (d' := d - 1) (fun r => (some (vi r))) (fun _ => σ) (fun _ => τ) [vi v25] [] rfl (by decide +kernel) q1960 q1962 qs116 (Or.inl ⟨rfl, q1963⟩) (show okN yX4_symbol 1 = true by decide +kernel) (fun H hR => hR.rvw G.1 G.2.1) rfl rfl (by omega) rfl (fun Q' => m_symbol_ok G (d - 1) (by omega) v25 τ Q') (fun y29 => ?_)
          refine sm_b (l' := [(0, vr (some (gw g))), (3, vi v25)]) (st' := [vi 101, vi y29]) (pc' := 82) [(.bipush 101, vi 101, 82)] (by decide +kernel) rfl rfl ?_
          refine sm_gd (fun h30 => ?_)
          refine sm_gd (fun h32 => ?_)
          refine sm_gd (fun h33 => ?_)
          refine sm_case (V g mX4_numberText d 95 [(0, vr (some (gw g))), (3, vi v25)] [] σ τ Q) (V g mX4_numberText d 135 [(0, vr (some (gw g))), (3, vi v25)] [] σ τ Q) ?_ ?_ (fun f59 p60 n61 => ?_)
          · refine sm_b (l' := [(0, vr (some (gw g))), (3, vi v25)]) (st' := [vi (v25 + 1)]) (pc' := 98) [(.iload_n 3, vi 0, 96), (.iconst 1, vi 1, 97), (.iadd, vi 0, 98)] (by decide +kernel) rfl rfl ?_
            refine sm_nmi (fun x35 => ?_)
            refine sm_b (l' := [(0, vr (some (gw g))), (3, vi v25), (2, vi x35)]) (st' := [vi x35, vr (some (gw g))]) (pc' := 101) [(.istore_n 2, vi 0, 99), (.aload_n 0, vi 0, 100), (.iload_n 2, vi 0, 101)] (by decide +kernel) rfl rfl ?_
            refine sm_cv (N := mX4_symbol) (d' := d - 1) (fun r => (some (vi r))) (fun _ => σ) (fun _ => τ) [vi x35] [] rfl (by decide +kernel) q1960 q1962 qs116 (Or.inl ⟨rfl, q1963⟩) (show okN yX4_symbol 1 = true by decide +kernel) (fun H hR => hR.rvw G.1 G.2.1) rfl rfl (by omega) rfl (fun Q' => m_symbol_ok G (d - 1) (by omega) x35 τ Q') (fun y36 => ?_)
            refine sm_b (l' := [(0, vr (some (gw g))), (3, vi v25), (2, vi x35)]) (st' := [vi 43, vi y36]) (pc' := 106) [(.bipush 43, vi 43, 106)] (by decide +kernel) rfl rfl ?_
            refine sm_bind1 (fun (v42 : Int) => V g mX4_numberText d 122 [(0, vr (some (gw g))), (2, vi v42)] [] σ τ Q) (fun v42 => ?_) (fun K43 j44 => ?_)
            · refine sm_b (l' := [(0, vr (some (gw g))), (2, vi v42)]) (st' := [vi v42, vr (some (gw g))]) (pc' := 124) [(.aload_n 0, vi 0, 123), (.iload_n 2, vi 0, 124)] (by decide +kernel) rfl rfl ?_
              refine sm_cv (N := mX4_digits) (d' := d - 1) (fun r => (some (vi r))) (fun _ => σ) (fun _ => τ) [vi v42] [] rfl (by decide +kernel) q1964 q1966 qs117 (Or.inl ⟨rfl, q1967⟩) (show okN yX4_digits 1 = true by decide +kernel) (fun H hR => hR.rvw G.1 G.2.1) rfl rfl (by omega) rfl (fun Q' => m_digits_ok G (d - 1) (by omega) v42 τ Q') (fun y46 => ?_)
              refine sm_b (l' := [(0, vr (some (gw g))), (2, vi v42), (3, vi y46)]) (st' := [vi v42, vi y46]) (pc' := 130) [(.istore_n 3, vi 0, 128), (.iload_n 3, vi 0, 129), (.iload_n 2, vi 0, 130)] (by decide +kernel) rfl rfl ?_
              refine sm_gd (fun h47 => ?_)
              refine sm_gd (fun h48 => ?_)
              refine sm_case (V g mX4_numberText d 133 [(0, vr (some (gw g))), (2, vi v42), (3, vi y46)] [] σ τ Q) (V g mX4_numberText d 135 [(0, vr (some (gw g))), (2, vi v42), (3, vi y46)] [] σ τ Q) ?_ ?_ (fun f50 p51 n52 => ?_)
              · refine sm_b (l' := [(0, vr (some (gw g))), (2, vi v42), (3, vi y46)]) (st' := [vi ((-1))]) (pc' := 134) [(.iconst (-1), vi (-1), 134)] (by decide +kernel) rfl rfl ?_
                exact sm_iret rfl (by decide +kernel) (fun h => hRET _ h)
              · refine sm_b (l' := [(0, vr (some (gw g))), (2, vi v42), (3, vi y46)]) (st' := [vi y46]) (pc' := 136) [(.iload_n 3, vi 0, 136)] (by decide +kernel) rfl rfl ?_
                exact sm_iret rfl (by decide +kernel) (fun h => hRET _ h)
              refine sm_icmp_ne (off := 5) (tgt := 135) h47 h48 (by decide +kernel) (fun c53 => ?_) (fun c53 => ?_)
              · exact n52 c53
              · exact p51 c53
            · refine sm_gd (fun h37 => ?_)
              refine sm_gd (fun h39 => ?_)
              refine sm_gd (fun h40 => ?_)
              refine sm_case (V g mX4_numberText d 119 [(0, vr (some (gw g))), (3, vi v25), (2, vi x35)] [] σ τ Q) (V g mX4_numberText d 122 [(0, vr (some (gw g))), (3, vi v25), (2, vi x35)] [] σ τ Q) ?_ ?_ (fun f54 p55 n56 => ?_)
              · refine sm_b (l' := [(0, vr (some (gw g))), (3, vi v25), (2, vi (x35 + 1))]) (st' := []) (pc' := 122) [(.iinc 2 1, vi 1, 122)] (by decide +kernel) rfl rfl ?_
                refine sm_pick [0, 2] (l' := [(0, vr (some (gw g))), (2, vi (x35 + 1))]) rfl ?_
                exact sm_leaf (fun h => j44 _ h)
              · refine sm_pick [0, 2] (l' := [(0, vr (some (gw g))), (2, vi x35)]) rfl ?_
                exact sm_leaf (fun h => j44 _ h)
              refine sm_icmp_eq (off := 13) (tgt := 119) h37 (by decide) (by decide +kernel) (fun c57 => ?_) (fun c57 => ?_)
              · exact p55 (Or.inl c57)
              · have w38 : ¬ (y36 = 43) := c57
                refine sm_b (l' := [(0, vr (some (gw g))), (3, vi v25), (2, vi x35)]) (st' := [vi x35, vr (some (gw g))]) (pc' := 111) [(.aload_n 0, vi 0, 110), (.iload_n 2, vi 0, 111)] (by decide +kernel) rfl rfl ?_
                refine sm_cvp (N := mX4_symbol) (d' := d - 1) (fun r => (some (vi r))) (some (vi (vv (m_symbol x35 τ)))) (h39 w38) (fun y h => by rw [vv_some h]) [vi x35] [] rfl (by decide +kernel) q1960 q1962 qs116 (Or.inl ⟨rfl, q1963⟩) (show okN yX4_symbol 1 = true by decide +kernel) (fun H hR => hR.rvw G.1 G.2.1) rfl rfl (by omega) rfl (fun Q' => m_symbol_ok G (d - 1) (by omega) x35 τ Q') ?_
                refine sm_b (l' := [(0, vr (some (gw g))), (3, vi v25), (2, vi x35)]) (st' := [vi 45, vi (vv (m_symbol x35 τ))]) (pc' := 116) [(.bipush 45, vi 45, 116)] (by decide +kernel) rfl rfl ?_
                refine sm_icmp_ne (off := 6) (tgt := 122) (h40 w38) (by decide) (by decide +kernel) (fun c58 => ?_) (fun c58 => ?_)
                · exact n56 (fun q => q.elim c57 c58)
                · exact p55 (Or.inr c58)
          · refine sm_b (l' := [(0, vr (some (gw g))), (3, vi v25)]) (st' := [vi v25]) (pc' := 136) [(.iload_n 3, vi 0, 136)] (by decide +kernel) rfl rfl ?_
            exact sm_iret rfl (by decide +kernel) (fun h => hRET _ h)
          refine sm_icmp_eq (off := 13) (tgt := 95) h30 (by decide) (by decide +kernel) (fun c62 => ?_) (fun c62 => ?_)
          · exact p60 (Or.inl c62)
          · have w31 : ¬ (y29 = 101) := c62
            refine sm_b (l' := [(0, vr (some (gw g))), (3, vi v25)]) (st' := [vi v25, vr (some (gw g))]) (pc' := 87) [(.aload_n 0, vi 0, 86), (.iload_n 3, vi 0, 87)] (by decide +kernel) rfl rfl ?_
            refine sm_cvp (N := mX4_symbol) (d' := d - 1) (fun r => (some (vi r))) (some (vi (vv (m_symbol v25 τ)))) (h32 w31) (fun y h => by rw [vv_some h]) [vi v25] [] rfl (by decide +kernel) q1960 q1962 qs116 (Or.inl ⟨rfl, q1963⟩) (show okN yX4_symbol 1 = true by decide +kernel) (fun H hR => hR.rvw G.1 G.2.1) rfl rfl (by omega) rfl (fun Q' => m_symbol_ok G (d - 1) (by omega) v25 τ Q') ?_
            refine sm_b (l' := [(0, vr (some (gw g))), (3, vi v25)]) (st' := [vi 69, vi (vv (m_symbol v25 τ))]) (pc' := 92) [(.bipush 69, vi 69, 92)] (by decide +kernel) rfl rfl ?_
            refine sm_icmp_ne (off := 43) (tgt := 135) (h33 w31) (by decide) (by decide +kernel) (fun c63 => ?_) (fun c63 => ?_)
            · exact n61 (fun q => q.elim c62 c63)
            · exact p60 (Or.inr c63)
        · refine sm_gd (fun h23 => ?_)
          refine sm_case (V g mX4_numberText d 58 [(0, vr (some (gw g))), (2, vi v5), (3, vi y9)] [] σ τ Q) (V g mX4_numberText d 75 [(0, vr (some (gw g))), (2, vi v5), (3, vi y9)] [] σ τ Q) ?_ ?_ (fun f73 p74 n75 => ?_)
          · refine sm_b (l' := [(0, vr (some (gw g))), (2, vi v5), (3, vi y9)]) (st' := [vi (y9 + 1)]) (pc' := 61) [(.iload_n 3, vi 0, 59), (.iconst 1, vi 1, 60), (.iadd, vi 0, 61)] (by decide +kernel) rfl rfl ?_
            refine sm_nmi (fun x64 => ?_)
            refine sm_b (l' := [(0, vr (some (gw g))), (2, vi x64), (3, vi y9)]) (st' := [vi x64, vr (some (gw g))]) (pc' := 64) [(.istore_n 2, vi 0, 62), (.aload_n 0, vi 0, 63), (.iload_n 2, vi 0, 64)] (by decide +kernel) rfl rfl ?_
            refine sm_cv (N := mX4_digits) (d' := d - 1) (fun r => (some (vi r))) (fun _ => σ) (fun _ => τ) [vi x64] [] rfl (by decide +kernel) q1964 q1966 qs117 (Or.inl ⟨rfl, q1967⟩) (show okN yX4_digits 1 = true by decide +kernel) (fun H hR => hR.rvw G.1 G.2.1) rfl rfl (by omega) rfl (fun Q' => m_digits_ok G (d - 1) (by omega) x64 τ Q') (fun y65 => ?_)
            refine sm_b (l' := [(0, vr (some (gw g))), (2, vi x64), (3, vi y65)]) (st' := [vi x64, vi y65]) (pc' := 70) [(.istore_n 3, vi 0, 68), (.iload_n 3, vi 0, 69), (.iload_n 2, vi 0, 70)] (by decide +kernel) rfl rfl ?_
            refine sm_gd (fun h66 => ?_)
            refine sm_gd (fun h67 => ?_)
            refine sm_case (V g mX4_numberText d 73 [(0, vr (some (gw g))), (2, vi x64), (3, vi y65)] [] σ τ Q) (V g mX4_numberText d 75 [(0, vr (some (gw g))), (2, vi x64), (3, vi y65)] [] σ τ Q) ?_ ?_ (fun f69 p70 n71 => ?_)
            · refine sm_b (l' := [(0, vr (some (gw g))), (2, vi x64), (3, vi y65)]) (st' := [vi ((-1))]) (pc' := 74) [(.iconst (-1), vi (-1), 74)] (by decide +kernel) rfl rfl ?_
              exact sm_iret rfl (by decide +kernel) (fun h => hRET _ (o28 _ h))
            · refine sm_pick [0, 2] (l' := [(0, vr (some (gw g))), (3, vi y65)]) rfl ?_
              exact sm_leaf (fun h => j27 _ h)
            refine sm_icmp_ne (off := 5) (tgt := 75) h66 h67 (by decide +kernel) (fun c72 => ?_) (fun c72 => ?_)
            · exact n71 c72
            · exact p70 c72
          · refine sm_pick [0, 2] (l' := [(0, vr (some (gw g))), (3, vi y9)]) rfl ?_
            exact sm_leaf (fun h => j27 _ h)
          refine sm_icmp_ne (off := 20) (tgt := 75) h23 (by decide) (by decide +kernel) (fun c76 => ?_) (fun c76 => ?_)
          · exact n75 c76
          · exact p74 c76
      refine sm_icmp_ne (off := 12) (tgt := 48) h16 (by decide) (by decide +kernel) (fun c80 => ?_) (fun c80 => ?_)
      · exact n79 (fun q => c80 q.1)
      · have w17 : y15 = 48 := c80
        refine sm_b (l' := [(0, vr (some (gw g))), (2, vi v5), (3, vi y9)]) (st' := [vi (v5 + 1), vi y9]) (pc' := 43) [(.iload_n 3, vi 0, 40), (.iload_n 2, vi 0, 41), (.iconst 1, vi 1, 42), (.iadd, vi 0, 43)] (by decide +kernel) rfl rfl ?_
        refine sm_icmp_le (off := 5) (tgt := 48) h10 (h18 w17) (by decide +kernel) (fun c81 => ?_) (fun c81 => ?_)
        · exact n79 (fun q => (fun q => q c81) q.2)
        · exact p78 ⟨c80, c81⟩
    refine sm_icmp_eq (off := 20) (tgt := 46) h10 h11 (by decide +kernel) (fun c85 => ?_) (fun c85 => ?_)
    · exact p83 c85
    · exact n84 c85
  · refine sm_gd (fun h2 => ?_)
    refine sm_case (V g mX4_numberText d 10 [(0, vr (some (gw g))), (1, vi a1)] [] σ τ Q) (V g mX4_numberText d 16 [(0, vr (some (gw g))), (1, vi a1)] [] σ τ Q) ?_ ?_ (fun f86 p87 n88 => ?_)
    · refine sm_b (l' := [(0, vr (some (gw g))), (1, vi a1)]) (st' := [vi (a1 + 1)]) (pc' := 17) [(.iload_n 1, vi 0, 11), (.iconst 1, vi 1, 12), (.iadd, vi 0, 13), (.goto 4, vi 0, 17)] (by decide +kernel) rfl rfl ?_
      refine sm_pick [0] (l' := [(0, vr (some (gw g)))]) rfl ?_
      exact sm_leaf (fun h => j7 _ h)
    · refine sm_b (l' := [(0, vr (some (gw g))), (1, vi a1)]) (st' := [vi a1]) (pc' := 17) [(.iload_n 1, vi 0, 17)] (by decide +kernel) rfl rfl ?_
      refine sm_pick [0] (l' := [(0, vr (some (gw g)))]) rfl ?_
      exact sm_leaf (fun h => j7 _ h)
    refine sm_icmp_ne (off := 9) (tgt := 16) h2 (by decide) (by decide +kernel) (fun c89 => ?_) (fun c89 => ?_)
    · exact n88 c89
    · exact p87 c89
def m_grows (a1 : Int) (τ : TT) : Option (Int × TT) := Option.bind (jl_divideUnsigned (((-1)) - (iL a1)) 10) fun y1 => Option.bind (jl_compareUnsigned (tJ τ 59) y1) fun y2 => gd (rg y2) (if y2 ≤ 0 then (nm (uJ τ 59 ((10 * (tJ τ 59)) + (iL a1))) fun τ6 => some ((1, τ6))) else (some ((0, τ))))
set_option maxHeartbeats 4000000 in
theorem m_grows_ok {g : GE} (G : GG g) {σ : ST} (d : Nat) (hd1 : 2 ≤ d) (a1 : Int)  (τ : TT) (Q : VQ) : Sm (V g mX4_grows d 0 [(0, vr (some (gw g))), (1, vi a1)] [] σ τ Q) (m_grows a1 τ) (fun r => Q.1 (some (vi r.1)) σ r.2) := by
  unfold m_grows
  refine sm_top (fun K hRET => ?_)
  refine sm_b (l' := [(0, vr (some (gw g))), (1, vi a1)]) (st' := [vr (some (gw g))]) (pc' := 1) [(.aload_n 0, vi 0, 1)] (by decide +kernel) rfl rfl ?_
  refine sm_tg (k := 59) (x := vl (tJ τ 59)) G.2.1 q1477 rfl rfl (by decide +kernel) ?_
  refine sm_ldc2 (by decide +kernel) q1977 ?_
  refine sm_b (l' := [(0, vr (some (gw g))), (1, vi a1)]) (st' := [vl (((-1)) - (iL a1)), vl (tJ τ 59)]) (pc' := 10) [(.iload_n 1, vi 0, 8), (.i2l, vi 0, 9), (.lsub, vi 0, 10)] (by decide +kernel) rfl rfl ?_
  refine sm_ldc2 (by decide +kernel) q1875 ?_
  refine sm_cs (N := mJ15_divideUnsigned) (d' := d - 1) (fun r => (some (vl r))) (fun _ => σ) (fun _ => τ) [vl (((-1)) - (iL a1)), vl 10] [vl (tJ τ 59)] rfl (by decide +kernel) q1876 q1148 q161 (Or.inl ⟨rfl, q1149⟩) (show okN yJ15_divideUnsigned 2 = true by decide +kernel) rfl rfl (by omega) rfl (fun Q' => jl_divideUnsigned_ok G (d - 1) (by omega) (((-1)) - (iL a1)) 10 τ Q') (fun y1 => ?_)
  refine sm_cs (N := mJ15_compareUnsigned) (d' := d - 1) (fun r => (some (vi r))) (fun _ => σ) (fun _ => τ) [vl (tJ τ 59), vl y1] [] rfl (by decide +kernel) q1978 q1153 q161 (Or.inl ⟨rfl, q1154⟩) (show okN yJ15_compareUnsigned 2 = true by decide +kernel) rfl rfl (by omega) rfl (fun Q' => jl_compareUnsigned_ok G (d - 1) (by omega) (tJ τ 59) y1 τ Q') (fun y2 => ?_)
  refine sm_gd (fun h3 => ?_)
  refine sm_case (V g mX4_grows d 24 [(0, vr (some (gw g))), (1, vi a1)] [] σ τ Q) (V g mX4_grows d 22 [(0, vr (some (gw g))), (1, vi a1)] [] σ τ Q) ?_ ?_ (fun f7 p8 n9 => ?_)
  · refine sm_b (l' := [(0, vr (some (gw g))), (1, vi a1)]) (st' := [vr (some (gw g))]) (pc' := 25) [(.aload_n 0, vi 0, 25)] (by decide +kernel) rfl rfl ?_
    refine sm_ldc2 (by decide +kernel) q1875 ?_
    refine sm_b (l' := [(0, vr (some (gw g))), (1, vi a1)]) (st' := [vr (some (gw g)), vl 10, vr (some (gw g))]) (pc' := 29) [(.aload_n 0, vi 0, 29)] (by decide +kernel) rfl rfl ?_
    refine sm_tg (k := 59) (x := vl (tJ τ 59)) G.2.1 q1477 rfl rfl (by decide +kernel) ?_
    refine sm_b (l' := [(0, vr (some (gw g))), (1, vi a1)]) (st' := [vl ((10 * (tJ τ 59)) + (iL a1)), vr (some (gw g))]) (pc' := 36) [(.lmul, vi 0, 33), (.iload_n 1, vi 0, 34), (.i2l, vi 0, 35), (.ladd, vi 0, 36)] (by decide +kernel) rfl rfl ?_
    refine sm_tpj (k := 59) G.2.1 q1477 rfl rfl rfl (tp_59 g τ ((10 * (tJ τ 59)) + (iL a1))) (by decide +kernel) ?_
    refine sm_nmt (fun τ6 => ?_)
    refine sm_b (l' := [(0, vr (some (gw g))), (1, vi a1)]) (st' := [vi 1]) (pc' := 40) [(.iconst 1, vi 1, 40)] (by decide +kernel) rfl rfl ?_
    exact sm_zret rfl (by decide +kernel) (by decide) (fun h => hRET _ h)
  · refine sm_b (l' := [(0, vr (some (gw g))), (1, vi a1)]) (st' := [vi 0]) (pc' := 23) [(.iconst 0, vi 0, 23)] (by decide +kernel) rfl rfl ?_
    exact sm_zret rfl (by decide +kernel) (by decide) (fun h => hRET _ h)
  refine sm_if_le (off := 5) (tgt := 24) h3 (by decide +kernel) (fun c10 => ?_) (fun c10 => ?_)
  · exact p8 c10
  · exact n9 c10
