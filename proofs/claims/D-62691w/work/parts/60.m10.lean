set_option maxRecDepth 100000
/-! the reference: X4_putRow, X4_putMessage, X4_toJson, X4_blanks, X4_look, X4_sayByte, X4_fourDigits -/
def m_putRow_L120 (rec : Int → Int → Int → TT → Option (TT)) (u1 : Int) (u2 : Int) (u4 : Int) (u5 : Int) (u7 : Int) (u8 : Int) (u10 : Int) : Nat → Int → TT → Option (Int × TT)
  | 0, _, _ => none
  | n + 1, w6, τ => gd (rg (tI τ 46)) (gd (rg u10) (if u10 ≤ (tI τ 46) then (some ((w6, τ))) else (Option.bind (m_takeNumber u1 u10 τ) fun y64 => Option.bind (m_beginElement u1 w6 u5 y64.2) fun y65 => Option.bind (m_meant u1 (tJ y65 47) y65) fun y66 => Option.bind (m_putNumber u1 y66 y65) fun y67 => m_putRow_L120 rec u1 u2 u4 u5 u7 u8 u10 n (w6 + 1) y67)))
def m_putRow_L22 (rec : Int → Int → Int → TT → Option (TT)) (u1 : Int) (u2 : Int) (u4 : Int) (u5 : Int) (u7 : Int) : Nat → Int → Int → TT → Option (Int × TT)
  | 0, _, _, _ => none
  | n + 1, w6, w8, τ => gd (ib u7 9000) (gd (rg w8) (gd (rg (tA τ 44 u7.toNat)) (if (tA τ 44 u7.toNat) ≤ w8 then (some ((w6, τ))) else (nm (uI τ 46 w8) fun τ39 => Option.bind (m_takeField (tA τ39 44 u7.toNat) τ39) fun y40 => nm (tI y40.2 46) fun x41 => Option.bind (m_rightField u2 y40.2) fun y42 => gd (rg y42) (gd (rg u1) (if y42 = u1 then (nm (tI y40.2 50) fun x47 => nm (tI y40.2 51) fun x48 => Option.bind (m_isPlain u1 y40.2) fun y49 => gd (rg y49) (if y49 = 0 then (Option.bind (m_beginElement u1 w6 u5 y40.2) fun y53 => Option.bind (m_putOne rec u1 x47 x48 y53) fun y54 => m_putRow_L22 rec u1 u2 u4 u5 u7 n (w6 + 1) x41 y54) else (nm (uI y40.2 46 x47) fun τ55 => Option.bind (m_putRow_L120 rec u1 u2 u4 u5 u7 x41 x48 FU w6 τ55) fun (v56 : Int × TT) => m_putRow_L22 rec u1 u2 u4 u5 u7 n v56.1 x41 v56.2))) else (m_putRow_L22 rec u1 u2 u4 u5 u7 n w6 x41 y40.2)))))))
def m_putRow_L6 (rec : Int → Int → Int → TT → Option (TT)) (u1 : Int) (u2 : Int) (u4 : Int) (u5 : Int) : Nat → Int → Int → TT → Option (Int × TT)
  | 0, _, _, _ => none
  | n + 1, w6, w7, τ => gd (rg w7) (gd (rg u4) (if u4 ≤ w7 then (some ((w6, τ))) else (gd (ib w7 9000) (nm (tA τ 43 w7.toNat) fun x29 => Option.bind (m_putRow_L22 rec u1 u2 u4 u5 w7 FU w6 x29 τ) fun (v30 : Int × TT) => m_putRow_L6 rec u1 u2 u4 u5 n v30.1 (w7 + 1) v30.2))))
def m_putRow (rec : Int → Int → Int → TT → Option (TT)) (a1 : Int) (a2 : Int) (a3 : Int) (a4 : Int) (a5 : Int) (τ : TT) : Option (Int × TT) := Option.bind (m_putRow_L6 rec a1 a2 a4 a5 FU 0 a3 τ) fun (v1 : Int × TT) => Option.bind (gd (rg v1.1) (if v1.1 ≤ 0 then (some v1.2) else (Option.bind (m_put 93 v1.2) fun y18 => some y18))) fun (v7 : TT) => gd (rg v1.1) (if v1.1 ≤ 0 then (some ((0, v7))) else (some ((1, v7))))
set_option maxHeartbeats 4000000 in
theorem m_putRow_L120_ok {g : GE} (G : GG g) {D : Nat} (rec : Int → Int → Int → TT → Option (TT)) (hrec : ∀ (d : Nat), D ≤ d → ∀ {σ : ST} (a1 : Int) (a2 : Int) (a3 : Int) (τ : TT) (Q' : VQ), Sm (V g mX4_putMessage d 0 [(0, vr (some (gw g))), (1, vi a1), (2, vi a2), (3, vi a3)] [] σ τ Q') (rec a1 a2 a3 τ) (fun r => Q'.1 none σ r)) {σ : ST} {Q : VQ} (d : Nat) (hd1 : D + 3 ≤ d) (hd2 : 28 ≤ d) (u1 : Int) (u2 : Int) (u4 : Int) (u5 : Int) (u7 : Int) (u8 : Int) (u10 : Int)  {K : Int × TT → Prop} (hE166 : ∀ v60 : Int × TT, K (v60) → V g mX4_putRow d 166 [(0, vr (some (gw g))), (1, vi u1), (2, vi u2), (4, vi u4), (5, vi u5), (6, vi v60.1), (7, vi u7), (8, vi u8)] [] σ v60.2 Q) : ∀ (n : Nat) (w6 : Int) (τ : TT), Sm (V g mX4_putRow d 120 [(0, vr (some (gw g))), (1, vi u1), (2, vi u2), (4, vi u4), (5, vi u5), (6, vi w6), (7, vi u7), (8, vi u8), (10, vi u10)] [] σ τ Q) (m_putRow_L120 rec u1 u2 u4 u5 u7 u8 u10 n w6 τ) K := by
  intro n
  induction n with
  | zero => intro w6 τ; exact sm_none
  | succ n ih =>
    intro w6 τ
    rw [m_putRow_L120.eq_2]
    refine sm_b (l' := [(0, vr (some (gw g))), (1, vi u1), (2, vi u2), (4, vi u4), (5, vi u5), (6, vi w6), (7, vi u7), (8, vi u8), (10, vi u10)]) (st' := [vr (some (gw g))]) (pc' := 121) [(.aload_n 0, vi 0, 121)] (by decide +kernel) rfl rfl ?_
    refine sm_tg (k := 46) (x := vi (tI τ 46)) G.2.1 q1464 rfl rfl (by decide +kernel) ?_
    refine sm_b (l' := [(0, vr (some (gw g))), (1, vi u1), (2, vi u2), (4, vi u4), (5, vi u5), (6, vi w6), (7, vi u7), (8, vi u8), (10, vi u10)]) (st' := [vi u10, vi (tI τ 46)]) (pc' := 126) [(.iload 10, vi 0, 126)] (by decide +kernel) rfl rfl ?_
    refine sm_gd (fun h61 => ?_)
    refine sm_gd (fun h62 => ?_)
    refine sm_case (V g mX4_putRow d 166 [(0, vr (some (gw g))), (1, vi u1), (2, vi u2), (4, vi u4), (5, vi u5), (6, vi w6), (7, vi u7), (8, vi u8), (10, vi u10)] [] σ τ Q) (V g mX4_putRow d 129 [(0, vr (some (gw g))), (1, vi u1), (2, vi u2), (4, vi u4), (5, vi u5), (6, vi w6), (7, vi u7), (8, vi u8), (10, vi u10)] [] σ τ Q) ?_ ?_ (fun f68 p69 n70 => ?_)
    · refine sm_pick [0, 1, 2, 3, 4, 5, 6, 7] (l' := [(0, vr (some (gw g))), (1, vi u1), (2, vi u2), (4, vi u4), (5, vi u5), (6, vi w6), (7, vi u7), (8, vi u8)]) rfl ?_
      exact sm_leaf (fun h => hE166 _ h)
    · refine sm_b (l' := [(0, vr (some (gw g))), (1, vi u1), (2, vi u2), (4, vi u4), (5, vi u5), (6, vi w6), (7, vi u7), (8, vi u8), (10, vi u10)]) (st' := [vi u10, vi u1, vr (some (gw g))]) (pc' := 133) [(.aload_n 0, vi 0, 130), (.iload_n 1, vi 0, 131), (.iload 10, vi 0, 133)] (by decide +kernel) rfl rfl ?_
      refine sm_cv (N := mX4_takeNumber) (d' := d - 1) (fun r => (some (vi r.1))) (fun _ => σ) (fun r => r.2) [vi u1, vi u10] [] rfl (by decide +kernel) q1805 q1807 qs83 (Or.inl ⟨rfl, q1808⟩) (show okN yX4_takeNumber 2 = true by decide +kernel) (fun H hR => hR.rvw G.1 G.2.1) rfl rfl (by omega) rfl (fun Q' => m_takeNumber_ok G (d - 1) (by omega) u1 u10 τ Q') (fun y64 => ?_)
      refine sm_b (l' := [(0, vr (some (gw g))), (1, vi u1), (2, vi u2), (4, vi u4), (5, vi u5), (6, vi w6), (7, vi u7), (8, vi u8), (10, vi u10)]) (st' := [vi u5, vi w6, vi u1, vr (some (gw g))]) (pc' := 143) [(.pop, vi 0, 137), (.aload_n 0, vi 0, 138), (.iload_n 1, vi 0, 139), (.iload 6, vi 0, 141), (.iload 5, vi 0, 143)] (by decide +kernel) rfl rfl ?_
      refine sm_cv (N := mX4_beginElement) (d' := d - 1) (fun r => none) (fun _ => σ) (fun r => r) [vi u1, vi w6, vi u5] [] rfl (by decide +kernel) q1829 q1831 qs89 (Or.inl ⟨rfl, q1832⟩) (show okN yX4_beginElement 3 = true by decide +kernel) (fun H hR => hR.rvw G.1 G.2.1) rfl rfl (by omega) rfl (fun Q' => m_beginElement_ok G (d - 1) (by omega) u1 w6 u5 y64.2 Q') (fun y65 => ?_)
      refine sm_b (l' := [(0, vr (some (gw g))), (1, vi u1), (2, vi u2), (4, vi u4), (5, vi u5), (6, vi (w6 + 1)), (7, vi u7), (8, vi u8), (10, vi u10)]) (st' := [vr (some (gw g)), vi u1, vr (some (gw g)), vi u1, vr (some (gw g))]) (pc' := 154) [(.iinc 6 1, vi 1, 149), (.aload_n 0, vi 0, 150), (.iload_n 1, vi 0, 151), (.aload_n 0, vi 0, 152), (.iload_n 1, vi 0, 153), (.aload_n 0, vi 0, 154)] (by decide +kernel) rfl rfl ?_
      refine sm_tg (k := 47) (x := vl (tJ y65 47)) G.2.1 q1465 rfl rfl (by decide +kernel) ?_
      refine sm_cv (N := mX4_meant) (d' := d - 1) (fun r => (some (vl r))) (fun _ => σ) (fun _ => y65) [vi u1, vl (tJ y65 47)] [vi u1, vr (some (gw g))] rfl (by decide +kernel) q1857 q1859 qs95 (Or.inl ⟨rfl, q1860⟩) (show okN yX4_meant 2 = true by decide +kernel) (fun H hR => hR.rvw G.1 G.2.1) rfl rfl (by omega) rfl (fun Q' => m_meant_ok G (d - 1) (by omega) u1 (tJ y65 47) y65 Q') (fun y66 => ?_)
      refine sm_cv (N := mX4_putNumber) (d' := d - 1) (fun r => none) (fun _ => σ) (fun r => r) [vi u1, vl y66] [] rfl (by decide +kernel) q1862 q1864 qs96 (Or.inl ⟨rfl, q1865⟩) (show okN yX4_putNumber 2 = true by decide +kernel) (fun H hR => hR.rvw G.1 G.2.1) rfl rfl (by omega) rfl (fun Q' => m_putNumber_ok G (d - 1) (by omega) u1 y66 y65 Q') (fun y67 => ?_)
      refine sm_b (l' := [(0, vr (some (gw g))), (1, vi u1), (2, vi u2), (4, vi u4), (5, vi u5), (6, vi (w6 + 1)), (7, vi u7), (8, vi u8), (10, vi u10)]) (st' := []) (pc' := 120) [(.goto (-43), vi 0, 120)] (by decide +kernel) rfl rfl ?_
      exact ih (w6 + 1) y67
    refine sm_icmp_ge (off := 40) (tgt := 166) h61 h62 (by decide +kernel) (fun c71 => ?_) (fun c71 => ?_)
    · exact p69 c71
    · exact n70 c71
set_option maxHeartbeats 4000000 in
theorem m_putRow_L22_ok {g : GE} (G : GG g) {D : Nat} (rec : Int → Int → Int → TT → Option (TT)) (hrec : ∀ (d : Nat), D ≤ d → ∀ {σ : ST} (a1 : Int) (a2 : Int) (a3 : Int) (τ : TT) (Q' : VQ), Sm (V g mX4_putMessage d 0 [(0, vr (some (gw g))), (1, vi a1), (2, vi a2), (3, vi a3)] [] σ τ Q') (rec a1 a2 a3 τ) (fun r => Q'.1 none σ r)) {σ : ST} {Q : VQ} (d : Nat) (hd1 : D + 3 ≤ d) (hd2 : 28 ≤ d) (u1 : Int) (u2 : Int) (u4 : Int) (u5 : Int) (u7 : Int)  {K : Int × TT → Prop} (hE169 : ∀ v34 : Int × TT, K (v34) → V g mX4_putRow d 169 [(0, vr (some (gw g))), (1, vi u1), (2, vi u2), (4, vi u4), (5, vi u5), (6, vi v34.1), (7, vi u7)] [] σ v34.2 Q) : ∀ (n : Nat) (w6 : Int) (w8 : Int) (τ : TT), Sm (V g mX4_putRow d 22 [(0, vr (some (gw g))), (1, vi u1), (2, vi u2), (4, vi u4), (5, vi u5), (6, vi w6), (7, vi u7), (8, vi w8)] [] σ τ Q) (m_putRow_L22 rec u1 u2 u4 u5 u7 n w6 w8 τ) K := by
  intro n
  induction n with
  | zero => intro w6 w8 τ; exact sm_none
  | succ n ih =>
    intro w6 w8 τ
    rw [m_putRow_L22.eq_2]
    refine sm_b (l' := [(0, vr (some (gw g))), (1, vi u1), (2, vi u2), (4, vi u4), (5, vi u5), (6, vi w6), (7, vi u7), (8, vi w8)]) (st' := [vr (some (gw g)), vi w8]) (pc' := 25) [(.iload 8, vi 0, 24), (.aload_n 0, vi 0, 25)] (by decide +kernel) rfl rfl ?_
    refine sm_tg (k := 44) (x := vr (some (gT g 44))) G.2.1 q1462 rfl rfl (by decide +kernel) ?_
    refine sm_b (l' := [(0, vr (some (gw g))), (1, vi u1), (2, vi u2), (4, vi u4), (5, vi u5), (6, vi w6), (7, vi u7), (8, vi w8)]) (st' := [vi u7, vr (some (gT g 44)), vi w8]) (pc' := 30) [(.iload 7, vi 0, 30)] (by decide +kernel) rfl rfl ?_
    refine sm_gd (fun h35 => ?_)
    refine sm_ial (k := 44) G.2.1 (by decide) rfl (ibt (k := 44) h35) h35 (by decide +kernel) ?_
    refine sm_gd (fun h36 => ?_)
    refine sm_gd (fun h37 => ?_)
    refine sm_case (V g mX4_putRow d 169 [(0, vr (some (gw g))), (1, vi u1), (2, vi u2), (4, vi u4), (5, vi u5), (6, vi w6), (7, vi u7), (8, vi w8)] [] σ τ Q) (V g mX4_putRow d 34 [(0, vr (some (gw g))), (1, vi u1), (2, vi u2), (4, vi u4), (5, vi u5), (6, vi w6), (7, vi u7), (8, vi w8)] [] σ τ Q) ?_ ?_ (fun f80 p81 n82 => ?_)
    · refine sm_pick [0, 1, 2, 3, 4, 5, 6] (l' := [(0, vr (some (gw g))), (1, vi u1), (2, vi u2), (4, vi u4), (5, vi u5), (6, vi w6), (7, vi u7)]) rfl ?_
      exact sm_leaf (fun h => hE169 _ h)
    · refine sm_b (l' := [(0, vr (some (gw g))), (1, vi u1), (2, vi u2), (4, vi u4), (5, vi u5), (6, vi w6), (7, vi u7), (8, vi w8)]) (st' := [vi w8, vr (some (gw g))]) (pc' := 37) [(.aload_n 0, vi 0, 35), (.iload 8, vi 0, 37)] (by decide +kernel) rfl rfl ?_
      refine sm_tpi (k := 46) G.2.1 q1464 rfl rfl rfl (tp_46 g τ w8) (by decide +kernel) ?_
      refine sm_nmt (fun τ39 => ?_)
      refine sm_b (l' := [(0, vr (some (gw g))), (1, vi u1), (2, vi u2), (4, vi u4), (5, vi u5), (6, vi w6), (7, vi u7), (8, vi w8)]) (st' := [vr (some (gw g)), vr (some (gw g))]) (pc' := 42) [(.aload_n 0, vi 0, 41), (.aload_n 0, vi 0, 42)] (by decide +kernel) rfl rfl ?_
      refine sm_tg (k := 44) (x := vr (some (gT g 44))) G.2.1 q1462 rfl rfl (by decide +kernel) ?_
      refine sm_b (l' := [(0, vr (some (gw g))), (1, vi u1), (2, vi u2), (4, vi u4), (5, vi u5), (6, vi w6), (7, vi u7), (8, vi w8)]) (st' := [vi u7, vr (some (gT g 44)), vr (some (gw g))]) (pc' := 47) [(.iload 7, vi 0, 47)] (by decide +kernel) rfl rfl ?_
      refine sm_ial (k := 44) G.2.1 (by decide) rfl (ibt (k := 44) h35) h35 (by decide +kernel) ?_
      refine sm_cv (N := mX4_takeField) (d' := d - 1) (fun r => (some (vi r.1))) (fun _ => σ) (fun r => r.2) [vi (tA τ39 44 u7.toNat)] [] rfl (by decide +kernel) q1764 q1766 qs75 (Or.inl ⟨rfl, q1767⟩) (show okN yX4_takeField 1 = true by decide +kernel) (fun H hR => hR.rvw G.1 G.2.1) rfl rfl (by omega) rfl (fun Q' => m_takeField_ok G (d - 1) (by omega) (tA τ39 44 u7.toNat) τ39 Q') (fun y40 => ?_)
      refine sm_b (l' := [(0, vr (some (gw g))), (1, vi u1), (2, vi u2), (4, vi u4), (5, vi u5), (6, vi w6), (7, vi u7), (8, vi w8)]) (st' := [vr (some (gw g))]) (pc' := 53) [(.pop, vi 0, 52), (.aload_n 0, vi 0, 53)] (by decide +kernel) rfl rfl ?_
      refine sm_tg (k := 46) (x := vi (tI y40.2 46)) G.2.1 q1464 rfl rfl (by decide +kernel) ?_
      refine sm_nmi (fun x41 => ?_)
      refine sm_b (l' := [(0, vr (some (gw g))), (1, vi u1), (2, vi u2), (4, vi u4), (5, vi u5), (6, vi w6), (7, vi u7), (8, vi x41)]) (st' := [vi u2, vr (some (gw g))]) (pc' := 60) [(.istore 8, vi 0, 58), (.aload_n 0, vi 0, 59), (.iload_n 2, vi 0, 60)] (by decide +kernel) rfl rfl ?_
      refine sm_cv (N := mX4_rightField) (d' := d - 1) (fun r => (some (vi r))) (fun _ => σ) (fun _ => y40.2) [vi u2] [] rfl (by decide +kernel) q1774 q1776 qs77 (Or.inl ⟨rfl, q1777⟩) (show okN yX4_rightField 1 = true by decide +kernel) (fun H hR => hR.rvw G.1 G.2.1) rfl rfl (by omega) rfl (fun Q' => m_rightField_ok G (d - 1) (by omega) u2 y40.2 Q') (fun y42 => ?_)
      refine sm_b (l' := [(0, vr (some (gw g))), (1, vi u1), (2, vi u2), (4, vi u4), (5, vi u5), (6, vi w6), (7, vi u7), (8, vi x41)]) (st' := [vi u1, vi y42]) (pc' := 64) [(.iload_n 1, vi 0, 64)] (by decide +kernel) rfl rfl ?_
      refine sm_gd (fun h43 => ?_)
      refine sm_gd (fun h44 => ?_)
      refine sm_case (V g mX4_putRow d 70 [(0, vr (some (gw g))), (1, vi u1), (2, vi u2), (4, vi u4), (5, vi u5), (6, vi w6), (7, vi u7), (8, vi x41)] [] σ y40.2 Q) (V g mX4_putRow d 67 [(0, vr (some (gw g))), (1, vi u1), (2, vi u2), (4, vi u4), (5, vi u5), (6, vi w6), (7, vi u7), (8, vi x41)] [] σ y40.2 Q) ?_ ?_ (fun f76 p77 n78 => ?_)
      · refine sm_b (l' := [(0, vr (some (gw g))), (1, vi u1), (2, vi u2), (4, vi u4), (5, vi u5), (6, vi w6), (7, vi u7), (8, vi x41)]) (st' := [vr (some (gw g))]) (pc' := 71) [(.aload_n 0, vi 0, 71)] (by decide +kernel) rfl rfl ?_
        refine sm_tg (k := 50) (x := vi (tI y40.2 50)) G.2.1 q1468 rfl rfl (by decide +kernel) ?_
        refine sm_nmi (fun x47 => ?_)
        refine sm_b (l' := [(0, vr (some (gw g))), (1, vi u1), (2, vi u2), (4, vi u4), (5, vi u5), (6, vi w6), (7, vi u7), (8, vi x41), (9, vi x47)]) (st' := [vr (some (gw g))]) (pc' := 77) [(.istore 9, vi 0, 76), (.aload_n 0, vi 0, 77)] (by decide +kernel) rfl rfl ?_
        refine sm_tg (k := 51) (x := vi (tI y40.2 51)) G.2.1 q1469 rfl rfl (by decide +kernel) ?_
        refine sm_nmi (fun x48 => ?_)
        refine sm_b (l' := [(0, vr (some (gw g))), (1, vi u1), (2, vi u2), (4, vi u4), (5, vi u5), (6, vi w6), (7, vi u7), (8, vi x41), (9, vi x47), (10, vi x48)]) (st' := [vi u1, vr (some (gw g))]) (pc' := 84) [(.istore 10, vi 0, 82), (.aload_n 0, vi 0, 83), (.iload_n 1, vi 0, 84)] (by decide +kernel) rfl rfl ?_
        refine sm_cv (N := mX4_isPlain) (d' := d - 1) (fun r => (some (vi r))) (fun _ => σ) (fun _ => y40.2) [vi u1] [] rfl (by decide +kernel) q1786 q1788 qs80 (Or.inl ⟨rfl, q1789⟩) (show okN yX4_isPlain 1 = true by decide +kernel) (fun H hR => hR.rvw G.1 G.2.1) rfl rfl (by omega) rfl (fun Q' => m_isPlain_ok G (d - 1) (by omega) u1 y40.2 Q') (fun y49 => ?_)
        refine sm_gd (fun h50 => ?_)
        refine sm_case (V g mX4_putRow d 90 [(0, vr (some (gw g))), (1, vi u1), (2, vi u2), (4, vi u4), (5, vi u5), (6, vi w6), (7, vi u7), (8, vi x41), (9, vi x47), (10, vi x48)] [] σ y40.2 Q) (V g mX4_putRow d 114 [(0, vr (some (gw g))), (1, vi u1), (2, vi u2), (4, vi u4), (5, vi u5), (6, vi w6), (7, vi u7), (8, vi x41), (9, vi x47), (10, vi x48)] [] σ y40.2 Q) ?_ ?_ (fun f72 p73 n74 => ?_)
        · refine sm_b (l' := [(0, vr (some (gw g))), (1, vi u1), (2, vi u2), (4, vi u4), (5, vi u5), (6, vi w6), (7, vi u7), (8, vi x41), (9, vi x47), (10, vi x48)]) (st' := [vi u5, vi w6, vi u1, vr (some (gw g))]) (pc' := 96) [(.aload_n 0, vi 0, 91), (.iload_n 1, vi 0, 92), (.iload 6, vi 0, 94), (.iload 5, vi 0, 96)] (by decide +kernel) rfl rfl ?_
          refine sm_cv (N := mX4_beginElement) (d' := d - 1) (fun r => none) (fun _ => σ) (fun r => r) [vi u1, vi w6, vi u5] [] rfl (by decide +kernel) q1829 q1831 qs89 (Or.inl ⟨rfl, q1832⟩) (show okN yX4_beginElement 3 = true by decide +kernel) (fun H hR => hR.rvw G.1 G.2.1) rfl rfl (by omega) rfl (fun Q' => m_beginElement_ok G (d - 1) (by omega) u1 w6 u5 y40.2 Q') (fun y53 => ?_)
          refine sm_b (l' := [(0, vr (some (gw g))), (1, vi u1), (2, vi u2), (4, vi u4), (5, vi u5), (6, vi (w6 + 1)), (7, vi u7), (8, vi x41), (9, vi x47), (10, vi x48)]) (st' := [vi x48, vi x47, vi u1, vr (some (gw g))]) (pc' := 108) [(.iinc 6 1, vi 1, 102), (.aload_n 0, vi 0, 103), (.iload_n 1, vi 0, 104), (.iload 9, vi 0, 106), (.iload 10, vi 0, 108)] (by decide +kernel) rfl rfl ?_
          refine sm_cv (N := mX4_putOne) (d' := d - 1) (fun r => none) (fun _ => σ) (fun r => r) [vi u1, vi x47, vi x48] [] rfl (by decide +kernel) q1837 q1839 qs91 (Or.inl ⟨rfl, q1840⟩) (show okN yX4_putOne 3 = true by decide +kernel) (fun H hR => hR.rvw G.1 G.2.1) rfl rfl (by omega) rfl (fun Q' => m_putOne_ok G (D := D) rec hrec (d - 1) (by omega) (by omega) u1 x47 x48 y53 Q') (fun y54 => ?_)
          refine sm_b (l' := [(0, vr (some (gw g))), (1, vi u1), (2, vi u2), (4, vi u4), (5, vi u5), (6, vi (w6 + 1)), (7, vi u7), (8, vi x41), (9, vi x47), (10, vi x48)]) (st' := []) (pc' := 22) [(.goto (-89), vi 0, 22)] (by decide +kernel) rfl rfl ?_
          refine sm_pick [0, 1, 2, 3, 4, 5, 6, 7] (l' := [(0, vr (some (gw g))), (1, vi u1), (2, vi u2), (4, vi u4), (5, vi u5), (6, vi (w6 + 1)), (7, vi u7), (8, vi x41)]) rfl ?_
          exact ih (w6 + 1) x41 y54
        · refine sm_b (l' := [(0, vr (some (gw g))), (1, vi u1), (2, vi u2), (4, vi u4), (5, vi u5), (6, vi w6), (7, vi u7), (8, vi x41), (9, vi x47), (10, vi x48)]) (st' := [vi x47, vr (some (gw g))]) (pc' := 117) [(.aload_n 0, vi 0, 115), (.iload 9, vi 0, 117)] (by decide +kernel) rfl rfl ?_
          refine sm_tpi (k := 46) G.2.1 q1464 rfl rfl rfl (tp_46 g y40.2 x47) (by decide +kernel) ?_
          refine sm_nmt (fun τ55 => ?_)
          refine sm_bind1 (fun (v56 : Int × TT) => V g mX4_putRow d 166 [(0, vr (some (gw g))), (1, vi u1), (2, vi u2), (4, vi u4), (5, vi u5), (6, vi v56.1), (7, vi u7), (8, vi x41)] [] σ v56.2 Q) (fun v56 => ?_) (fun K57 j58 => ?_)
          · refine sm_b (l' := [(0, vr (some (gw g))), (1, vi u1), (2, vi u2), (4, vi u4), (5, vi u5), (6, vi v56.1), (7, vi u7), (8, vi x41)]) (st' := []) (pc' := 22) [(.goto (-144), vi 0, 22)] (by decide +kernel) rfl rfl ?_
            exact ih v56.1 x41 v56.2
          · refine sm_pick [0, 1, 2, 3, 4, 5, 6, 7, 9] (l' := [(0, vr (some (gw g))), (1, vi u1), (2, vi u2), (4, vi u4), (5, vi u5), (6, vi w6), (7, vi u7), (8, vi x41), (10, vi x48)]) rfl ?_
            exact m_putRow_L120_ok G rec hrec d hd1 hd2 u1 u2 u4 u5 u7 x41 x48  (fun _ h => j58 _ h) FU w6 τ55
        refine sm_if_ne (off := 27) (tgt := 114) h50 (by decide +kernel) (fun c75 => ?_) (fun c75 => ?_)
        · exact n74 c75
        · exact p73 c75
      · refine sm_b (l' := [(0, vr (some (gw g))), (1, vi u1), (2, vi u2), (4, vi u4), (5, vi u5), (6, vi w6), (7, vi u7), (8, vi x41)]) (st' := []) (pc' := 22) [(.goto (-45), vi 0, 22)] (by decide +kernel) rfl rfl ?_
        exact ih w6 x41 y40.2
      refine sm_icmp_eq (off := 6) (tgt := 70) h43 h44 (by decide +kernel) (fun c79 => ?_) (fun c79 => ?_)
      · exact p77 c79
      · exact n78 c79
    refine sm_icmp_ge (off := 138) (tgt := 169) h36 h37 (by decide +kernel) (fun c83 => ?_) (fun c83 => ?_)
    · exact p81 c83
    · exact n82 c83
set_option maxHeartbeats 4000000 in
theorem m_putRow_L6_ok {g : GE} (G : GG g) {D : Nat} (rec : Int → Int → Int → TT → Option (TT)) (hrec : ∀ (d : Nat), D ≤ d → ∀ {σ : ST} (a1 : Int) (a2 : Int) (a3 : Int) (τ : TT) (Q' : VQ), Sm (V g mX4_putMessage d 0 [(0, vr (some (gw g))), (1, vi a1), (2, vi a2), (3, vi a3)] [] σ τ Q') (rec a1 a2 a3 τ) (fun r => Q'.1 none σ r)) {σ : ST} {Q : VQ} (d : Nat) (hd1 : D + 3 ≤ d) (hd2 : 28 ≤ d) (u1 : Int) (u2 : Int) (u4 : Int) (u5 : Int)  {K : Int × TT → Prop} (hE175 : ∀ v23 : Int × TT, K (v23) → V g mX4_putRow d 175 [(0, vr (some (gw g))), (6, vi v23.1)] [] σ v23.2 Q) : ∀ (n : Nat) (w6 : Int) (w7 : Int) (τ : TT), Sm (V g mX4_putRow d 6 [(0, vr (some (gw g))), (1, vi u1), (2, vi u2), (4, vi u4), (5, vi u5), (6, vi w6), (7, vi w7)] [] σ τ Q) (m_putRow_L6 rec u1 u2 u4 u5 n w6 w7 τ) K := by
  intro n
  induction n with
  | zero => intro w6 w7 τ; exact sm_none
  | succ n ih =>
    intro w6 w7 τ
    rw [m_putRow_L6.eq_2]
    refine sm_b (l' := [(0, vr (some (gw g))), (1, vi u1), (2, vi u2), (4, vi u4), (5, vi u5), (6, vi w6), (7, vi w7)]) (st' := [vi u4, vi w7]) (pc' := 10) [(.iload 7, vi 0, 8), (.iload 4, vi 0, 10)] (by decide +kernel) rfl rfl ?_
    refine sm_gd (fun h24 => ?_)
    refine sm_gd (fun h25 => ?_)
    refine sm_case (V g mX4_putRow d 175 [(0, vr (some (gw g))), (1, vi u1), (2, vi u2), (4, vi u4), (5, vi u5), (6, vi w6), (7, vi w7)] [] σ τ Q) (V g mX4_putRow d 13 [(0, vr (some (gw g))), (1, vi u1), (2, vi u2), (4, vi u4), (5, vi u5), (6, vi w6), (7, vi w7)] [] σ τ Q) ?_ ?_ (fun f84 p85 n86 => ?_)
    · refine sm_pick [0, 5] (l' := [(0, vr (some (gw g))), (6, vi w6)]) rfl ?_
      exact sm_leaf (fun h => hE175 _ h)
    · refine sm_b (l' := [(0, vr (some (gw g))), (1, vi u1), (2, vi u2), (4, vi u4), (5, vi u5), (6, vi w6), (7, vi w7)]) (st' := [vr (some (gw g))]) (pc' := 14) [(.aload_n 0, vi 0, 14)] (by decide +kernel) rfl rfl ?_
      refine sm_tg (k := 43) (x := vr (some (gT g 43))) G.2.1 q1461 rfl rfl (by decide +kernel) ?_
      refine sm_b (l' := [(0, vr (some (gw g))), (1, vi u1), (2, vi u2), (4, vi u4), (5, vi u5), (6, vi w6), (7, vi w7)]) (st' := [vi w7, vr (some (gT g 43))]) (pc' := 19) [(.iload 7, vi 0, 19)] (by decide +kernel) rfl rfl ?_
      refine sm_gd (fun h28 => ?_)
      refine sm_ial (k := 43) G.2.1 (by decide) rfl (ibt (k := 43) h28) h28 (by decide +kernel) ?_
      refine sm_nmi (fun x29 => ?_)
      refine sm_b (l' := [(0, vr (some (gw g))), (1, vi u1), (2, vi u2), (4, vi u4), (5, vi u5), (6, vi w6), (7, vi w7), (8, vi x29)]) (st' := []) (pc' := 22) [(.istore 8, vi 0, 22)] (by decide +kernel) rfl rfl ?_
      refine sm_bind1 (fun (v30 : Int × TT) => V g mX4_putRow d 169 [(0, vr (some (gw g))), (1, vi u1), (2, vi u2), (4, vi u4), (5, vi u5), (6, vi v30.1), (7, vi w7)] [] σ v30.2 Q) (fun v30 => ?_) (fun K31 j32 => ?_)
      · refine sm_b (l' := [(0, vr (some (gw g))), (1, vi u1), (2, vi u2), (4, vi u4), (5, vi u5), (6, vi v30.1), (7, vi (w7 + 1))]) (st' := []) (pc' := 6) [(.iinc 7 1, vi 1, 172), (.goto (-166), vi 0, 6)] (by decide +kernel) rfl rfl ?_
        exact ih v30.1 (w7 + 1) v30.2
      · exact m_putRow_L22_ok G rec hrec d hd1 hd2 u1 u2 u4 u5 w7  (fun _ h => j32 _ h) FU w6 x29 τ
    refine sm_icmp_ge (off := 165) (tgt := 175) h24 h25 (by decide +kernel) (fun c87 => ?_) (fun c87 => ?_)
    · exact p85 c87
    · exact n86 c87
set_option maxHeartbeats 4000000 in
theorem m_putRow_ok {g : GE} (G : GG g) {D : Nat} (rec : Int → Int → Int → TT → Option (TT)) (hrec : ∀ (d : Nat), D ≤ d → ∀ {σ : ST} (a1 : Int) (a2 : Int) (a3 : Int) (τ : TT) (Q' : VQ), Sm (V g mX4_putMessage d 0 [(0, vr (some (gw g))), (1, vi a1), (2, vi a2), (3, vi a3)] [] σ τ Q') (rec a1 a2 a3 τ) (fun r => Q'.1 none σ r)) {σ : ST} (d : Nat) (hd1 : D + 3 ≤ d) (hd2 : 28 ≤ d) (a1 : Int) (a2 : Int) (a3 : Int) (a4 : Int) (a5 : Int)  (τ : TT) (Q : VQ) : Sm (V g mX4_putRow d 0 [(0, vr (some (gw g))), (1, vi a1), (2, vi a2), (3, vi a3), (4, vi a4), (5, vi a5)] [] σ τ Q) (m_putRow rec a1 a2 a3 a4 a5 τ) (fun r => Q.1 (some (vi r.1)) σ r.2) := by
  unfold m_putRow
  refine sm_top (fun K hRET => ?_)
  refine sm_b (l' := [(0, vr (some (gw g))), (1, vi a1), (2, vi a2), (3, vi a3), (4, vi a4), (5, vi a5), (6, vi 0), (7, vi a3)]) (st' := []) (pc' := 6) [(.iconst 0, vi 0, 1), (.istore 6, vi 0, 3), (.iload_n 3, vi 0, 4), (.istore 7, vi 0, 6)] (by decide +kernel) rfl rfl ?_
  refine sm_bind1 (fun (v1 : Int × TT) => V g mX4_putRow d 175 [(0, vr (some (gw g))), (6, vi v1.1)] [] σ v1.2 Q) (fun v1 => ?_) (fun K2 j3 => ?_)
  · refine sm_b (l' := [(0, vr (some (gw g))), (6, vi v1.1)]) (st' := [vi v1.1]) (pc' := 177) [(.iload 6, vi 0, 177)] (by decide +kernel) rfl rfl ?_
    refine sm_bind1 (fun (v7 : TT) => V g mX4_putRow d 186 [(6, vi v1.1)] [] σ v7 Q) (fun v7 => ?_) (fun K8 j9 => ?_)
    · refine sm_b (l' := [(6, vi v1.1)]) (st' := [vi v1.1]) (pc' := 188) [(.iload 6, vi 0, 188)] (by decide +kernel) rfl rfl ?_
      refine sm_gd (fun h11 => ?_)
      refine sm_case (V g mX4_putRow d 195 [(6, vi v1.1)] [] σ v7 Q) (V g mX4_putRow d 191 [(6, vi v1.1)] [] σ v7 Q) ?_ ?_ (fun f14 p15 n16 => ?_)
      · refine sm_b (l' := [(6, vi v1.1)]) (st' := [vi 0]) (pc' := 196) [(.iconst 0, vi 0, 196)] (by decide +kernel) rfl rfl ?_
        exact sm_zret rfl (by decide +kernel) (by decide) (fun h => hRET _ h)
      · refine sm_b (l' := [(6, vi v1.1)]) (st' := [vi 1]) (pc' := 196) [(.iconst 1, vi 1, 192), (.goto 4, vi 0, 196)] (by decide +kernel) rfl rfl ?_
        exact sm_zret rfl (by decide +kernel) (by decide) (fun h => hRET _ h)
      refine sm_if_le (off := 7) (tgt := 195) h11 (by decide +kernel) (fun c17 => ?_) (fun c17 => ?_)
      · exact p15 c17
      · exact n16 c17
    · refine sm_gd (fun h5 => ?_)
      refine sm_case (V g mX4_putRow d 186 [(0, vr (some (gw g))), (6, vi v1.1)] [] σ v1.2 Q) (V g mX4_putRow d 180 [(0, vr (some (gw g))), (6, vi v1.1)] [] σ v1.2 Q) ?_ ?_ (fun f19 p20 n21 => ?_)
      · refine sm_pick [1] (l' := [(6, vi v1.1)]) rfl ?_
        exact sm_leaf (fun h => j9 _ h)
      · refine sm_b (l' := [(0, vr (some (gw g))), (6, vi v1.1)]) (st' := [vi 93, vr (some (gw g))]) (pc' := 183) [(.aload_n 0, vi 0, 181), (.bipush 93, vi 93, 183)] (by decide +kernel) rfl rfl ?_
        refine sm_cv (N := mX4_put) (d' := d - 1) (fun r => none) (fun _ => σ) (fun r => r) [vi 93] [] rfl (by decide +kernel) q1817 q1819 qs86 (Or.inl ⟨rfl, q1820⟩) (show okN yX4_put 1 = true by decide +kernel) (fun H hR => hR.rvw G.1 G.2.1) rfl rfl (by omega) rfl (fun Q' => m_put_ok G (d - 1) (by omega) 93 v1.2 Q') (fun y18 => ?_)
        refine sm_pick [1] (l' := [(6, vi v1.1)]) rfl ?_
        exact sm_leaf (fun h => j9 _ h)
      refine sm_if_le (off := 9) (tgt := 186) h5 (by decide +kernel) (fun c22 => ?_) (fun c22 => ?_)
      · exact p20 c22
      · exact n21 c22
  · refine sm_pick [0, 1, 2, 4, 5, 6, 7] (l' := [(0, vr (some (gw g))), (1, vi a1), (2, vi a2), (4, vi a4), (5, vi a5), (6, vi 0), (7, vi a3)]) rfl ?_
    exact m_putRow_L6_ok G rec hrec d hd1 hd2 a1 a2 a4 a5  (fun _ h => j3 _ h) FU 0 a3 τ
def m_putMessage_L17 (rec : Int → Int → Int → TT → Option (TT)) (u1 : Int) (u2 : Int) (u3 : Int) : Nat → Int → Int → TT → Option (TT)
  | 0, _, _, _ => none
  | n + 1, w4, w5, τ => gd (rg w5) (if w5 = ((-1)) then (some τ) else (gd (ib w5 50) (Option.bind (gd (rg (tA τ 29 w5.toNat)) (if (tA τ 29 w5.toNat) = 0 then (nm (tI τ 45) fun x22 => Option.bind (m_find w5 u1 u2 u3 τ) fun y23 => Option.bind (gd (rg (tI y23 52)) (gd (¬ ((tI y23 52) = 0) → ok (m_isDefault w5 y23)) (gd (¬ ((tI y23 52) = 0) → rg (vv (m_isDefault w5 y23))) (if ((tI y23 52) = 0) ∨ (¬ ((vv (m_isDefault w5 y23)) = 0)) then (some ((w4, y23))) else (Option.bind (m_putName w5 w4 y23) fun y34 => Option.bind (m_isPlain w5 y34) fun y35 => gd (rg y35) (if y35 = 0 then (gd (rg (tA y34 28 w5.toNat)) (if 16 ≤ (tA y34 28 w5.toNat) then (Option.bind (rec ((tA y34 28 w5.toNat) - 16) x22 (tI y34 45) y34) fun y43 => some ((1, y43))) else (Option.bind (m_putOne rec w5 (tI y34 53) (tI y34 54) y34) fun y44 => some ((1, y44))))) else (Option.bind (m_putNumber w5 (tJ y34 55) y34) fun y49 => some ((1, y49))))))))) fun (v29 : Int × TT) => nm (uI v29.2 45 x22) fun τ33 => some ((v29.1, τ33))) else (Option.bind (m_putRow rec w5 u1 u2 u3 w4 τ) fun y59 => Option.bind (gd (rg y59.1) (gd (y59.1 = 0 → rg w4) (if (y59.1 = 0) ∧ (w4 = 0) then (some 0) else (some 1)))) fun (v65 : Int) => some ((v65, y59.2))))) fun (v17 : Int × TT) => Option.bind (m_after u1 (tA v17.2 24 w5.toNat) v17.2) fun y21 => m_putMessage_L17 rec u1 u2 u3 n v17.1 y21 v17.2)))
def m_putMessageb (rec : Int → Int → Int → TT → Option (TT)) (a1 : Int) (a2 : Int) (a3 : Int) (τ : TT) : Option (TT) := Option.bind (m_put 123 τ) fun y1 => Option.bind (m_after a1 0 y1) fun y2 => Option.bind (m_putMessage_L17 rec a1 a2 a3 FU 0 y2 y1) fun (v3 : TT) => Option.bind (m_put 125 v3) fun y7 => some y7
set_option maxHeartbeats 4000000 in
theorem m_putMessage_L17_ok {g : GE} (G : GG g) {D : Nat} (rec : Int → Int → Int → TT → Option (TT)) (hrec : ∀ (d : Nat), D ≤ d → ∀ {σ : ST} (a1 : Int) (a2 : Int) (a3 : Int) (τ : TT) (Q' : VQ), Sm (V g mX4_putMessage d 0 [(0, vr (some (gw g))), (1, vi a1), (2, vi a2), (3, vi a3)] [] σ τ Q') (rec a1 a2 a3 τ) (fun r => Q'.1 none σ r)) {σ : ST} {Q : VQ} (d : Nat) (hd1 : D + 4 ≤ d) (hd2 : 29 ≤ d) (u1 : Int) (u2 : Int) (u3 : Int)  {K : TT → Prop} (hE198 : ∀ v8 : TT, K (v8) → V g mX4_putMessage d 198 [(0, vr (some (gw g)))] [] σ v8 Q) : ∀ (n : Nat) (w4 : Int) (w5 : Int) (τ : TT), Sm (V g mX4_putMessage d 17 [(0, vr (some (gw g))), (1, vi u1), (2, vi u2), (3, vi u3), (4, vi w4), (5, vi w5)] [] σ τ Q) (m_putMessage_L17 rec u1 u2 u3 n w4 w5 τ) K := by
  intro n
  induction n with
  | zero => intro w4 w5 τ; exact sm_none
  | succ n ih =>
    intro w4 w5 τ
    rw [m_putMessage_L17.eq_2]
    refine sm_b (l' := [(0, vr (some (gw g))), (1, vi u1), (2, vi u2), (3, vi u3), (4, vi w4), (5, vi w5)]) (st' := [vi ((-1)), vi w5]) (pc' := 20) [(.iload 5, vi 0, 19), (.iconst (-1), vi (-1), 20)] (by decide +kernel) rfl rfl ?_
    refine sm_gd (fun h9 => ?_)
    refine sm_case (V g mX4_putMessage d 198 [(0, vr (some (gw g))), (1, vi u1), (2, vi u2), (3, vi u3), (4, vi w4), (5, vi w5)] [] σ τ Q) (V g mX4_putMessage d 23 [(0, vr (some (gw g))), (1, vi u1), (2, vi u2), (3, vi u3), (4, vi w4), (5, vi w5)] [] σ τ Q) ?_ ?_ (fun f78 p79 n80 => ?_)
    · refine sm_pick [0] (l' := [(0, vr (some (gw g)))]) rfl ?_
      exact sm_leaf (fun h => hE198 _ h)
    · refine sm_b (l' := [(0, vr (some (gw g))), (1, vi u1), (2, vi u2), (3, vi u3), (4, vi w4), (5, vi w5)]) (st' := [vr (some (gw g))]) (pc' := 24) [(.aload_n 0, vi 0, 24)] (by decide +kernel) rfl rfl ?_
      refine sm_tg (k := 29) (x := vr (some (gT g 29))) G.2.1 q1447 rfl rfl (by decide +kernel) ?_
      refine sm_b (l' := [(0, vr (some (gw g))), (1, vi u1), (2, vi u2), (3, vi u3), (4, vi w4), (5, vi w5)]) (st' := [vi w5, vr (some (gT g 29))]) (pc' := 29) [(.iload 5, vi 0, 29)] (by decide +kernel) rfl rfl ?_
      refine sm_gd (fun h13 => ?_)
      refine sm_zal (k := 29) G.2.1 (by decide) rfl (ibt (k := 29) h13) h13 (by decide +kernel) ?_
      refine sm_bind1 (fun (v17 : Int × TT) => V g mX4_putMessage d 181 [(0, vr (some (gw g))), (1, vi u1), (2, vi u2), (3, vi u3), (4, vi v17.1), (5, vi w5)] [] σ v17.2 Q) (fun v17 => ?_) (fun K18 j19 => ?_)
      · refine sm_b (l' := [(0, vr (some (gw g))), (1, vi u1), (2, vi u2), (3, vi u3), (4, vi v17.1), (5, vi w5)]) (st' := [vr (some (gw g)), vi u1, vr (some (gw g))]) (pc' := 184) [(.aload_n 0, vi 0, 182), (.iload_n 1, vi 0, 183), (.aload_n 0, vi 0, 184)] (by decide +kernel) rfl rfl ?_
        refine sm_tg (k := 24) (x := vr (some (gT g 24))) G.2.1 q1442 rfl rfl (by decide +kernel) ?_
        refine sm_b (l' := [(0, vr (some (gw g))), (1, vi u1), (2, vi u2), (3, vi u3), (4, vi v17.1), (5, vi w5)]) (st' := [vi w5, vr (some (gT g 24)), vi u1, vr (some (gw g))]) (pc' := 189) [(.iload 5, vi 0, 189)] (by decide +kernel) rfl rfl ?_
        refine sm_ial (k := 24) G.2.1 (by decide) rfl (ibt (k := 24) h13) h13 (by decide +kernel) ?_
        refine sm_cv (N := mX4_after) (d' := d - 1) (fun r => (some (vi r))) (fun _ => σ) (fun _ => v17.2) [vi u1, vi (tA v17.2 24 w5.toNat)] [] rfl (by decide +kernel) q1821 q1823 qs87 (Or.inl ⟨rfl, q1824⟩) (show okN yX4_after 2 = true by decide +kernel) (fun H hR => hR.rvw G.1 G.2.1) rfl rfl (by omega) rfl (fun Q' => m_after_ok G (d - 1) (by omega) u1 (tA v17.2 24 w5.toNat) v17.2 Q') (fun y21 => ?_)
        refine sm_b (l' := [(0, vr (some (gw g))), (1, vi u1), (2, vi u2), (3, vi u3), (4, vi v17.1), (5, vi y21)]) (st' := []) (pc' := 17) [(.istore 5, vi 0, 195), (.goto (-178), vi 0, 17)] (by decide +kernel) rfl rfl ?_
        exact ih v17.1 y21 v17.2
      · refine sm_gd (fun h14 => ?_)
        refine sm_case (V g mX4_putMessage d 62 [(0, vr (some (gw g))), (1, vi u1), (2, vi u2), (3, vi u3), (4, vi w4), (5, vi w5)] [] σ τ Q) (V g mX4_putMessage d 33 [(0, vr (some (gw g))), (1, vi u1), (2, vi u2), (3, vi u3), (4, vi w4), (5, vi w5)] [] σ τ Q) ?_ ?_ (fun f74 p75 n76 => ?_)
        · refine sm_b (l' := [(0, vr (some (gw g))), (1, vi u1), (2, vi u2), (3, vi u3), (4, vi w4), (5, vi w5)]) (st' := [vr (some (gw g))]) (pc' := 63) [(.aload_n 0, vi 0, 63)] (by decide +kernel) rfl rfl ?_
          refine sm_tg (k := 45) (x := vi (tI τ 45)) G.2.1 q1463 rfl rfl (by decide +kernel) ?_
          refine sm_nmi (fun x22 => ?_)
          refine sm_b (l' := [(0, vr (some (gw g))), (1, vi u1), (2, vi u2), (3, vi u3), (4, vi w4), (5, vi w5), (6, vi x22)]) (st' := [vi u3, vi u2, vi u1, vi w5, vr (some (gw g))]) (pc' := 74) [(.istore 6, vi 0, 68), (.aload_n 0, vi 0, 69), (.iload 5, vi 0, 71), (.iload_n 1, vi 0, 72), (.iload_n 2, vi 0, 73), (.iload_n 3, vi 0, 74)] (by decide +kernel) rfl rfl ?_
          refine sm_cv (N := mX4_find) (d' := d - 1) (fun r => none) (fun _ => σ) (fun r => r) [vi w5, vi u1, vi u2, vi u3] [] rfl (by decide +kernel) q1882 q1884 qs99 (Or.inl ⟨rfl, q1885⟩) (show okN yX4_find 4 = true by decide +kernel) (fun H hR => hR.rvw G.1 G.2.1) rfl rfl (by omega) rfl (fun Q' => m_find_ok G (d - 1) (by omega) w5 u1 u2 u3 τ Q') (fun y23 => ?_)
          refine sm_b (l' := [(0, vr (some (gw g))), (1, vi u1), (2, vi u2), (3, vi u3), (4, vi w4), (5, vi w5), (6, vi x22)]) (st' := [vr (some (gw g))]) (pc' := 78) [(.aload_n 0, vi 0, 78)] (by decide +kernel) rfl rfl ?_
          refine sm_tg (k := 52) (x := vi (tI y23 52)) G.2.1 q1470 rfl rfl (by decide +kernel) ?_
          refine sm_bind1 (fun (v29 : Int × TT) => V g mX4_putMessage d 175 [(0, vr (some (gw g))), (1, vi u1), (2, vi u2), (3, vi u3), (4, vi v29.1), (5, vi w5), (6, vi x22)] [] σ v29.2 Q) (fun v29 => ?_) (fun K30 j31 => ?_)
          · refine sm_b (l' := [(0, vr (some (gw g))), (1, vi u1), (2, vi u2), (3, vi u3), (4, vi v29.1), (5, vi w5), (6, vi x22)]) (st' := [vi x22, vr (some (gw g))]) (pc' := 178) [(.aload_n 0, vi 0, 176), (.iload 6, vi 0, 178)] (by decide +kernel) rfl rfl ?_
            refine sm_tpi (k := 45) G.2.1 q1463 rfl rfl rfl (tp_45 g v29.2 x22) (by decide +kernel) ?_
            refine sm_nmt (fun τ33 => ?_)
            refine sm_pick [0, 1, 2, 3, 4, 5] (l' := [(0, vr (some (gw g))), (1, vi u1), (2, vi u2), (3, vi u3), (4, vi v29.1), (5, vi w5)]) rfl ?_
            exact sm_leaf (fun h => j19 _ h)
          · refine sm_gd (fun h24 => ?_)
            refine sm_gd (fun h26 => ?_)
            refine sm_gd (fun h27 => ?_)
            refine sm_case (V g mX4_putMessage d 175 [(0, vr (some (gw g))), (1, vi u1), (2, vi u2), (3, vi u3), (4, vi w4), (5, vi w5), (6, vi x22)] [] σ y23 Q) (V g mX4_putMessage d 93 [(0, vr (some (gw g))), (1, vi u1), (2, vi u2), (3, vi u3), (4, vi w4), (5, vi w5), (6, vi x22)] [] σ y23 Q) ?_ ?_ (fun f54 p55 n56 => ?_)
            · exact sm_leaf (fun h => j31 _ h)
            · refine sm_b (l' := [(0, vr (some (gw g))), (1, vi u1), (2, vi u2), (3, vi u3), (4, vi w4), (5, vi w5), (6, vi x22)]) (st' := [vi w4, vi w5, vr (some (gw g))]) (pc' := 98) [(.aload_n 0, vi 0, 94), (.iload 5, vi 0, 96), (.iload 4, vi 0, 98)] (by decide +kernel) rfl rfl ?_
              refine sm_cv (N := mX4_putName) (d' := d - 1) (fun r => none) (fun _ => σ) (fun r => r) [vi w5, vi w4] [] rfl (by decide +kernel) q1833 q1835 qs90 (Or.inl ⟨rfl, q1836⟩) (show okN yX4_putName 2 = true by decide +kernel) (fun H hR => hR.rvw G.1 G.2.1) rfl rfl (by omega) rfl (fun Q' => m_putName_ok G (d - 1) (by omega) w5 w4 y23 Q') (fun y34 => ?_)
              refine sm_b (l' := [(0, vr (some (gw g))), (1, vi u1), (2, vi u2), (3, vi u3), (4, vi 1), (5, vi w5), (6, vi x22)]) (st' := [vi w5, vr (some (gw g))]) (pc' := 107) [(.iconst 1, vi 1, 102), (.istore 4, vi 0, 104), (.aload_n 0, vi 0, 105), (.iload 5, vi 0, 107)] (by decide +kernel) rfl rfl ?_
              refine sm_cv (N := mX4_isPlain) (d' := d - 1) (fun r => (some (vi r))) (fun _ => σ) (fun _ => y34) [vi w5] [] rfl (by decide +kernel) q1786 q1788 qs80 (Or.inl ⟨rfl, q1789⟩) (show okN yX4_isPlain 1 = true by decide +kernel) (fun H hR => hR.rvw G.1 G.2.1) rfl rfl (by omega) rfl (fun Q' => m_isPlain_ok G (d - 1) (by omega) w5 y34 Q') (fun y35 => ?_)
              refine sm_gd (fun h36 => ?_)
              refine sm_case (V g mX4_putMessage d 126 [(0, vr (some (gw g))), (1, vi u1), (2, vi u2), (3, vi u3), (4, vi 1), (5, vi w5), (6, vi x22)] [] σ y34 Q) (V g mX4_putMessage d 113 [(0, vr (some (gw g))), (1, vi u1), (2, vi u2), (3, vi u3), (4, vi 1), (5, vi w5), (6, vi x22)] [] σ y34 Q) ?_ ?_ (fun f50 p51 n52 => ?_)
              · refine sm_b (l' := [(0, vr (some (gw g))), (1, vi u1), (2, vi u2), (3, vi u3), (4, vi 1), (5, vi w5), (6, vi x22)]) (st' := [vr (some (gw g))]) (pc' := 127) [(.aload_n 0, vi 0, 127)] (by decide +kernel) rfl rfl ?_
                refine sm_tg (k := 28) (x := vr (some (gT g 28))) G.2.1 q1446 rfl rfl (by decide +kernel) ?_
                refine sm_b (l' := [(0, vr (some (gw g))), (1, vi u1), (2, vi u2), (3, vi u3), (4, vi 1), (5, vi w5), (6, vi x22)]) (st' := [vi w5, vr (some (gT g 28))]) (pc' := 132) [(.iload 5, vi 0, 132)] (by decide +kernel) rfl rfl ?_
                refine sm_ial (k := 28) G.2.1 (by decide) rfl (ibt (k := 28) h13) h13 (by decide +kernel) ?_
                refine sm_b (l' := [(0, vr (some (gw g))), (1, vi u1), (2, vi u2), (3, vi u3), (4, vi 1), (5, vi w5), (6, vi x22)]) (st' := [vi 16, vi (tA y34 28 w5.toNat)]) (pc' := 135) [(.bipush 16, vi 16, 135)] (by decide +kernel) rfl rfl ?_
                refine sm_gd (fun h40 => ?_)
                refine sm_case (V g mX4_putMessage d 155 [(0, vr (some (gw g))), (1, vi u1), (2, vi u2), (3, vi u3), (4, vi 1), (5, vi w5), (6, vi x22)] [] σ y34 Q) (V g mX4_putMessage d 138 [(0, vr (some (gw g))), (1, vi u1), (2, vi u2), (3, vi u3), (4, vi 1), (5, vi w5), (6, vi x22)] [] σ y34 Q) ?_ ?_ (fun f45 p46 n47 => ?_)
                · refine sm_b (l' := [(0, vr (some (gw g))), (1, vi u1), (2, vi u2), (3, vi u3), (4, vi 1), (5, vi w5), (6, vi x22)]) (st' := [vr (some (gw g)), vr (some (gw g))]) (pc' := 157) [(.aload_n 0, vi 0, 156), (.aload_n 0, vi 0, 157)] (by decide +kernel) rfl rfl ?_
                  refine sm_tg (k := 28) (x := vr (some (gT g 28))) G.2.1 q1446 rfl rfl (by decide +kernel) ?_
                  refine sm_b (l' := [(0, vr (some (gw g))), (1, vi u1), (2, vi u2), (3, vi u3), (4, vi 1), (5, vi w5), (6, vi x22)]) (st' := [vi w5, vr (some (gT g 28)), vr (some (gw g))]) (pc' := 162) [(.iload 5, vi 0, 162)] (by decide +kernel) rfl rfl ?_
                  refine sm_ial (k := 28) G.2.1 (by decide) rfl (ibt (k := 28) h13) h13 (by decide +kernel) ?_
                  refine sm_b (l' := [(0, vr (some (gw g))), (1, vi u1), (2, vi u2), (3, vi u3), (4, vi 1), (5, vi w5), (6, vi x22)]) (st' := [vr (some (gw g)), vi x22, vi ((tA y34 28 w5.toNat) - 16), vr (some (gw g))]) (pc' := 169) [(.bipush 16, vi 16, 165), (.isub, vi 0, 166), (.iload 6, vi 0, 168), (.aload_n 0, vi 0, 169)] (by decide +kernel) rfl rfl ?_
                  refine sm_tg (k := 45) (x := vi (tI y34 45)) G.2.1 q1463 rfl rfl (by decide +kernel) ?_
                  refine sm_cv (N := mX4_putMessage) (d' := d - 1) (fun r => none) (fun _ => σ) (fun r => r) [vi ((tA y34 28 w5.toNat) - 16), vi x22, vi (tI y34 45)] [] rfl (by decide +kernel) q1813 q1815 qs85 (Or.inl ⟨rfl, q1816⟩) (show okN yX4_putMessage 3 = true by decide +kernel) (fun H hR => hR.rvw G.1 G.2.1) rfl rfl (by omega) rfl (fun Q' => hrec (d - 1) (by omega) ((tA y34 28 w5.toNat) - 16) x22 (tI y34 45) y34 Q') (fun y43 => ?_)
                  exact sm_leaf (fun h => j31 _ h)
                · refine sm_b (l' := [(0, vr (some (gw g))), (1, vi u1), (2, vi u2), (3, vi u3), (4, vi 1), (5, vi w5), (6, vi x22)]) (st' := [vr (some (gw g)), vi w5, vr (some (gw g))]) (pc' := 142) [(.aload_n 0, vi 0, 139), (.iload 5, vi 0, 141), (.aload_n 0, vi 0, 142)] (by decide +kernel) rfl rfl ?_
                  refine sm_tg (k := 53) (x := vi (tI y34 53)) G.2.1 q1471 rfl rfl (by decide +kernel) ?_
                  refine sm_b (l' := [(0, vr (some (gw g))), (1, vi u1), (2, vi u2), (3, vi u3), (4, vi 1), (5, vi w5), (6, vi x22)]) (st' := [vr (some (gw g)), vi (tI y34 53), vi w5, vr (some (gw g))]) (pc' := 146) [(.aload_n 0, vi 0, 146)] (by decide +kernel) rfl rfl ?_
                  refine sm_tg (k := 54) (x := vi (tI y34 54)) G.2.1 q1472 rfl rfl (by decide +kernel) ?_
                  refine sm_cv (N := mX4_putOne) (d' := d - 1) (fun r => none) (fun _ => σ) (fun r => r) [vi w5, vi (tI y34 53), vi (tI y34 54)] [] rfl (by decide +kernel) q1837 q1839 qs91 (Or.inl ⟨rfl, q1840⟩) (show okN yX4_putOne 3 = true by decide +kernel) (fun H hR => hR.rvw G.1 G.2.1) rfl rfl (by omega) rfl (fun Q' => m_putOne_ok G (D := D) rec hrec (d - 1) (by omega) (by omega) w5 (tI y34 53) (tI y34 54) y34 Q') (fun y44 => ?_)
                  refine sm_b (l' := [(0, vr (some (gw g))), (1, vi u1), (2, vi u2), (3, vi u3), (4, vi 1), (5, vi w5), (6, vi x22)]) (st' := []) (pc' := 175) [(.goto 23, vi 0, 175)] (by decide +kernel) rfl rfl ?_
                  exact sm_leaf (fun h => j31 _ h)
                refine sm_icmp_ge (off := 20) (tgt := 155) h40 (by decide) (by decide +kernel) (fun c48 => ?_) (fun c48 => ?_)
                · exact p46 c48
                · exact n47 c48
              · refine sm_b (l' := [(0, vr (some (gw g))), (1, vi u1), (2, vi u2), (3, vi u3), (4, vi 1), (5, vi w5), (6, vi x22)]) (st' := [vr (some (gw g)), vi w5, vr (some (gw g))]) (pc' := 117) [(.aload_n 0, vi 0, 114), (.iload 5, vi 0, 116), (.aload_n 0, vi 0, 117)] (by decide +kernel) rfl rfl ?_
                refine sm_tg (k := 55) (x := vl (tJ y34 55)) G.2.1 q1473 rfl rfl (by decide +kernel) ?_
                refine sm_cv (N := mX4_putNumber) (d' := d - 1) (fun r => none) (fun _ => σ) (fun r => r) [vi w5, vl (tJ y34 55)] [] rfl (by decide +kernel) q1862 q1864 qs96 (Or.inl ⟨rfl, q1865⟩) (show okN yX4_putNumber 2 = true by decide +kernel) (fun H hR => hR.rvw G.1 G.2.1) rfl rfl (by omega) rfl (fun Q' => m_putNumber_ok G (d - 1) (by omega) w5 (tJ y34 55) y34 Q') (fun y49 => ?_)
                refine sm_b (l' := [(0, vr (some (gw g))), (1, vi u1), (2, vi u2), (3, vi u3), (4, vi 1), (5, vi w5), (6, vi x22)]) (st' := []) (pc' := 175) [(.goto 52, vi 0, 175)] (by decide +kernel) rfl rfl ?_
                exact sm_leaf (fun h => j31 _ h)
              refine sm_if_eq (off := 16) (tgt := 126) h36 (by decide +kernel) (fun c53 => ?_) (fun c53 => ?_)
              · exact p51 c53
              · exact n52 c53
            refine sm_if_eq (off := 94) (tgt := 175) h24 (by decide +kernel) (fun c57 => ?_) (fun c57 => ?_)
            · exact p55 (Or.inl c57)
            · have w25 : ¬ ((tI y23 52) = 0) := c57
              refine sm_b (l' := [(0, vr (some (gw g))), (1, vi u1), (2, vi u2), (3, vi u3), (4, vi w4), (5, vi w5), (6, vi x22)]) (st' := [vi w5, vr (some (gw g))]) (pc' := 87) [(.aload_n 0, vi 0, 85), (.iload 5, vi 0, 87)] (by decide +kernel) rfl rfl ?_
              refine sm_cvp (N := mX4_isDefault) (d' := d - 1) (fun r => (some (vi r))) (some (vi (vv (m_isDefault w5 y23)))) (h26 w25) (fun y h => by rw [vv_some h]) [vi w5] [] rfl (by decide +kernel) q1886 q1888 qs100 (Or.inl ⟨rfl, q1889⟩) (show okN yX4_isDefault 1 = true by decide +kernel) (fun H hR => hR.rvw G.1 G.2.1) rfl rfl (by omega) rfl (fun Q' => m_isDefault_ok G (d - 1) (by omega) w5 y23 Q') ?_
              refine sm_if_ne (off := 85) (tgt := 175) (h27 w25) (by decide +kernel) (fun c58 => ?_) (fun c58 => ?_)
              · exact p55 (Or.inr c58)
              · exact n56 (fun q => q.elim c57 (fun q => q c58))
        · refine sm_b (l' := [(0, vr (some (gw g))), (1, vi u1), (2, vi u2), (3, vi u3), (4, vi w4), (5, vi w5)]) (st' := [vi w4, vi u3, vi u2, vi u1, vi w5, vr (some (gw g))]) (pc' := 41) [(.aload_n 0, vi 0, 34), (.iload 5, vi 0, 36), (.iload_n 1, vi 0, 37), (.iload_n 2, vi 0, 38), (.iload_n 3, vi 0, 39), (.iload 4, vi 0, 41)] (by decide +kernel) rfl rfl ?_
          refine sm_cv (N := mX4_putRow) (d' := d - 1) (fun r => (some (vi r.1))) (fun _ => σ) (fun r => r.2) [vi w5, vi u1, vi u2, vi u3, vi w4] [] rfl (by decide +kernel) q1825 q1827 qs88 (Or.inl ⟨rfl, q1828⟩) (show okN yX4_putRow 5 = true by decide +kernel) (fun H hR => hR.rvw G.1 G.2.1) rfl rfl (by omega) rfl (fun Q' => m_putRow_ok G (D := D) rec hrec (d - 1) (by omega) (by omega) w5 u1 u2 u3 w4 τ Q') (fun y59 => ?_)
          refine sm_bind1 (fun (v65 : Int) => V g mX4_putMessage d 57 [(0, vr (some (gw g))), (1, vi u1), (2, vi u2), (3, vi u3), (5, vi w5)] [vi v65] σ y59.2 Q) (fun v65 => ?_) (fun K66 j67 => ?_)
          · refine sm_b (l' := [(0, vr (some (gw g))), (1, vi u1), (2, vi u2), (3, vi u3), (5, vi w5), (4, vi v65)]) (st' := []) (pc' := 181) [(.istore 4, vi 0, 59), (.goto 122, vi 0, 181)] (by decide +kernel) rfl rfl ?_
            refine sm_pick [0, 1, 2, 3, 5, 4] (l' := [(0, vr (some (gw g))), (1, vi u1), (2, vi u2), (3, vi u3), (4, vi v65), (5, vi w5)]) rfl ?_
            exact sm_leaf (fun h => j19 _ h)
          · refine sm_gd (fun h60 => ?_)
            refine sm_gd (fun h62 => ?_)
            refine sm_case (V g mX4_putMessage d 56 [(0, vr (some (gw g))), (1, vi u1), (2, vi u2), (3, vi u3), (4, vi w4), (5, vi w5)] [] σ y59.2 Q) (V g mX4_putMessage d 52 [(0, vr (some (gw g))), (1, vi u1), (2, vi u2), (3, vi u3), (4, vi w4), (5, vi w5)] [] σ y59.2 Q) ?_ ?_ (fun f69 p70 n71 => ?_)
            · refine sm_b (l' := [(0, vr (some (gw g))), (1, vi u1), (2, vi u2), (3, vi u3), (4, vi w4), (5, vi w5)]) (st' := [vi 0]) (pc' := 57) [(.iconst 0, vi 0, 57)] (by decide +kernel) rfl rfl ?_
              refine sm_pick [0, 1, 2, 3, 5] (l' := [(0, vr (some (gw g))), (1, vi u1), (2, vi u2), (3, vi u3), (5, vi w5)]) rfl ?_
              exact sm_leaf (fun h => j67 _ h)
            · refine sm_b (l' := [(0, vr (some (gw g))), (1, vi u1), (2, vi u2), (3, vi u3), (4, vi w4), (5, vi w5)]) (st' := [vi 1]) (pc' := 57) [(.iconst 1, vi 1, 53), (.goto 4, vi 0, 57)] (by decide +kernel) rfl rfl ?_
              refine sm_pick [0, 1, 2, 3, 5] (l' := [(0, vr (some (gw g))), (1, vi u1), (2, vi u2), (3, vi u3), (5, vi w5)]) rfl ?_
              exact sm_leaf (fun h => j67 _ h)
            refine sm_if_ne (off := 8) (tgt := 52) h60 (by decide +kernel) (fun c72 => ?_) (fun c72 => ?_)
            · exact n71 (fun q => c72 q.1)
            · have w61 : y59.1 = 0 := c72
              refine sm_b (l' := [(0, vr (some (gw g))), (1, vi u1), (2, vi u2), (3, vi u3), (4, vi w4), (5, vi w5)]) (st' := [vi w4]) (pc' := 49) [(.iload 4, vi 0, 49)] (by decide +kernel) rfl rfl ?_
              refine sm_if_eq (off := 7) (tgt := 56) (h62 w61) (by decide +kernel) (fun c73 => ?_) (fun c73 => ?_)
              · exact p70 ⟨c72, c73⟩
              · exact n71 (fun q => c73 q.2)
        refine sm_if_eq (off := 32) (tgt := 62) h14 (by decide +kernel) (fun c77 => ?_) (fun c77 => ?_)
        · exact p75 c77
        · exact n76 c77
    refine sm_icmp_eq (off := 178) (tgt := 198) h9 (by decide) (by decide +kernel) (fun c81 => ?_) (fun c81 => ?_)
    · exact p79 c81
    · exact n80 c81
set_option maxHeartbeats 4000000 in
theorem m_putMessageb_ok {g : GE} (G : GG g) {D : Nat} (rec : Int → Int → Int → TT → Option (TT)) (hrec : ∀ (d : Nat), D ≤ d → ∀ {σ : ST} (a1 : Int) (a2 : Int) (a3 : Int) (τ : TT) (Q' : VQ), Sm (V g mX4_putMessage d 0 [(0, vr (some (gw g))), (1, vi a1), (2, vi a2), (3, vi a3)] [] σ τ Q') (rec a1 a2 a3 τ) (fun r => Q'.1 none σ r)) {σ : ST} (d : Nat) (hd1 : D + 4 ≤ d) (hd2 : 29 ≤ d) (a1 : Int) (a2 : Int) (a3 : Int)  (τ : TT) (Q : VQ) : Sm (V g mX4_putMessage d 0 [(0, vr (some (gw g))), (1, vi a1), (2, vi a2), (3, vi a3)] [] σ τ Q) (m_putMessageb rec a1 a2 a3 τ) (fun r => Q.1 none σ r) := by
  unfold m_putMessageb
  refine sm_top (fun K hRET => ?_)
  refine sm_b (l' := [(0, vr (some (gw g))), (1, vi a1), (2, vi a2), (3, vi a3)]) (st' := [vi 123, vr (some (gw g))]) (pc' := 3) [(.aload_n 0, vi 0, 1), (.bipush 123, vi 123, 3)] (by decide +kernel) rfl rfl ?_
  refine sm_cv (N := mX4_put) (d' := d - 1) (fun r => none) (fun _ => σ) (fun r => r) [vi 123] [] rfl (by decide +kernel) q1817 q1819 qs86 (Or.inl ⟨rfl, q1820⟩) (show okN yX4_put 1 = true by decide +kernel) (fun H hR => hR.rvw G.1 G.2.1) rfl rfl (by omega) rfl (fun Q' => m_put_ok G (d - 1) (by omega) 123 τ Q') (fun y1 => ?_)
  refine sm_b (l' := [(0, vr (some (gw g))), (1, vi a1), (2, vi a2), (3, vi a3), (4, vi 0)]) (st' := [vi 0, vi a1, vr (some (gw g))]) (pc' := 12) [(.iconst 0, vi 0, 7), (.istore 4, vi 0, 9), (.aload_n 0, vi 0, 10), (.iload_n 1, vi 0, 11), (.iconst 0, vi 0, 12)] (by decide +kernel) rfl rfl ?_
  refine sm_cv (N := mX4_after) (d' := d - 1) (fun r => (some (vi r))) (fun _ => σ) (fun _ => y1) [vi a1, vi 0] [] rfl (by decide +kernel) q1821 q1823 qs87 (Or.inl ⟨rfl, q1824⟩) (show okN yX4_after 2 = true by decide +kernel) (fun H hR => hR.rvw G.1 G.2.1) rfl rfl (by omega) rfl (fun Q' => m_after_ok G (d - 1) (by omega) a1 0 y1 Q') (fun y2 => ?_)
  refine sm_b (l' := [(0, vr (some (gw g))), (1, vi a1), (2, vi a2), (3, vi a3), (4, vi 0), (5, vi y2)]) (st' := []) (pc' := 17) [(.istore 5, vi 0, 17)] (by decide +kernel) rfl rfl ?_
  refine sm_bind1 (fun (v3 : TT) => V g mX4_putMessage d 198 [(0, vr (some (gw g)))] [] σ v3 Q) (fun v3 => ?_) (fun K4 j5 => ?_)
  · refine sm_b (l' := [(0, vr (some (gw g)))]) (st' := [vi 125, vr (some (gw g))]) (pc' := 201) [(.aload_n 0, vi 0, 199), (.bipush 125, vi 125, 201)] (by decide +kernel) rfl rfl ?_
    refine sm_cv (N := mX4_put) (d' := d - 1) (fun r => none) (fun _ => σ) (fun r => r) [vi 125] [] rfl (by decide +kernel) q1817 q1819 qs86 (Or.inl ⟨rfl, q1820⟩) (show okN yX4_put 1 = true by decide +kernel) (fun H hR => hR.rvw G.1 G.2.1) rfl rfl (by omega) rfl (fun Q' => m_put_ok G (d - 1) (by omega) 125 v3 Q') (fun y7 => ?_)
    exact sm_vret rfl (by decide +kernel) (fun h => hRET _ h)
  · exact m_putMessage_L17_ok G rec hrec d hd1 hd2 a1 a2 a3  (fun _ h => j5 _ h) FU 0 y2 y1
def m_putMessage : Nat → Int → Int → Int → TT → Option (TT)
  | 0 => fun _ _ _ _ => none
  | n + 1 => fun a1 a2 a3 τ => m_putMessageb (m_putMessage n) a1 a2 a3 τ
set_option maxHeartbeats 4000000 in
theorem m_putMessage_ok {g : GE} (G : GG g) (n : Nat) : ∀ (d : Nat), 29 + 4 * n ≤ d → ∀ {σ : ST} (a1 : Int) (a2 : Int) (a3 : Int) (τ : TT) (Q : VQ), Sm (V g mX4_putMessage d 0 [(0, vr (some (gw g))), (1, vi a1), (2, vi a2), (3, vi a3)] [] σ τ Q) (m_putMessage n a1 a2 a3 τ) (fun r => Q.1 none σ r) := by
  induction n with
  | zero => intro d hd σ a1 a2 a3 τ Q; exact sm_none
  | succ n ih =>
    intro d hd σ a1 a2 a3 τ Q
    exact m_putMessageb_ok G (D := 29 + 4 * n) (m_putMessage n) ih d (by omega) (by omega) a1 a2 a3 τ Q
def m_toJson (a1 : Int) (τ : TT) : Option (Int × TT) := nm (uI τ 0 0) fun τ1 => nm (uI τ1 6 0) fun τ2 => nm (uI τ2 7 0) fun τ3 => gd (rg a1) (gd (¬ (a1 < 0) → rg (tI τ3 35)) (if (a1 < 0) ∨ ((tI τ3 35) ≤ a1) then (some (((-1), τ3))) else (Option.bind (m_isMessage 12 a1 0 (tI τ3 5) 1 τ3) fun y8 => gd (rg y8.1) (if y8.1 = 0 then (some (((-1), y8.2))) else (nm (uI y8.2 45 0) fun τ11 => Option.bind (m_putPart (m_putMessage 12) a1 0 (tI τ11 5) τ11) fun y12 => gd (rg (tI y12 7)) (if (tI y12 7) = 0 then (some ((tI y12 6, y12))) else (nm (uI y12 6 0) fun τ16 => some (((-1), τ16)))))))))
set_option maxHeartbeats 4000000 in
theorem m_toJson_ok {g : GE} (G : GG g) {σ : ST} (d : Nat) (hd1 : 79 ≤ d) (a1 : Int)  (τ : TT) (Q : VQ) : Sm (V g mX4_toJson d 0 [(0, vr (some (gw g))), (1, vi a1)] [] σ τ Q) (m_toJson a1 τ) (fun r => Q.1 (some (vi r.1)) σ r.2) := by
  unfold m_toJson
  refine sm_top (fun K hRET => ?_)
  refine sm_b (l' := [(0, vr (some (gw g))), (1, vi a1)]) (st' := [vi 0, vr (some (gw g))]) (pc' := 2) [(.aload_n 0, vi 0, 1), (.iconst 0, vi 0, 2)] (by decide +kernel) rfl rfl ?_
  refine sm_tpi (k := 0) G.2.1 q1418 rfl rfl rfl (tp_0 g τ 0) (by decide +kernel) ?_
  refine sm_nmt (fun τ1 => ?_)
  refine sm_b (l' := [(0, vr (some (gw g))), (1, vi a1)]) (st' := [vi 0, vr (some (gw g))]) (pc' := 7) [(.aload_n 0, vi 0, 6), (.iconst 0, vi 0, 7)] (by decide +kernel) rfl rfl ?_
  refine sm_tpi (k := 6) G.2.1 q1424 rfl rfl rfl (tp_6 g τ1 0) (by decide +kernel) ?_
  refine sm_nmt (fun τ2 => ?_)
  refine sm_b (l' := [(0, vr (some (gw g))), (1, vi a1)]) (st' := [vi 0, vr (some (gw g))]) (pc' := 12) [(.aload_n 0, vi 0, 11), (.iconst 0, vi 0, 12)] (by decide +kernel) rfl rfl ?_
  refine sm_tpz (k := 7) G.2.1 q1425 rfl rfl rfl (tp_7 g τ2 0) (by decide) (by decide +kernel) ?_
  refine sm_nmt (fun τ3 => ?_)
  refine sm_b (l' := [(0, vr (some (gw g))), (1, vi a1)]) (st' := [vi a1]) (pc' := 16) [(.iload_n 1, vi 0, 16)] (by decide +kernel) rfl rfl ?_
  refine sm_gd (fun h4 => ?_)
  refine sm_gd (fun h6 => ?_)
  refine sm_case (V g mX4_toJson d 41 [(0, vr (some (gw g))), (1, vi a1)] [] σ τ3 Q) (V g mX4_toJson d 27 [(0, vr (some (gw g))), (1, vi a1)] [] σ τ3 Q) ?_ ?_ (fun f25 p26 n27 => ?_)
  · refine sm_b (l' := [(0, vr (some (gw g))), (1, vi a1)]) (st' := [vi ((-1))]) (pc' := 42) [(.iconst (-1), vi (-1), 42)] (by decide +kernel) rfl rfl ?_
    exact sm_iret rfl (by decide +kernel) (fun h => hRET _ h)
  · refine sm_b (l' := [(0, vr (some (gw g))), (1, vi a1)]) (st' := [vr (some (gw g)), vi 0, vi a1, vr (some (gw g))]) (pc' := 31) [(.aload_n 0, vi 0, 28), (.iload_n 1, vi 0, 29), (.iconst 0, vi 0, 30), (.aload_n 0, vi 0, 31)] (by decide +kernel) rfl rfl ?_
    refine sm_tg (k := 5) (x := vi (tI τ3 5)) G.2.1 q1423 rfl rfl (by decide +kernel) ?_
    refine sm_b (l' := [(0, vr (some (gw g))), (1, vi a1)]) (st' := [vi 1, vi (tI τ3 5), vi 0, vi a1, vr (some (gw g))]) (pc' := 35) [(.iconst 1, vi 1, 35)] (by decide +kernel) rfl rfl ?_
    refine sm_cv (N := mX4_isMessage) (d' := d - 1) (fun r => (some (vi r.1))) (fun _ => σ) (fun r => r.2) [vi a1, vi 0, vi (tI τ3 5), vi 1] [] rfl (by decide +kernel) q1760 q1762 qs74 (Or.inl ⟨rfl, q1763⟩) (show okN yX4_isMessage 4 = true by decide +kernel) (fun H hR => hR.rvw G.1 G.2.1) rfl rfl (by omega) rfl (fun Q' => m_isMessage_ok G 12 (d - 1) (by omega) a1 0 (tI τ3 5) 1 τ3 Q') (fun y8 => ?_)
    refine sm_gd (fun h9 => ?_)
    refine sm_case (V g mX4_toJson d 41 [(0, vr (some (gw g))), (1, vi a1)] [] σ y8.2 Q) (V g mX4_toJson d 43 [(0, vr (some (gw g))), (1, vi a1)] [] σ y8.2 Q) ?_ ?_ (fun f21 p22 n23 => ?_)
    · refine sm_b (l' := [(0, vr (some (gw g))), (1, vi a1)]) (st' := [vi ((-1))]) (pc' := 42) [(.iconst (-1), vi (-1), 42)] (by decide +kernel) rfl rfl ?_
      exact sm_iret rfl (by decide +kernel) (fun h => hRET _ h)
    · refine sm_b (l' := [(0, vr (some (gw g))), (1, vi a1)]) (st' := [vi 0, vr (some (gw g))]) (pc' := 45) [(.aload_n 0, vi 0, 44), (.iconst 0, vi 0, 45)] (by decide +kernel) rfl rfl ?_
      refine sm_tpi (k := 45) G.2.1 q1463 rfl rfl rfl (tp_45 g y8.2 0) (by decide +kernel) ?_
      refine sm_nmt (fun τ11 => ?_)
      refine sm_b (l' := [(0, vr (some (gw g))), (1, vi a1)]) (st' := [vr (some (gw g)), vi 0, vi a1, vr (some (gw g))]) (pc' := 52) [(.aload_n 0, vi 0, 49), (.iload_n 1, vi 0, 50), (.iconst 0, vi 0, 51), (.aload_n 0, vi 0, 52)] (by decide +kernel) rfl rfl ?_
      refine sm_tg (k := 5) (x := vi (tI τ11 5)) G.2.1 q1423 rfl rfl (by decide +kernel) ?_
      refine sm_cv (N := mX4_putPart) (d' := d - 1) (fun r => none) (fun _ => σ) (fun r => r) [vi a1, vi 0, vi (tI τ11 5)] [] rfl (by decide +kernel) q1809 q1811 qs84 (Or.inl ⟨rfl, q1812⟩) (show okN yX4_putPart 3 = true by decide +kernel) (fun H hR => hR.rvw G.1 G.2.1) rfl rfl (by omega) rfl (fun Q' => m_putPart_ok G (D := 77) (m_putMessage 12) (m_putMessage_ok G 12) (d - 1) (by omega) (by omega) a1 0 (tI τ11 5) τ11 Q') (fun y12 => ?_)
      refine sm_b (l' := [(0, vr (some (gw g))), (1, vi a1)]) (st' := [vr (some (gw g))]) (pc' := 59) [(.aload_n 0, vi 0, 59)] (by decide +kernel) rfl rfl ?_
      refine sm_tg (k := 7) (x := vi (tI y12 7)) G.2.1 q1425 rfl rfl (by decide +kernel) ?_
      refine sm_gd (fun h13 => ?_)
      refine sm_case (V g mX4_toJson d 65 [(0, vr (some (gw g))), (1, vi a1)] [] σ y12 Q) (V g mX4_toJson d 70 [(0, vr (some (gw g))), (1, vi a1)] [] σ y12 Q) ?_ ?_ (fun f17 p18 n19 => ?_)
      · refine sm_b (l' := [(0, vr (some (gw g))), (1, vi a1)]) (st' := [vr (some (gw g))]) (pc' := 66) [(.aload_n 0, vi 0, 66)] (by decide +kernel) rfl rfl ?_
        refine sm_tg (k := 6) (x := vi (tI y12 6)) G.2.1 q1424 rfl rfl (by decide +kernel) ?_
        exact sm_iret rfl (by decide +kernel) (fun h => hRET _ h)
      · refine sm_b (l' := [(0, vr (some (gw g))), (1, vi a1)]) (st' := [vi 0, vr (some (gw g))]) (pc' := 72) [(.aload_n 0, vi 0, 71), (.iconst 0, vi 0, 72)] (by decide +kernel) rfl rfl ?_
        refine sm_tpi (k := 6) G.2.1 q1424 rfl rfl rfl (tp_6 g y12 0) (by decide +kernel) ?_
        refine sm_nmt (fun τ16 => ?_)
        refine sm_b (l' := [(0, vr (some (gw g))), (1, vi a1)]) (st' := [vi ((-1))]) (pc' := 76) [(.iconst (-1), vi (-1), 76)] (by decide +kernel) rfl rfl ?_
        exact sm_iret rfl (by decide +kernel) (fun h => hRET _ h)
      refine sm_if_ne (off := 8) (tgt := 70) h13 (by decide +kernel) (fun c20 => ?_) (fun c20 => ?_)
      · exact n19 c20
      · exact p18 c20
    refine sm_if_ne (off := 5) (tgt := 43) h9 (by decide +kernel) (fun c24 => ?_) (fun c24 => ?_)
    · exact n23 c24
    · exact p22 c24
  refine sm_if_lt (off := 25) (tgt := 41) h4 (by decide +kernel) (fun c28 => ?_) (fun c28 => ?_)
  · exact p26 (Or.inl c28)
  · have w5 : ¬ (a1 < 0) := c28
    refine sm_b (l' := [(0, vr (some (gw g))), (1, vi a1)]) (st' := [vr (some (gw g)), vi a1]) (pc' := 21) [(.iload_n 1, vi 0, 20), (.aload_n 0, vi 0, 21)] (by decide +kernel) rfl rfl ?_
    refine sm_tg (k := 35) (x := vi (tI τ3 35)) G.2.1 q1453 rfl rfl (by decide +kernel) ?_
    refine sm_icmp_ge (off := 17) (tgt := 41) h4 (h6 w5) (by decide +kernel) (fun c29 => ?_) (fun c29 => ?_)
    · exact p26 (Or.inr c29)
    · exact n27 (fun q => q.elim c28 c29)
def m_blanks_L2 (τ : TT) : Nat → Int → Option (Int)
  | 0, _ => none
  | n + 1, w2 => gd (rg w2) (gd (rg (tI τ 5)) (if (tI τ 5) ≤ w2 then (some w2) else (gd (ib w2 1000) (gd (rg (tA τ 2 w2.toNat)) (if ((((tA τ 2 w2.toNat) = 32) ∨ ((tA τ 2 w2.toNat) = 9)) ∨ ((tA τ 2 w2.toNat) = 10)) ∨ ((tA τ 2 w2.toNat) = 13) then (m_blanks_L2 τ n (w2 + 1)) else (some w2))))))
def m_blanks (a1 : Int) (τ : TT) : Option (Int) := m_blanks_L2 τ FU a1
set_option maxHeartbeats 4000000 in
theorem m_blanks_L2_ok {g : GE} (G : GG g) {σ : ST} {Q : VQ} (d : Nat) (hd1 : 0 ≤ d) (τ : TT)  {K : Int → Prop} (hRET : ∀ r : Int, K (r) → Q.1 (some (vi r)) σ τ) : ∀ (n : Nat) (w2 : Int), Sm (V g mX4_blanks d 2 [(0, vr (some (gw g))), (2, vi w2)] [] σ τ Q) (m_blanks_L2 τ n w2) K := by
  intro n
  induction n with
  | zero => intro w2; exact sm_none
  | succ n ih =>
    intro w2
    rw [m_blanks_L2.eq_2]
    refine sm_b (l' := [(0, vr (some (gw g))), (2, vi w2)]) (st' := [vr (some (gw g)), vi w2]) (pc' := 4) [(.iload_n 2, vi 0, 3), (.aload_n 0, vi 0, 4)] (by decide +kernel) rfl rfl ?_
    refine sm_tg (k := 5) (x := vi (tI τ 5)) G.2.1 q1423 rfl rfl (by decide +kernel) ?_
    refine sm_gd (fun h1 => ?_)
    refine sm_gd (fun h2 => ?_)
    refine sm_case (V g mX4_blanks d 60 [(0, vr (some (gw g))), (2, vi w2)] [] σ τ Q) (V g mX4_blanks d 10 [(0, vr (some (gw g))), (2, vi w2)] [] σ τ Q) ?_ ?_ (fun f19 p20 n21 => ?_)
    · refine sm_b (l' := [(0, vr (some (gw g))), (2, vi w2)]) (st' := [vi w2]) (pc' := 61) [(.iload_n 2, vi 0, 61)] (by decide +kernel) rfl rfl ?_
      exact sm_iret rfl (by decide +kernel) (fun h => hRET _ h)
    · refine sm_b (l' := [(0, vr (some (gw g))), (2, vi w2)]) (st' := [vr (some (gw g))]) (pc' := 11) [(.aload_n 0, vi 0, 11)] (by decide +kernel) rfl rfl ?_
      refine sm_tg (k := 2) (x := vr (some (gT g 2))) G.2.1 q1420 rfl rfl (by decide +kernel) ?_
      refine sm_b (l' := [(0, vr (some (gw g))), (2, vi w2)]) (st' := [vi w2, vr (some (gT g 2))]) (pc' := 15) [(.iload_n 2, vi 0, 15)] (by decide +kernel) rfl rfl ?_
      refine sm_gd (fun h6 => ?_)
      refine sm_ial (k := 2) G.2.1 (by decide) rfl (ibt (k := 2) h6) h6 (by decide +kernel) ?_
      refine sm_b (l' := [(0, vr (some (gw g))), (2, vi w2)]) (st' := [vi 32, vi (tA τ 2 w2.toNat)]) (pc' := 18) [(.bipush 32, vi 32, 18)] (by decide +kernel) rfl rfl ?_
      refine sm_gd (fun h7 => ?_)
      refine sm_case (V g mX4_blanks d 54 [(0, vr (some (gw g))), (2, vi w2)] [] σ τ Q) (V g mX4_blanks d 60 [(0, vr (some (gw g))), (2, vi w2)] [] σ τ Q) ?_ ?_ (fun f12 p13 n14 => ?_)
      · refine sm_b (l' := [(0, vr (some (gw g))), (2, vi (w2 + 1))]) (st' := []) (pc' := 2) [(.iinc 2 1, vi 1, 57), (.goto (-55), vi 0, 2)] (by decide +kernel) rfl rfl ?_
        exact ih (w2 + 1)
      · refine sm_b (l' := [(0, vr (some (gw g))), (2, vi w2)]) (st' := [vi w2]) (pc' := 61) [(.iload_n 2, vi 0, 61)] (by decide +kernel) rfl rfl ?_
        exact sm_iret rfl (by decide +kernel) (fun h => hRET _ h)
      refine sm_icmp_eq (off := 36) (tgt := 54) h7 (by decide) (by decide +kernel) (fun c15 => ?_) (fun c15 => ?_)
      · exact p13 (Or.inl (Or.inl (Or.inl c15)))
      · refine sm_b (l' := [(0, vr (some (gw g))), (2, vi w2)]) (st' := [vr (some (gw g))]) (pc' := 22) [(.aload_n 0, vi 0, 22)] (by decide +kernel) rfl rfl ?_
        refine sm_tg (k := 2) (x := vr (some (gT g 2))) G.2.1 q1420 rfl rfl (by decide +kernel) ?_
        refine sm_b (l' := [(0, vr (some (gw g))), (2, vi w2)]) (st' := [vi w2, vr (some (gT g 2))]) (pc' := 26) [(.iload_n 2, vi 0, 26)] (by decide +kernel) rfl rfl ?_
        refine sm_ial (k := 2) G.2.1 (by decide) rfl (ibt (k := 2) h6) h6 (by decide +kernel) ?_
        refine sm_b (l' := [(0, vr (some (gw g))), (2, vi w2)]) (st' := [vi 9, vi (tA τ 2 w2.toNat)]) (pc' := 29) [(.bipush 9, vi 9, 29)] (by decide +kernel) rfl rfl ?_
        refine sm_icmp_eq (off := 25) (tgt := 54) h7 (by decide) (by decide +kernel) (fun c16 => ?_) (fun c16 => ?_)
        · exact p13 (Or.inl (Or.inl (Or.inr c16)))
        · refine sm_b (l' := [(0, vr (some (gw g))), (2, vi w2)]) (st' := [vr (some (gw g))]) (pc' := 33) [(.aload_n 0, vi 0, 33)] (by decide +kernel) rfl rfl ?_
          refine sm_tg (k := 2) (x := vr (some (gT g 2))) G.2.1 q1420 rfl rfl (by decide +kernel) ?_
          refine sm_b (l' := [(0, vr (some (gw g))), (2, vi w2)]) (st' := [vi w2, vr (some (gT g 2))]) (pc' := 37) [(.iload_n 2, vi 0, 37)] (by decide +kernel) rfl rfl ?_
          refine sm_ial (k := 2) G.2.1 (by decide) rfl (ibt (k := 2) h6) h6 (by decide +kernel) ?_
          refine sm_b (l' := [(0, vr (some (gw g))), (2, vi w2)]) (st' := [vi 10, vi (tA τ 2 w2.toNat)]) (pc' := 40) [(.bipush 10, vi 10, 40)] (by decide +kernel) rfl rfl ?_
          refine sm_icmp_eq (off := 14) (tgt := 54) h7 (by decide) (by decide +kernel) (fun c17 => ?_) (fun c17 => ?_)
          · exact p13 (Or.inl (Or.inr c17))
          · refine sm_b (l' := [(0, vr (some (gw g))), (2, vi w2)]) (st' := [vr (some (gw g))]) (pc' := 44) [(.aload_n 0, vi 0, 44)] (by decide +kernel) rfl rfl ?_
            refine sm_tg (k := 2) (x := vr (some (gT g 2))) G.2.1 q1420 rfl rfl (by decide +kernel) ?_
            refine sm_b (l' := [(0, vr (some (gw g))), (2, vi w2)]) (st' := [vi w2, vr (some (gT g 2))]) (pc' := 48) [(.iload_n 2, vi 0, 48)] (by decide +kernel) rfl rfl ?_
            refine sm_ial (k := 2) G.2.1 (by decide) rfl (ibt (k := 2) h6) h6 (by decide +kernel) ?_
            refine sm_b (l' := [(0, vr (some (gw g))), (2, vi w2)]) (st' := [vi 13, vi (tA τ 2 w2.toNat)]) (pc' := 51) [(.bipush 13, vi 13, 51)] (by decide +kernel) rfl rfl ?_
            refine sm_icmp_ne (off := 9) (tgt := 60) h7 (by decide) (by decide +kernel) (fun c18 => ?_) (fun c18 => ?_)
            · exact n14 (fun q => q.elim (fun q => q.elim (fun q => q.elim c15 c16) c17) c18)
            · exact p13 (Or.inr c18)
    refine sm_icmp_ge (off := 53) (tgt := 60) h1 h2 (by decide +kernel) (fun c22 => ?_) (fun c22 => ?_)
    · exact p20 c22
    · exact n21 c22
set_option maxHeartbeats 4000000 in
theorem m_blanks_ok {g : GE} (G : GG g) {σ : ST} (d : Nat) (hd1 : 0 ≤ d) (a1 : Int)  (τ : TT) (Q : VQ) : Sm (V g mX4_blanks d 0 [(0, vr (some (gw g))), (1, vi a1)] [] σ τ Q) (m_blanks a1 τ) (fun r => Q.1 (some (vi r)) σ τ) := by
  unfold m_blanks
  refine sm_top (fun K hRET => ?_)
  refine sm_b (l' := [(0, vr (some (gw g))), (1, vi a1), (2, vi a1)]) (st' := []) (pc' := 2) [(.iload_n 1, vi 0, 1), (.istore_n 2, vi 0, 2)] (by decide +kernel) rfl rfl ?_
  refine sm_pick [0, 2] (l' := [(0, vr (some (gw g))), (2, vi a1)]) rfl ?_
  exact m_blanks_L2_ok G d hd1 τ  (fun r h => hRET _ h) FU a1
def m_look (a1 : Int) (τ : TT) : Option (Int) := gd (rg a1) (gd (rg (tI τ 5)) (if (tI τ 5) ≤ a1 then (some (((-1)))) else (gd (ib a1 1000) (some ((tA τ 2 a1.toNat))))))
set_option maxHeartbeats 4000000 in
theorem m_look_ok {g : GE} (G : GG g) {σ : ST} (d : Nat) (hd1 : 0 ≤ d) (a1 : Int)  (τ : TT) (Q : VQ) : Sm (V g mX4_look d 0 [(0, vr (some (gw g))), (1, vi a1)] [] σ τ Q) (m_look a1 τ) (fun r => Q.1 (some (vi r)) σ τ) := by
  unfold m_look
  refine sm_top (fun K hRET => ?_)
  refine sm_b (l' := [(0, vr (some (gw g))), (1, vi a1)]) (st' := [vr (some (gw g)), vi a1]) (pc' := 2) [(.iload_n 1, vi 0, 1), (.aload_n 0, vi 0, 2)] (by decide +kernel) rfl rfl ?_
  refine sm_tg (k := 5) (x := vi (tI τ 5)) G.2.1 q1423 rfl rfl (by decide +kernel) ?_
  refine sm_gd (fun h1 => ?_)
  refine sm_gd (fun h2 => ?_)
  refine sm_case (V g mX4_look d 17 [(0, vr (some (gw g))), (1, vi a1)] [] σ τ Q) (V g mX4_look d 8 [(0, vr (some (gw g))), (1, vi a1)] [] σ τ Q) ?_ ?_ (fun f7 p8 n9 => ?_)
  · refine sm_b (l' := [(0, vr (some (gw g))), (1, vi a1)]) (st' := [vi ((-1))]) (pc' := 18) [(.iconst (-1), vi (-1), 18)] (by decide +kernel) rfl rfl ?_
    exact sm_iret rfl (by decide +kernel) (fun h => hRET _ h)
  · refine sm_b (l' := [(0, vr (some (gw g))), (1, vi a1)]) (st' := [vr (some (gw g))]) (pc' := 9) [(.aload_n 0, vi 0, 9)] (by decide +kernel) rfl rfl ?_
    refine sm_tg (k := 2) (x := vr (some (gT g 2))) G.2.1 q1420 rfl rfl (by decide +kernel) ?_
    refine sm_b (l' := [(0, vr (some (gw g))), (1, vi a1)]) (st' := [vi a1, vr (some (gT g 2))]) (pc' := 13) [(.iload_n 1, vi 0, 13)] (by decide +kernel) rfl rfl ?_
    refine sm_gd (fun h6 => ?_)
    refine sm_ial (k := 2) G.2.1 (by decide) rfl (ibt (k := 2) h6) h6 (by decide +kernel) ?_
    refine sm_b (l' := [(0, vr (some (gw g))), (1, vi a1)]) (st' := [vi (tA τ 2 a1.toNat)]) (pc' := 18) [(.goto 4, vi 0, 18)] (by decide +kernel) rfl rfl ?_
    exact sm_iret rfl (by decide +kernel) (fun h => hRET _ h)
  refine sm_icmp_ge (off := 12) (tgt := 17) h1 h2 (by decide +kernel) (fun c10 => ?_) (fun c10 => ?_)
  · exact p8 c10
  · exact n9 c10
def m_sayByte (a1 : Int) (τ : TT) : Option (TT) := gd (ib (tI τ 57) 1000) (nm (uA τ 56 (tI τ 57).toNat a1) fun τ2 => nm (uI τ2 57 ((tI τ2 57) + 1)) fun τ3 => some τ3)
set_option maxHeartbeats 4000000 in
theorem m_sayByte_ok {g : GE} (G : GG g) {σ : ST} (d : Nat) (hd1 : 0 ≤ d) (a1 : Int)  (τ : TT) (Q : VQ) : Sm (V g mX4_sayByte d 0 [(0, vr (some (gw g))), (1, vi a1)] [] σ τ Q) (m_sayByte a1 τ) (fun r => Q.1 none σ r) := by
  unfold m_sayByte
  refine sm_top (fun K hRET => ?_)
  refine sm_b (l' := [(0, vr (some (gw g))), (1, vi a1)]) (st' := [vr (some (gw g))]) (pc' := 1) [(.aload_n 0, vi 0, 1)] (by decide +kernel) rfl rfl ?_
  refine sm_tg (k := 56) (x := vr (some (gT g 56))) G.2.1 q1474 rfl rfl (by decide +kernel) ?_
  refine sm_b (l' := [(0, vr (some (gw g))), (1, vi a1)]) (st' := [vr (some (gw g)), vr (some (gT g 56))]) (pc' := 5) [(.aload_n 0, vi 0, 5)] (by decide +kernel) rfl rfl ?_
  refine sm_tg (k := 57) (x := vi (tI τ 57)) G.2.1 q1475 rfl rfl (by decide +kernel) ?_
  refine sm_b (l' := [(0, vr (some (gw g))), (1, vi a1)]) (st' := [vi a1, vi (tI τ 57), vr (some (gT g 56))]) (pc' := 9) [(.iload_n 1, vi 0, 9)] (by decide +kernel) rfl rfl ?_
  refine sm_gd (fun h1 => ?_)
  refine sm_ias (k := 56) G.2.1 (by decide) rfl (ibt (k := 56) h1) h1 (by decide +kernel) ?_
  refine sm_nmt (fun τ2 => ?_)
  refine sm_b (l' := [(0, vr (some (gw g))), (1, vi a1)]) (st' := [vr (some (gw g)), vr (some (gw g))]) (pc' := 12) [(.aload_n 0, vi 0, 11), (.dup, vi 0, 12)] (by decide +kernel) rfl rfl ?_
  refine sm_tg (k := 57) (x := vi (tI τ2 57)) G.2.1 q1475 rfl rfl (by decide +kernel) ?_
  refine sm_b (l' := [(0, vr (some (gw g))), (1, vi a1)]) (st' := [vi ((tI τ2 57) + 1), vr (some (gw g))]) (pc' := 17) [(.iconst 1, vi 1, 16), (.iadd, vi 0, 17)] (by decide +kernel) rfl rfl ?_
  refine sm_tpi (k := 57) G.2.1 q1475 rfl rfl rfl (tp_57 g τ2 ((tI τ2 57) + 1)) (by decide +kernel) ?_
  refine sm_nmt (fun τ3 => ?_)
  exact sm_vret rfl (by decide +kernel) (fun h => hRET _ h)
def m_fourDigits_L4 (u1 : Int) (τ : TT) : Nat → Int → Int → Option (Int)
  | 0, _, _ => none
  | n + 1, w2, w3 => gd (rg w3) (if 4 ≤ w3 then (some w2) else (Option.bind (m_look (u1 + w3) τ) fun y5 => Option.bind (m_isDigit y5) fun y6 => Option.bind (gd (rg y6) (if y6 = 0 then (gd (rg y5) (if (y5 < 97) ∨ (102 < y5) then (if (y5 < 65) ∨ (70 < y5) then (some (((-1)))) else (some (((y5 - 65) + 10)))) else (some (((y5 - 97) + 10))))) else (some ((y5 - 48))))) fun (v11 : Int) => gd (rg v11) (if v11 = ((-1)) then (some (((-1)))) else (nm ((16 * w2) + v11) fun x18 => m_fourDigits_L4 u1 τ n x18 (w3 + 1)))))
def m_fourDigits (a1 : Int) (τ : TT) : Option (Int) := m_fourDigits_L4 a1 τ FU 0 0
set_option maxHeartbeats 4000000 in
theorem m_fourDigits_L4_ok {g : GE} (G : GG g) {σ : ST} {Q : VQ} (d : Nat) (hd1 : 1 ≤ d) (u1 : Int) (τ : TT)  {K : Int → Prop} (hRET : ∀ r : Int, K (r) → Q.1 (some (vi r)) σ τ) : ∀ (n : Nat) (w2 : Int) (w3 : Int), Sm (V g mX4_fourDigits d 4 [(0, vr (some (gw g))), (1, vi u1), (2, vi w2), (3, vi w3)] [] σ τ Q) (m_fourDigits_L4 u1 τ n w2 w3) K := by
  intro n
  induction n with
  | zero => intro w2 w3; exact sm_none
  | succ n ih =>
    intro w2 w3
    rw [m_fourDigits_L4.eq_2]
    refine sm_b (l' := [(0, vr (some (gw g))), (1, vi u1), (2, vi w2), (3, vi w3)]) (st' := [vi 4, vi w3]) (pc' := 6) [(.iload_n 3, vi 0, 5), (.iconst 4, vi 4, 6)] (by decide +kernel) rfl rfl ?_
    refine sm_gd (fun h1 => ?_)
    refine sm_case (V g mX4_fourDigits d 109 [(0, vr (some (gw g))), (1, vi u1), (2, vi w2), (3, vi w3)] [] σ τ Q) (V g mX4_fourDigits d 9 [(0, vr (some (gw g))), (1, vi u1), (2, vi w2), (3, vi w3)] [] σ τ Q) ?_ ?_ (fun f44 p45 n46 => ?_)
    · refine sm_b (l' := [(0, vr (some (gw g))), (1, vi u1), (2, vi w2), (3, vi w3)]) (st' := [vi w2]) (pc' := 110) [(.iload_n 2, vi 0, 110)] (by decide +kernel) rfl rfl ?_
      exact sm_iret rfl (by decide +kernel) (fun h => hRET _ h)
    · refine sm_b (l' := [(0, vr (some (gw g))), (1, vi u1), (2, vi w2), (3, vi w3)]) (st' := [vi (u1 + w3), vr (some (gw g))]) (pc' := 13) [(.aload_n 0, vi 0, 10), (.iload_n 1, vi 0, 11), (.iload_n 3, vi 0, 12), (.iadd, vi 0, 13)] (by decide +kernel) rfl rfl ?_
      refine sm_cv (N := mX4_look) (d' := d - 1) (fun r => (some (vi r))) (fun _ => σ) (fun _ => τ) [vi (u1 + w3)] [] rfl (by decide +kernel) q1902 q1904 qs103 (Or.inl ⟨rfl, q1905⟩) (show okN yX4_look 1 = true by decide +kernel) (fun H hR => hR.rvw G.1 G.2.1) rfl rfl (by omega) rfl (fun Q' => m_look_ok G (d - 1) (by omega) (u1 + w3) τ Q') (fun y5 => ?_)
      refine sm_b (l' := [(0, vr (some (gw g))), (1, vi u1), (2, vi w2), (3, vi w3), (4, vi y5)]) (st' := [vi y5]) (pc' := 20) [(.istore 4, vi 0, 18), (.iload 4, vi 0, 20)] (by decide +kernel) rfl rfl ?_
      refine sm_cs (N := mX4_isDigit) (d' := d - 1) (fun r => (some (vi r))) (fun _ => σ) (fun _ => τ) [vi y5] [] rfl (by decide +kernel) q1626 q1627 q138 (Or.inl ⟨rfl, q1628⟩) (show okN yX4_isDigit 1 = true by decide +kernel) rfl rfl (by omega) rfl (fun Q' => m_isDigit_ok G (d - 1) (by omega) y5 τ Q') (fun y6 => ?_)
      refine sm_bind1 (fun (v11 : Int) => V g mX4_fourDigits d 85 [(0, vr (some (gw g))), (1, vi u1), (2, vi w2), (3, vi w3)] [vi v11] σ τ Q) (fun v11 => ?_) (fun K12 j13 => ?_)
      · refine sm_b (l' := [(0, vr (some (gw g))), (1, vi u1), (2, vi w2), (3, vi w3), (5, vi v11)]) (st' := [vi ((-1)), vi v11]) (pc' := 90) [(.istore 5, vi 0, 87), (.iload 5, vi 0, 89), (.iconst (-1), vi (-1), 90)] (by decide +kernel) rfl rfl ?_
        refine sm_gd (fun h15 => ?_)
        refine sm_case (V g mX4_fourDigits d 93 [(0, vr (some (gw g))), (1, vi u1), (2, vi w2), (3, vi w3), (5, vi v11)] [] σ τ Q) (V g mX4_fourDigits d 95 [(0, vr (some (gw g))), (1, vi u1), (2, vi w2), (3, vi w3), (5, vi v11)] [] σ τ Q) ?_ ?_ (fun f19 p20 n21 => ?_)
        · refine sm_b (l' := [(0, vr (some (gw g))), (1, vi u1), (2, vi w2), (3, vi w3), (5, vi v11)]) (st' := [vi ((-1))]) (pc' := 94) [(.iconst (-1), vi (-1), 94)] (by decide +kernel) rfl rfl ?_
          exact sm_iret rfl (by decide +kernel) (fun h => hRET _ h)
        · refine sm_b (l' := [(0, vr (some (gw g))), (1, vi u1), (2, vi w2), (3, vi w3), (5, vi v11)]) (st' := [vi ((16 * w2) + v11)]) (pc' := 102) [(.bipush 16, vi 16, 97), (.iload_n 2, vi 0, 98), (.imul, vi 0, 99), (.iload 5, vi 0, 101), (.iadd, vi 0, 102)] (by decide +kernel) rfl rfl ?_
          refine sm_nmi (fun x18 => ?_)
          refine sm_b (l' := [(0, vr (some (gw g))), (1, vi u1), (2, vi x18), (3, vi (w3 + 1)), (5, vi v11)]) (st' := []) (pc' := 4) [(.istore_n 2, vi 0, 103), (.iinc 3 1, vi 1, 106), (.goto (-102), vi 0, 4)] (by decide +kernel) rfl rfl ?_
          refine sm_pick [0, 1, 2, 3] (l' := [(0, vr (some (gw g))), (1, vi u1), (2, vi x18), (3, vi (w3 + 1))]) rfl ?_
          exact ih x18 (w3 + 1)
        refine sm_icmp_ne (off := 5) (tgt := 95) h15 (by decide) (by decide +kernel) (fun c22 => ?_) (fun c22 => ?_)
        · exact n21 c22
        · exact p20 c22
      · refine sm_gd (fun h7 => ?_)
        refine sm_case (V g mX4_fourDigits d 34 [(0, vr (some (gw g))), (1, vi u1), (2, vi w2), (3, vi w3), (4, vi y5)] [] σ τ Q) (V g mX4_fourDigits d 26 [(0, vr (some (gw g))), (1, vi u1), (2, vi w2), (3, vi w3), (4, vi y5)] [] σ τ Q) ?_ ?_ (fun f40 p41 n42 => ?_)
        · refine sm_b (l' := [(0, vr (some (gw g))), (1, vi u1), (2, vi w2), (3, vi w3), (4, vi y5)]) (st' := [vi 97, vi y5]) (pc' := 38) [(.iload 4, vi 0, 36), (.bipush 97, vi 97, 38)] (by decide +kernel) rfl rfl ?_
          refine sm_gd (fun h23 => ?_)
          refine sm_case (V g mX4_fourDigits d 59 [(0, vr (some (gw g))), (1, vi u1), (2, vi w2), (3, vi w3), (4, vi y5)] [] σ τ Q) (V g mX4_fourDigits d 48 [(0, vr (some (gw g))), (1, vi u1), (2, vi w2), (3, vi w3), (4, vi y5)] [] σ τ Q) ?_ ?_ (fun f35 p36 n37 => ?_)
          · refine sm_b (l' := [(0, vr (some (gw g))), (1, vi u1), (2, vi w2), (3, vi w3), (4, vi y5)]) (st' := [vi 65, vi y5]) (pc' := 63) [(.iload 4, vi 0, 61), (.bipush 65, vi 65, 63)] (by decide +kernel) rfl rfl ?_
            refine sm_case (V g mX4_fourDigits d 84 [(0, vr (some (gw g))), (1, vi u1), (2, vi w2), (3, vi w3), (4, vi y5)] [] σ τ Q) (V g mX4_fourDigits d 73 [(0, vr (some (gw g))), (1, vi u1), (2, vi w2), (3, vi w3), (4, vi y5)] [] σ τ Q) ?_ ?_ (fun f30 p31 n32 => ?_)
            · refine sm_b (l' := [(0, vr (some (gw g))), (1, vi u1), (2, vi w2), (3, vi w3), (4, vi y5)]) (st' := [vi ((-1))]) (pc' := 85) [(.iconst (-1), vi (-1), 85)] (by decide +kernel) rfl rfl ?_
              refine sm_pick [0, 1, 2, 3] (l' := [(0, vr (some (gw g))), (1, vi u1), (2, vi w2), (3, vi w3)]) rfl ?_
              exact sm_leaf (fun h => j13 _ h)
            · refine sm_b (l' := [(0, vr (some (gw g))), (1, vi u1), (2, vi w2), (3, vi w3), (4, vi y5)]) (st' := [vi ((y5 - 65) + 10)]) (pc' := 85) [(.iload 4, vi 0, 75), (.bipush 65, vi 65, 77), (.isub, vi 0, 78), (.bipush 10, vi 10, 80), (.iadd, vi 0, 81), (.goto 4, vi 0, 85)] (by decide +kernel) rfl rfl ?_
              refine sm_pick [0, 1, 2, 3] (l' := [(0, vr (some (gw g))), (1, vi u1), (2, vi w2), (3, vi w3)]) rfl ?_
              exact sm_leaf (fun h => j13 _ h)
            refine sm_icmp_lt (off := 21) (tgt := 84) h23 (by decide) (by decide +kernel) (fun c33 => ?_) (fun c33 => ?_)
            · exact p31 (Or.inl c33)
            · refine sm_b (l' := [(0, vr (some (gw g))), (1, vi u1), (2, vi w2), (3, vi w3), (4, vi y5)]) (st' := [vi 70, vi y5]) (pc' := 70) [(.iload 4, vi 0, 68), (.bipush 70, vi 70, 70)] (by decide +kernel) rfl rfl ?_
              refine sm_icmp_gt (off := 14) (tgt := 84) h23 (by decide) (by decide +kernel) (fun c34 => ?_) (fun c34 => ?_)
              · exact p31 (Or.inr c34)
              · exact n32 (fun q => q.elim c33 c34)
          · refine sm_b (l' := [(0, vr (some (gw g))), (1, vi u1), (2, vi w2), (3, vi w3), (4, vi y5)]) (st' := [vi ((y5 - 97) + 10)]) (pc' := 85) [(.iload 4, vi 0, 50), (.bipush 97, vi 97, 52), (.isub, vi 0, 53), (.bipush 10, vi 10, 55), (.iadd, vi 0, 56), (.goto 29, vi 0, 85)] (by decide +kernel) rfl rfl ?_
            refine sm_pick [0, 1, 2, 3] (l' := [(0, vr (some (gw g))), (1, vi u1), (2, vi w2), (3, vi w3)]) rfl ?_
            exact sm_leaf (fun h => j13 _ h)
          refine sm_icmp_lt (off := 21) (tgt := 59) h23 (by decide) (by decide +kernel) (fun c38 => ?_) (fun c38 => ?_)
          · exact p36 (Or.inl c38)
          · refine sm_b (l' := [(0, vr (some (gw g))), (1, vi u1), (2, vi w2), (3, vi w3), (4, vi y5)]) (st' := [vi 102, vi y5]) (pc' := 45) [(.iload 4, vi 0, 43), (.bipush 102, vi 102, 45)] (by decide +kernel) rfl rfl ?_
            refine sm_icmp_gt (off := 14) (tgt := 59) h23 (by decide) (by decide +kernel) (fun c39 => ?_) (fun c39 => ?_)
            · exact p36 (Or.inr c39)
            · exact n37 (fun q => q.elim c38 c39)
        · refine sm_b (l' := [(0, vr (some (gw g))), (1, vi u1), (2, vi w2), (3, vi w3), (4, vi y5)]) (st' := [vi (y5 - 48)]) (pc' := 85) [(.iload 4, vi 0, 28), (.bipush 48, vi 48, 30), (.isub, vi 0, 31), (.goto 54, vi 0, 85)] (by decide +kernel) rfl rfl ?_
          refine sm_pick [0, 1, 2, 3] (l' := [(0, vr (some (gw g))), (1, vi u1), (2, vi w2), (3, vi w3)]) rfl ?_
          exact sm_leaf (fun h => j13 _ h)
        refine sm_if_eq (off := 11) (tgt := 34) h7 (by decide +kernel) (fun c43 => ?_) (fun c43 => ?_)
        · exact p41 c43
        · exact n42 c43
    refine sm_icmp_ge (off := 103) (tgt := 109) h1 (by decide) (by decide +kernel) (fun c47 => ?_) (fun c47 => ?_)
    · exact p45 c47
    · exact n46 c47
set_option maxHeartbeats 4000000 in
theorem m_fourDigits_ok {g : GE} (G : GG g) {σ : ST} (d : Nat) (hd1 : 1 ≤ d) (a1 : Int)  (τ : TT) (Q : VQ) : Sm (V g mX4_fourDigits d 0 [(0, vr (some (gw g))), (1, vi a1)] [] σ τ Q) (m_fourDigits a1 τ) (fun r => Q.1 (some (vi r)) σ τ) := by
  unfold m_fourDigits
  refine sm_top (fun K hRET => ?_)
  refine sm_b (l' := [(0, vr (some (gw g))), (1, vi a1), (2, vi 0), (3, vi 0)]) (st' := []) (pc' := 4) [(.iconst 0, vi 0, 1), (.istore_n 2, vi 0, 2), (.iconst 0, vi 0, 3), (.istore_n 3, vi 0, 4)] (by decide +kernel) rfl rfl ?_
  exact m_fourDigits_L4_ok G d hd1 a1 τ  (fun r h => hRET _ h) FU 0 0
