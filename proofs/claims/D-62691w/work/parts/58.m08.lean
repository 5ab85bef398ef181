set_option maxRecDepth 100000
/-! the reference: X4_putName, X4_beginElement, X4_putAll, X4_putText, X4_sixBits, X4_putBytes, X4_meant, X4_putUnsigned, X4_putSigned -/
def m_putName_L29 (u3 : Int) : Nat → Int → TT → Option (TT)
  | 0, _, _ => none
  | n + 1, w4, τ => gd (rg w4) (gd (rg u3) (if u3 ≤ w4 then (some τ) else (gd (ib w4 64) (Option.bind (m_put (tA τ 41 w4.toNat) τ) fun y21 => m_putName_L29 u3 n (w4 + 1) y21))))
def m_putName (a1 : Int) (a2 : Int) (τ : TT) : Option (TT) := Option.bind (gd (rg a2) (if a2 = 0 then (some τ) else (Option.bind (m_put 44 τ) fun y26 => some y26))) fun (v3 : TT) => Option.bind (m_put 34 v3) fun y7 => Option.bind (m_jsonName a1 41 y7) fun y8 => Option.bind (m_putName_L29 y8.1 FU 0 y8.2) fun (v9 : TT) => Option.bind (m_put 34 v9) fun y13 => Option.bind (m_put 58 y13) fun y14 => some y14
set_option maxHeartbeats 4000000 in
theorem m_putName_L29_ok {g : GE} (G : GG g) {σ : ST} {Q : VQ} (d : Nat) (hd1 : 1 ≤ d) (u3 : Int)  {K : TT → Prop} (hE52 : ∀ v15 : TT, K (v15) → V g mX4_putName d 52 [(0, vr (some (gw g)))] [] σ v15 Q) : ∀ (n : Nat) (w4 : Int) (τ : TT), Sm (V g mX4_putName d 29 [(0, vr (some (gw g))), (3, vi u3), (4, vi w4)] [] σ τ Q) (m_putName_L29 u3 n w4 τ) K := by
  intro n
  induction n with
  | zero => intro w4 τ; exact sm_none
  | succ n ih =>
    intro w4 τ
    rw [m_putName_L29.eq_2]
    refine sm_b (l' := [(0, vr (some (gw g))), (3, vi u3), (4, vi w4)]) (st' := [vi u3, vi w4]) (pc' := 32) [(.iload 4, vi 0, 31), (.iload_n 3, vi 0, 32)] (by decide +kernel) rfl rfl ?_
    refine sm_gd (fun h16 => ?_)
    refine sm_gd (fun h17 => ?_)
    refine sm_case (V g mX4_putName d 52 [(0, vr (some (gw g))), (3, vi u3), (4, vi w4)] [] σ τ Q) (V g mX4_putName d 35 [(0, vr (some (gw g))), (3, vi u3), (4, vi w4)] [] σ τ Q) ?_ ?_ (fun f22 p23 n24 => ?_)
    · refine sm_pick [0] (l' := [(0, vr (some (gw g)))]) rfl ?_
      exact sm_leaf (fun h => hE52 _ h)
    · refine sm_b (l' := [(0, vr (some (gw g))), (3, vi u3), (4, vi w4)]) (st' := [vr (some (gw g)), vr (some (gw g))]) (pc' := 37) [(.aload_n 0, vi 0, 36), (.aload_n 0, vi 0, 37)] (by decide +kernel) rfl rfl ?_
      refine sm_tg (k := 41) (x := vr (some (gT g 41))) G.2.1 q1459 rfl rfl (by decide +kernel) ?_
      refine sm_b (l' := [(0, vr (some (gw g))), (3, vi u3), (4, vi w4)]) (st' := [vi w4, vr (some (gT g 41)), vr (some (gw g))]) (pc' := 42) [(.iload 4, vi 0, 42)] (by decide +kernel) rfl rfl ?_
      refine sm_gd (fun h20 => ?_)
      refine sm_ial (k := 41) G.2.1 (by decide) rfl (ibt (k := 41) h20) h20 (by decide +kernel) ?_
      refine sm_cv (N := mX4_put) (d' := d - 1) (fun r => none) (fun _ => σ) (fun r => r) [vi (tA τ 41 w4.toNat)] [] rfl (by decide +kernel) q1817 q1819 qs86 (Or.inl ⟨rfl, q1820⟩) (show okN yX4_put 1 = true by decide +kernel) (fun H hR => hR.rvw G.1 G.2.1) rfl rfl (by omega) rfl (fun Q' => m_put_ok G (d - 1) (by omega) (tA τ 41 w4.toNat) τ Q') (fun y21 => ?_)
      refine sm_b (l' := [(0, vr (some (gw g))), (3, vi u3), (4, vi (w4 + 1))]) (st' := []) (pc' := 29) [(.iinc 4 1, vi 1, 49), (.goto (-20), vi 0, 29)] (by decide +kernel) rfl rfl ?_
      exact ih (w4 + 1) y21
    refine sm_icmp_ge (off := 20) (tgt := 52) h16 h17 (by decide +kernel) (fun c25 => ?_) (fun c25 => ?_)
    · exact p23 c25
    · exact n24 c25
set_option maxHeartbeats 4000000 in
theorem m_putName_ok {g : GE} (G : GG g) {σ : ST} (d : Nat) (hd1 : 1 ≤ d) (a1 : Int) (a2 : Int)  (τ : TT) (Q : VQ) : Sm (V g mX4_putName d 0 [(0, vr (some (gw g))), (1, vi a1), (2, vi a2)] [] σ τ Q) (m_putName a1 a2 τ) (fun r => Q.1 none σ r) := by
  unfold m_putName
  refine sm_top (fun K hRET => ?_)
  refine sm_b (l' := [(0, vr (some (gw g))), (1, vi a1), (2, vi a2)]) (st' := [vi a2]) (pc' := 1) [(.iload_n 2, vi 0, 1)] (by decide +kernel) rfl rfl ?_
  refine sm_bind1 (fun (v3 : TT) => V g mX4_putName d 10 [(0, vr (some (gw g))), (1, vi a1)] [] σ v3 Q) (fun v3 => ?_) (fun K4 j5 => ?_)
  · refine sm_b (l' := [(0, vr (some (gw g))), (1, vi a1)]) (st' := [vi 34, vr (some (gw g))]) (pc' := 13) [(.aload_n 0, vi 0, 11), (.bipush 34, vi 34, 13)] (by decide +kernel) rfl rfl ?_
    refine sm_cv (N := mX4_put) (d' := d - 1) (fun r => none) (fun _ => σ) (fun r => r) [vi 34] [] rfl (by decide +kernel) q1817 q1819 qs86 (Or.inl ⟨rfl, q1820⟩) (show okN yX4_put 1 = true by decide +kernel) (fun H hR => hR.rvw G.1 G.2.1) rfl rfl (by omega) rfl (fun Q' => m_put_ok G (d - 1) (by omega) 34 v3 Q') (fun y7 => ?_)
    refine sm_b (l' := [(0, vr (some (gw g))), (1, vi a1)]) (st' := [vr (some (gw g)), vi a1, vr (some (gw g))]) (pc' := 19) [(.aload_n 0, vi 0, 17), (.iload_n 1, vi 0, 18), (.aload_n 0, vi 0, 19)] (by decide +kernel) rfl rfl ?_
    refine sm_tg (k := 41) (x := vr (some (gT g 41))) G.2.1 q1459 rfl rfl (by decide +kernel) ?_
    refine sm_cv (N := mX4_jsonName) (d' := d - 1) (fun r => (some (vi r.1))) (fun _ => σ) (fun r => r.2) [vi a1, vr (some (gT g 41))] [] rfl (by decide +kernel) q1740 q1742 qs73 (Or.inl ⟨rfl, q1743⟩) (show okN yX4_jsonName 2 = true by decide +kernel) (fun H hR => hR.rvw G.1 G.2.1) rfl rfl (by omega) rfl (fun Q' => m_jsonName_ok G (d - 1) (by omega) a1 41 (by decide) rfl y7 Q') (fun y8 => ?_)
    refine sm_b (l' := [(0, vr (some (gw g))), (1, vi a1), (3, vi y8.1), (4, vi 0)]) (st' := []) (pc' := 29) [(.istore_n 3, vi 0, 26), (.iconst 0, vi 0, 27), (.istore 4, vi 0, 29)] (by decide +kernel) rfl rfl ?_
    refine sm_bind1 (fun (v9 : TT) => V g mX4_putName d 52 [(0, vr (some (gw g)))] [] σ v9 Q) (fun v9 => ?_) (fun K10 j11 => ?_)
    · refine sm_b (l' := [(0, vr (some (gw g)))]) (st' := [vi 34, vr (some (gw g))]) (pc' := 55) [(.aload_n 0, vi 0, 53), (.bipush 34, vi 34, 55)] (by decide +kernel) rfl rfl ?_
      refine sm_cv (N := mX4_put) (d' := d - 1) (fun r => none) (fun _ => σ) (fun r => r) [vi 34] [] rfl (by decide +kernel) q1817 q1819 qs86 (Or.inl ⟨rfl, q1820⟩) (show okN yX4_put 1 = true by decide +kernel) (fun H hR => hR.rvw G.1 G.2.1) rfl rfl (by omega) rfl (fun Q' => m_put_ok G (d - 1) (by omega) 34 v9 Q') (fun y13 => ?_)
      refine sm_b (l' := [(0, vr (some (gw g)))]) (st' := [vi 58, vr (some (gw g))]) (pc' := 61) [(.aload_n 0, vi 0, 59), (.bipush 58, vi 58, 61)] (by decide +kernel) rfl rfl ?_
      refine sm_cv (N := mX4_put) (d' := d - 1) (fun r => none) (fun _ => σ) (fun r => r) [vi 58] [] rfl (by decide +kernel) q1817 q1819 qs86 (Or.inl ⟨rfl, q1820⟩) (show okN yX4_put 1 = true by decide +kernel) (fun H hR => hR.rvw G.1 G.2.1) rfl rfl (by omega) rfl (fun Q' => m_put_ok G (d - 1) (by omega) 58 y13 Q') (fun y14 => ?_)
      exact sm_vret rfl (by decide +kernel) (fun h => hRET _ h)
    · refine sm_pick [0, 2, 3] (l' := [(0, vr (some (gw g))), (3, vi y8.1), (4, vi 0)]) rfl ?_
      exact m_putName_L29_ok G d hd1 y8.1  (fun _ h => j11 _ h) FU 0 y8.2
  · refine sm_gd (fun h1 => ?_)
    refine sm_case (V g mX4_putName d 10 [(0, vr (some (gw g))), (1, vi a1), (2, vi a2)] [] σ τ Q) (V g mX4_putName d 4 [(0, vr (some (gw g))), (1, vi a1), (2, vi a2)] [] σ τ Q) ?_ ?_ (fun f27 p28 n29 => ?_)
    · refine sm_pick [0, 1] (l' := [(0, vr (some (gw g))), (1, vi a1)]) rfl ?_
      exact sm_leaf (fun h => j5 _ h)
    · refine sm_b (l' := [(0, vr (some (gw g))), (1, vi a1), (2, vi a2)]) (st' := [vi 44, vr (some (gw g))]) (pc' := 7) [(.aload_n 0, vi 0, 5), (.bipush 44, vi 44, 7)] (by decide +kernel) rfl rfl ?_
      refine sm_cv (N := mX4_put) (d' := d - 1) (fun r => none) (fun _ => σ) (fun r => r) [vi 44] [] rfl (by decide +kernel) q1817 q1819 qs86 (Or.inl ⟨rfl, q1820⟩) (show okN yX4_put 1 = true by decide +kernel) (fun H hR => hR.rvw G.1 G.2.1) rfl rfl (by omega) rfl (fun Q' => m_put_ok G (d - 1) (by omega) 44 τ Q') (fun y26 => ?_)
      refine sm_pick [0, 1] (l' := [(0, vr (some (gw g))), (1, vi a1)]) rfl ?_
      exact sm_leaf (fun h => j5 _ h)
    refine sm_if_eq (off := 9) (tgt := 10) h1 (by decide +kernel) (fun c30 => ?_) (fun c30 => ?_)
    · exact p28 c30
    · exact n29 c30
def m_beginElement (a1 : Int) (a2 : Int) (a3 : Int) (τ : TT) : Option (TT) := gd (rg a2) (if a2 = 0 then (Option.bind (m_putName a1 a3 τ) fun y4 => Option.bind (m_put 91 y4) fun y5 => some y5) else (Option.bind (m_put 44 τ) fun y6 => some y6))
set_option maxHeartbeats 4000000 in
theorem m_beginElement_ok {g : GE} (G : GG g) {σ : ST} (d : Nat) (hd1 : 2 ≤ d) (a1 : Int) (a2 : Int) (a3 : Int)  (τ : TT) (Q : VQ) : Sm (V g mX4_beginElement d 0 [(0, vr (some (gw g))), (1, vi a1), (2, vi a2), (3, vi a3)] [] σ τ Q) (m_beginElement a1 a2 a3 τ) (fun r => Q.1 none σ r) := by
  unfold m_beginElement
  refine sm_top (fun K hRET => ?_)
  refine sm_b (l' := [(0, vr (some (gw g))), (1, vi a1), (2, vi a2), (3, vi a3)]) (st' := [vi a2]) (pc' := 1) [(.iload_n 2, vi 0, 1)] (by decide +kernel) rfl rfl ?_
  refine sm_gd (fun h1 => ?_)
  refine sm_case (V g mX4_beginElement d 4 [(0, vr (some (gw g))), (1, vi a1), (2, vi a2), (3, vi a3)] [] σ τ Q) (V g mX4_beginElement d 19 [(0, vr (some (gw g))), (1, vi a1), (2, vi a2), (3, vi a3)] [] σ τ Q) ?_ ?_ (fun f7 p8 n9 => ?_)
  · refine sm_b (l' := [(0, vr (some (gw g))), (1, vi a1), (2, vi a2), (3, vi a3)]) (st' := [vi a3, vi a1, vr (some (gw g))]) (pc' := 7) [(.aload_n 0, vi 0, 5), (.iload_n 1, vi 0, 6), (.iload_n 3, vi 0, 7)] (by decide +kernel) rfl rfl ?_
    refine sm_cv (N := mX4_putName) (d' := d - 1) (fun r => none) (fun _ => σ) (fun r => r) [vi a1, vi a3] [] rfl (by decide +kernel) q1833 q1835 qs90 (Or.inl ⟨rfl, q1836⟩) (show okN yX4_putName 2 = true by decide +kernel) (fun H hR => hR.rvw G.1 G.2.1) rfl rfl (by omega) rfl (fun Q' => m_putName_ok G (d - 1) (by omega) a1 a3 τ Q') (fun y4 => ?_)
    refine sm_b (l' := [(0, vr (some (gw g))), (1, vi a1), (2, vi a2), (3, vi a3)]) (st' := [vi 91, vr (some (gw g))]) (pc' := 13) [(.aload_n 0, vi 0, 11), (.bipush 91, vi 91, 13)] (by decide +kernel) rfl rfl ?_
    refine sm_cv (N := mX4_put) (d' := d - 1) (fun r => none) (fun _ => σ) (fun r => r) [vi 91] [] rfl (by decide +kernel) q1817 q1819 qs86 (Or.inl ⟨rfl, q1820⟩) (show okN yX4_put 1 = true by decide +kernel) (fun H hR => hR.rvw G.1 G.2.1) rfl rfl (by omega) rfl (fun Q' => m_put_ok G (d - 1) (by omega) 91 y4 Q') (fun y5 => ?_)
    refine sm_b (l' := [(0, vr (some (gw g))), (1, vi a1), (2, vi a2), (3, vi a3)]) (st' := []) (pc' := 25) [(.goto 9, vi 0, 25)] (by decide +kernel) rfl rfl ?_
    exact sm_vret rfl (by decide +kernel) (fun h => hRET _ h)
  · refine sm_b (l' := [(0, vr (some (gw g))), (1, vi a1), (2, vi a2), (3, vi a3)]) (st' := [vi 44, vr (some (gw g))]) (pc' := 22) [(.aload_n 0, vi 0, 20), (.bipush 44, vi 44, 22)] (by decide +kernel) rfl rfl ?_
    refine sm_cv (N := mX4_put) (d' := d - 1) (fun r => none) (fun _ => σ) (fun r => r) [vi 44] [] rfl (by decide +kernel) q1817 q1819 qs86 (Or.inl ⟨rfl, q1820⟩) (show okN yX4_put 1 = true by decide +kernel) (fun H hR => hR.rvw G.1 G.2.1) rfl rfl (by omega) rfl (fun Q' => m_put_ok G (d - 1) (by omega) 44 τ Q') (fun y6 => ?_)
    exact sm_vret rfl (by decide +kernel) (fun h => hRET _ h)
  refine sm_if_ne (off := 18) (tgt := 19) h1 (by decide +kernel) (fun c10 => ?_) (fun c10 => ?_)
  · exact n9 c10
  · exact p8 c10
def m_putAll_L2 (u1 : Nat) : Nat → Int → TT → Option (TT)
  | 0, _, _ => none
  | n + 1, w2, τ => gd (rg w2) (if (((slen u1 : Nat) : Int)) ≤ w2 then (some τ) else (gd (ib w2 (slen u1)) (Option.bind (m_put (((sch u1 w2.toNat : Nat) : Int)) τ) fun y6 => m_putAll_L2 u1 n (w2 + 1) y6)))
def m_putAll (a1 : Nat) (τ : TT) : Option (TT) := m_putAll_L2 a1 FU 0 τ
set_option maxHeartbeats 4000000 in
theorem m_putAll_L2_ok {g : GE} (G : GG g) {σ : ST} {Q : VQ} (d : Nat) (hd1 : 6 ≤ d) (u1 : Nat)  {K : TT → Prop} (hRET : ∀ r : TT, K (r) → Q.1 none σ r) : ∀ (n : Nat) (w2 : Int) (τ : TT), Sm (V g mX4_putAll d 2 [(0, vr (some (gw g))), (1, vr (some (gK g u1))), (2, vi w2)] [] σ τ Q) (m_putAll_L2 u1 n w2 τ) K := by
  intro n
  induction n with
  | zero => intro w2 τ; exact sm_none
  | succ n ih =>
    intro w2 τ
    rw [m_putAll_L2.eq_2]
    refine sm_b (l' := [(0, vr (some (gw g))), (1, vr (some (gK g u1))), (2, vi w2)]) (st' := [vr (some (gK g u1)), vi w2]) (pc' := 4) [(.iload_n 2, vi 0, 3), (.aload_n 1, vi 0, 4)] (by decide +kernel) rfl rfl ?_
    refine sm_slen (k := u1) G [vi w2] rfl (by decide +kernel) q1642 (by omega) rfl ?_
    refine sm_gd (fun h1 => ?_)
    refine sm_case (V g mX4_putAll d 25 [(0, vr (some (gw g))), (1, vr (some (gK g u1))), (2, vi w2)] [] σ τ Q) (V g mX4_putAll d 10 [(0, vr (some (gw g))), (1, vr (some (gK g u1))), (2, vi w2)] [] σ τ Q) ?_ ?_ (fun f7 p8 n9 => ?_)
    · exact sm_vret rfl (by decide +kernel) (fun h => hRET _ h)
    · refine sm_b (l' := [(0, vr (some (gw g))), (1, vr (some (gK g u1))), (2, vi w2)]) (st' := [vi w2, vr (some (gK g u1)), vr (some (gw g))]) (pc' := 13) [(.aload_n 0, vi 0, 11), (.aload_n 1, vi 0, 12), (.iload_n 2, vi 0, 13)] (by decide +kernel) rfl rfl ?_
      refine sm_gd (fun h5 => ?_)
      refine sm_scha (k := u1) G [vr (some (gw g))] rfl (by decide +kernel) q1643 h5 (by omega) rfl ?_
      refine sm_cv (N := mX4_put) (d' := d - 1) (fun r => none) (fun _ => σ) (fun r => r) [vi (((sch u1 w2.toNat : Nat) : Int))] [] rfl (by decide +kernel) q1817 q1819 qs86 (Or.inl ⟨rfl, q1820⟩) (show okN yX4_put 1 = true by decide +kernel) (fun H hR => hR.rvw G.1 G.2.1) rfl rfl (by omega) rfl (fun Q' => m_put_ok G (d - 1) (by omega) (((sch u1 w2.toNat : Nat) : Int)) τ Q') (fun y6 => ?_)
      refine sm_b (l' := [(0, vr (some (gw g))), (1, vr (some (gK g u1))), (2, vi (w2 + 1))]) (st' := []) (pc' := 2) [(.iinc 2 1, vi 1, 22), (.goto (-20), vi 0, 2)] (by decide +kernel) rfl rfl ?_
      exact ih (w2 + 1) y6
    refine sm_icmp_ge (off := 18) (tgt := 25) h1 (slen_rg _) (by decide +kernel) (fun c10 => ?_) (fun c10 => ?_)
    · exact p8 c10
    · exact n9 c10
set_option maxHeartbeats 4000000 in
theorem m_putAll_ok {g : GE} (G : GG g) {σ : ST} (d : Nat) (hd1 : 6 ≤ d) (a1 : Nat)  (τ : TT) (Q : VQ) : Sm (V g mX4_putAll d 0 [(0, vr (some (gw g))), (1, vr (some (gK g a1)))] [] σ τ Q) (m_putAll a1 τ) (fun r => Q.1 none σ r) := by
  unfold m_putAll
  refine sm_top (fun K hRET => ?_)
  refine sm_b (l' := [(0, vr (some (gw g))), (1, vr (some (gK g a1))), (2, vi 0)]) (st' := []) (pc' := 2) [(.iconst 0, vi 0, 1), (.istore_n 2, vi 0, 2)] (by decide +kernel) rfl rfl ?_
  exact m_putAll_L2_ok G d hd1 a1  (fun r h => hRET _ h) FU 0 τ
def m_putText_L8 (u2 : Int) : Nat → Int → TT → Option (TT)
  | 0, _, _ => none
  | n + 1, w3, τ => gd (rg w3) (gd (rg u2) (if u2 ≤ w3 then (some τ) else (gd (ib w3 1000) (nm (tA τ 2 w3.toNat) fun x13 => Option.bind (gd (rg x13) (if x13 = 8 then (some 98) else (if x13 = 12 then (some 102) else (if x13 = 10 then (some 110) else (if x13 = 13 then (some 114) else (if x13 = 9 then (some 116) else (if (x13 = 34) ∨ (x13 = 92) then (some x13) else (some 0)))))))) fun (v17 : Int) => Option.bind (gd (rg v17) (if v17 ≤ 0 then (gd (rg x13) (if 32 ≤ x13 then (Option.bind (m_put x13 τ) fun y32 => some y32) else (Option.bind (m_putAll 24 τ) fun y33 => Option.bind (m_put (48 + (iDiv x13 16)) y33) fun y34 => Option.bind (if 10 ≤ (iRem x13 16) then (some (((97 + (iRem x13 16)) - 10))) else (some ((48 + (iRem x13 16))))) fun (v37 : Int) => Option.bind (m_put v37 y34) fun y41 => some y41))) else (Option.bind (m_put 92 τ) fun y50 => Option.bind (m_put v17 y50) fun y51 => some y51))) fun (v25 : TT) => m_putText_L8 u2 n (w3 + 1) v25))))
def m_putText (a1 : Int) (a2 : Int) (τ : TT) : Option (TT) := Option.bind (m_put 34 τ) fun y1 => Option.bind (m_putText_L8 a2 FU a1 y1) fun (v2 : TT) => Option.bind (m_put 34 v2) fun y6 => some y6
set_option maxHeartbeats 4000000 in
theorem m_putText_L8_ok {g : GE} (G : GG g) {σ : ST} {Q : VQ} (d : Nat) (hd1 : 7 ≤ d) (u2 : Int)  {K : TT → Prop} (hE200 : ∀ v7 : TT, K (v7) → V g mX4_putText d 200 [(0, vr (some (gw g)))] [] σ v7 Q) : ∀ (n : Nat) (w3 : Int) (τ : TT), Sm (V g mX4_putText d 8 [(0, vr (some (gw g))), (2, vi u2), (3, vi w3)] [] σ τ Q) (m_putText_L8 u2 n w3 τ) K := by
  intro n
  induction n with
  | zero => intro w3 τ; exact sm_none
  | succ n ih =>
    intro w3 τ
    rw [m_putText_L8.eq_2]
    refine sm_b (l' := [(0, vr (some (gw g))), (2, vi u2), (3, vi w3)]) (st' := [vi u2, vi w3]) (pc' := 10) [(.iload_n 3, vi 0, 9), (.iload_n 2, vi 0, 10)] (by decide +kernel) rfl rfl ?_
    refine sm_gd (fun h8 => ?_)
    refine sm_gd (fun h9 => ?_)
    refine sm_case (V g mX4_putText d 200 [(0, vr (some (gw g))), (2, vi u2), (3, vi w3)] [] σ τ Q) (V g mX4_putText d 13 [(0, vr (some (gw g))), (2, vi u2), (3, vi w3)] [] σ τ Q) ?_ ?_ (fun f92 p93 n94 => ?_)
    · refine sm_pick [0] (l' := [(0, vr (some (gw g)))]) rfl ?_
      exact sm_leaf (fun h => hE200 _ h)
    · refine sm_b (l' := [(0, vr (some (gw g))), (2, vi u2), (3, vi w3)]) (st' := [vr (some (gw g))]) (pc' := 14) [(.aload_n 0, vi 0, 14)] (by decide +kernel) rfl rfl ?_
      refine sm_tg (k := 2) (x := vr (some (gT g 2))) G.2.1 q1420 rfl rfl (by decide +kernel) ?_
      refine sm_b (l' := [(0, vr (some (gw g))), (2, vi u2), (3, vi w3)]) (st' := [vi w3, vr (some (gT g 2))]) (pc' := 18) [(.iload_n 3, vi 0, 18)] (by decide +kernel) rfl rfl ?_
      refine sm_gd (fun h12 => ?_)
      refine sm_ial (k := 2) G.2.1 (by decide) rfl (ibt (k := 2) h12) h12 (by decide +kernel) ?_
      refine sm_nmi (fun x13 => ?_)
      refine sm_b (l' := [(0, vr (some (gw g))), (2, vi u2), (3, vi w3), (4, vi x13)]) (st' := [vi 8, vi x13]) (pc' := 25) [(.istore 4, vi 0, 21), (.iload 4, vi 0, 23), (.bipush 8, vi 8, 25)] (by decide +kernel) rfl rfl ?_
      refine sm_bind1 (fun (v17 : Int) => V g mX4_putText d 101 [(0, vr (some (gw g))), (2, vi u2), (3, vi w3), (4, vi x13)] [vi v17] σ τ Q) (fun v17 => ?_) (fun K18 j19 => ?_)
      · refine sm_b (l' := [(0, vr (some (gw g))), (2, vi u2), (3, vi w3), (4, vi x13), (5, vi v17)]) (st' := [vi v17]) (pc' := 105) [(.istore 5, vi 0, 103), (.iload 5, vi 0, 105)] (by decide +kernel) rfl rfl ?_
        refine sm_bind1 (fun (v25 : TT) => V g mX4_putText d 194 [(0, vr (some (gw g))), (2, vi u2), (3, vi w3)] [] σ v25 Q) (fun v25 => ?_) (fun K26 j27 => ?_)
        · refine sm_b (l' := [(0, vr (some (gw g))), (2, vi u2), (3, vi (w3 + 1))]) (st' := []) (pc' := 8) [(.iinc 3 1, vi 1, 197), (.goto (-189), vi 0, 8)] (by decide +kernel) rfl rfl ?_
          exact ih (w3 + 1) v25
        · refine sm_gd (fun h21 => ?_)
          refine sm_case (V g mX4_putText d 123 [(0, vr (some (gw g))), (2, vi u2), (3, vi w3), (4, vi x13), (5, vi v17)] [] σ τ Q) (V g mX4_putText d 108 [(0, vr (some (gw g))), (2, vi u2), (3, vi w3), (4, vi x13), (5, vi v17)] [] σ τ Q) ?_ ?_ (fun f52 p53 n54 => ?_)
          · refine sm_b (l' := [(0, vr (some (gw g))), (2, vi u2), (3, vi w3), (4, vi x13), (5, vi v17)]) (st' := [vi 32, vi x13]) (pc' := 127) [(.iload 4, vi 0, 125), (.bipush 32, vi 32, 127)] (by decide +kernel) rfl rfl ?_
            refine sm_gd (fun h29 => ?_)
            refine sm_case (V g mX4_putText d 188 [(0, vr (some (gw g))), (2, vi u2), (3, vi w3), (4, vi x13), (5, vi v17)] [] σ τ Q) (V g mX4_putText d 130 [(0, vr (some (gw g))), (2, vi u2), (3, vi w3), (4, vi x13), (5, vi v17)] [] σ τ Q) ?_ ?_ (fun f46 p47 n48 => ?_)
            · refine sm_b (l' := [(0, vr (some (gw g))), (2, vi u2), (3, vi w3), (4, vi x13), (5, vi v17)]) (st' := [vi x13, vr (some (gw g))]) (pc' := 191) [(.aload_n 0, vi 0, 189), (.iload 4, vi 0, 191)] (by decide +kernel) rfl rfl ?_
              refine sm_cv (N := mX4_put) (d' := d - 1) (fun r => none) (fun _ => σ) (fun r => r) [vi x13] [] rfl (by decide +kernel) q1817 q1819 qs86 (Or.inl ⟨rfl, q1820⟩) (show okN yX4_put 1 = true by decide +kernel) (fun H hR => hR.rvw G.1 G.2.1) rfl rfl (by omega) rfl (fun Q' => m_put_ok G (d - 1) (by omega) x13 τ Q') (fun y32 => ?_)
              refine sm_pick [0, 1, 2] (l' := [(0, vr (some (gw g))), (2, vi u2), (3, vi w3)]) rfl ?_
              exact sm_leaf (fun h => j27 _ h)
            · refine sm_b (l' := [(0, vr (some (gw g))), (2, vi u2), (3, vi w3), (4, vi x13), (5, vi v17)]) (st' := [vr (some (gw g))]) (pc' := 131) [(.aload_n 0, vi 0, 131)] (by decide +kernel) rfl rfl ?_
              refine sm_strw (k := 24) G rfl (by decide +kernel) ?_
              refine sm_cv (N := mX4_putAll) (d' := d - 1) (fun r => none) (fun _ => σ) (fun r => r) [vr (some (gK g 24))] [] rfl (by decide +kernel) q1846 q1848 qs93 (Or.inl ⟨rfl, q1849⟩) (show okN yX4_putAll 1 = true by decide +kernel) (fun H hR => hR.rvw G.1 G.2.1) rfl rfl (by omega) rfl (fun Q' => m_putAll_ok G (d - 1) (by omega) 24 τ Q') (fun y33 => ?_)
              refine sm_b (l' := [(0, vr (some (gw g))), (2, vi u2), (3, vi w3), (4, vi x13), (5, vi v17)]) (st' := [vi 16, vi x13, vi 48, vr (some (gw g))]) (pc' := 144) [(.aload_n 0, vi 0, 138), (.bipush 48, vi 48, 140), (.iload 4, vi 0, 142), (.bipush 16, vi 16, 144)] (by decide +kernel) rfl rfl ?_
              refine sm_idiv (by decide +kernel) (by decide) ?_
              refine sm_b (l' := [(0, vr (some (gw g))), (2, vi u2), (3, vi w3), (4, vi x13), (5, vi v17)]) (st' := [vi (48 + (iDiv x13 16)), vr (some (gw g))]) (pc' := 146) [(.iadd, vi 0, 146)] (by decide +kernel) rfl rfl ?_
              refine sm_cv (N := mX4_put) (d' := d - 1) (fun r => none) (fun _ => σ) (fun r => r) [vi (48 + (iDiv x13 16))] [] rfl (by decide +kernel) q1817 q1819 qs86 (Or.inl ⟨rfl, q1820⟩) (show okN yX4_put 1 = true by decide +kernel) (fun H hR => hR.rvw G.1 G.2.1) rfl rfl (by omega) rfl (fun Q' => m_put_ok G (d - 1) (by omega) (48 + (iDiv x13 16)) y33 Q') (fun y34 => ?_)
              refine sm_b (l' := [(0, vr (some (gw g))), (2, vi u2), (3, vi w3), (4, vi x13), (5, vi v17)]) (st' := [vi 16, vi x13, vr (some (gw g))]) (pc' := 154) [(.aload_n 0, vi 0, 150), (.iload 4, vi 0, 152), (.bipush 16, vi 16, 154)] (by decide +kernel) rfl rfl ?_
              refine sm_irem (by decide +kernel) (by decide) ?_
              refine sm_b (l' := [(0, vr (some (gw g))), (2, vi u2), (3, vi w3), (4, vi x13), (5, vi v17)]) (st' := [vi 10, vi (iRem x13 16), vr (some (gw g))]) (pc' := 157) [(.bipush 10, vi 10, 157)] (by decide +kernel) rfl rfl ?_
              refine sm_bind1 (fun (v37 : Int) => V g mX4_putText d 182 [(0, vr (some (gw g))), (2, vi u2), (3, vi w3)] [vi v37, vr (some (gw g))] σ y34 Q) (fun v37 => ?_) (fun K38 j39 => ?_)
              · refine sm_cv (N := mX4_put) (d' := d - 1) (fun r => none) (fun _ => σ) (fun r => r) [vi v37] [] rfl (by decide +kernel) q1817 q1819 qs86 (Or.inl ⟨rfl, q1820⟩) (show okN yX4_put 1 = true by decide +kernel) (fun H hR => hR.rvw G.1 G.2.1) rfl rfl (by omega) rfl (fun Q' => m_put_ok G (d - 1) (by omega) v37 y34 Q') (fun y41 => ?_)
                refine sm_b (l' := [(0, vr (some (gw g))), (2, vi u2), (3, vi w3)]) (st' := []) (pc' := 194) [(.goto 9, vi 0, 194)] (by decide +kernel) rfl rfl ?_
                exact sm_leaf (fun h => j27 _ h)
              · refine sm_case (V g mX4_putText d 171 [(0, vr (some (gw g))), (2, vi u2), (3, vi w3), (4, vi x13), (5, vi v17)] [vr (some (gw g))] σ y34 Q) (V g mX4_putText d 160 [(0, vr (some (gw g))), (2, vi u2), (3, vi w3), (4, vi x13), (5, vi v17)] [vr (some (gw g))] σ y34 Q) ?_ ?_ (fun f42 p43 n44 => ?_)
                · refine sm_b (l' := [(0, vr (some (gw g))), (2, vi u2), (3, vi w3), (4, vi x13), (5, vi v17)]) (st' := [vi 16, vi x13, vi 97, vr (some (gw g))]) (pc' := 177) [(.bipush 97, vi 97, 173), (.iload 4, vi 0, 175), (.bipush 16, vi 16, 177)] (by decide +kernel) rfl rfl ?_
                  refine sm_irem (by decide +kernel) (by decide) ?_
                  refine sm_b (l' := [(0, vr (some (gw g))), (2, vi u2), (3, vi w3), (4, vi x13), (5, vi v17)]) (st' := [vi ((97 + (iRem x13 16)) - 10), vr (some (gw g))]) (pc' := 182) [(.iadd, vi 0, 179), (.bipush 10, vi 10, 181), (.isub, vi 0, 182)] (by decide +kernel) rfl rfl ?_
                  refine sm_pick [0, 1, 2] (l' := [(0, vr (some (gw g))), (2, vi u2), (3, vi w3)]) rfl ?_
                  exact sm_leaf (fun h => j39 _ h)
                · refine sm_b (l' := [(0, vr (some (gw g))), (2, vi u2), (3, vi w3), (4, vi x13), (5, vi v17)]) (st' := [vi 16, vi x13, vi 48, vr (some (gw g))]) (pc' := 166) [(.bipush 48, vi 48, 162), (.iload 4, vi 0, 164), (.bipush 16, vi 16, 166)] (by decide +kernel) rfl rfl ?_
                  refine sm_irem (by decide +kernel) (by decide) ?_
                  refine sm_b (l' := [(0, vr (some (gw g))), (2, vi u2), (3, vi w3), (4, vi x13), (5, vi v17)]) (st' := [vi (48 + (iRem x13 16)), vr (some (gw g))]) (pc' := 182) [(.iadd, vi 0, 168), (.goto 14, vi 0, 182)] (by decide +kernel) rfl rfl ?_
                  refine sm_pick [0, 1, 2] (l' := [(0, vr (some (gw g))), (2, vi u2), (3, vi w3)]) rfl ?_
                  exact sm_leaf (fun h => j39 _ h)
                refine sm_icmp_ge (off := 14) (tgt := 171) (rg_in _) (by decide) (by decide +kernel) (fun c45 => ?_) (fun c45 => ?_)
                · exact p43 c45
                · exact n44 c45
            refine sm_icmp_ge (off := 61) (tgt := 188) h29 (by decide) (by decide +kernel) (fun c49 => ?_) (fun c49 => ?_)
            · exact p47 c49
            · exact n48 c49
          · refine sm_b (l' := [(0, vr (some (gw g))), (2, vi u2), (3, vi w3), (4, vi x13), (5, vi v17)]) (st' := [vi 92, vr (some (gw g))]) (pc' := 111) [(.aload_n 0, vi 0, 109), (.bipush 92, vi 92, 111)] (by decide +kernel) rfl rfl ?_
            refine sm_cv (N := mX4_put) (d' := d - 1) (fun r => none) (fun _ => σ) (fun r => r) [vi 92] [] rfl (by decide +kernel) q1817 q1819 qs86 (Or.inl ⟨rfl, q1820⟩) (show okN yX4_put 1 = true by decide +kernel) (fun H hR => hR.rvw G.1 G.2.1) rfl rfl (by omega) rfl (fun Q' => m_put_ok G (d - 1) (by omega) 92 τ Q') (fun y50 => ?_)
            refine sm_b (l' := [(0, vr (some (gw g))), (2, vi u2), (3, vi w3), (4, vi x13), (5, vi v17)]) (st' := [vi v17, vr (some (gw g))]) (pc' := 117) [(.aload_n 0, vi 0, 115), (.iload 5, vi 0, 117)] (by decide +kernel) rfl rfl ?_
            refine sm_cv (N := mX4_put) (d' := d - 1) (fun r => none) (fun _ => σ) (fun r => r) [vi v17] [] rfl (by decide +kernel) q1817 q1819 qs86 (Or.inl ⟨rfl, q1820⟩) (show okN yX4_put 1 = true by decide +kernel) (fun H hR => hR.rvw G.1 G.2.1) rfl rfl (by omega) rfl (fun Q' => m_put_ok G (d - 1) (by omega) v17 y50 Q') (fun y51 => ?_)
            refine sm_b (l' := [(0, vr (some (gw g))), (2, vi u2), (3, vi w3), (4, vi x13), (5, vi v17)]) (st' := []) (pc' := 194) [(.goto 74, vi 0, 194)] (by decide +kernel) rfl rfl ?_
            refine sm_pick [0, 1, 2] (l' := [(0, vr (some (gw g))), (2, vi u2), (3, vi w3)]) rfl ?_
            exact sm_leaf (fun h => j27 _ h)
          refine sm_if_le (off := 18) (tgt := 123) h21 (by decide +kernel) (fun c55 => ?_) (fun c55 => ?_)
          · exact p53 c55
          · exact n54 c55
      · refine sm_gd (fun h14 => ?_)
        refine sm_case (V g mX4_putText d 28 [(0, vr (some (gw g))), (2, vi u2), (3, vi w3), (4, vi x13)] [] σ τ Q) (V g mX4_putText d 33 [(0, vr (some (gw g))), (2, vi u2), (3, vi w3), (4, vi x13)] [] σ τ Q) ?_ ?_ (fun f88 p89 n90 => ?_)
        · refine sm_b (l' := [(0, vr (some (gw g))), (2, vi u2), (3, vi w3), (4, vi x13)]) (st' := [vi 98]) (pc' := 101) [(.bipush 98, vi 98, 30), (.goto 71, vi 0, 101)] (by decide +kernel) rfl rfl ?_
          exact sm_leaf (fun h => j19 _ h)
        · refine sm_b (l' := [(0, vr (some (gw g))), (2, vi u2), (3, vi w3), (4, vi x13)]) (st' := [vi 12, vi x13]) (pc' := 37) [(.iload 4, vi 0, 35), (.bipush 12, vi 12, 37)] (by decide +kernel) rfl rfl ?_
          refine sm_case (V g mX4_putText d 40 [(0, vr (some (gw g))), (2, vi u2), (3, vi w3), (4, vi x13)] [] σ τ Q) (V g mX4_putText d 45 [(0, vr (some (gw g))), (2, vi u2), (3, vi w3), (4, vi x13)] [] σ τ Q) ?_ ?_ (fun f84 p85 n86 => ?_)
          · refine sm_b (l' := [(0, vr (some (gw g))), (2, vi u2), (3, vi w3), (4, vi x13)]) (st' := [vi 102]) (pc' := 101) [(.bipush 102, vi 102, 42), (.goto 59, vi 0, 101)] (by decide +kernel) rfl rfl ?_
            exact sm_leaf (fun h => j19 _ h)
          · refine sm_b (l' := [(0, vr (some (gw g))), (2, vi u2), (3, vi w3), (4, vi x13)]) (st' := [vi 10, vi x13]) (pc' := 49) [(.iload 4, vi 0, 47), (.bipush 10, vi 10, 49)] (by decide +kernel) rfl rfl ?_
            refine sm_case (V g mX4_putText d 52 [(0, vr (some (gw g))), (2, vi u2), (3, vi w3), (4, vi x13)] [] σ τ Q) (V g mX4_putText d 57 [(0, vr (some (gw g))), (2, vi u2), (3, vi w3), (4, vi x13)] [] σ τ Q) ?_ ?_ (fun f80 p81 n82 => ?_)
            · refine sm_b (l' := [(0, vr (some (gw g))), (2, vi u2), (3, vi w3), (4, vi x13)]) (st' := [vi 110]) (pc' := 101) [(.bipush 110, vi 110, 54), (.goto 47, vi 0, 101)] (by decide +kernel) rfl rfl ?_
              exact sm_leaf (fun h => j19 _ h)
            · refine sm_b (l' := [(0, vr (some (gw g))), (2, vi u2), (3, vi w3), (4, vi x13)]) (st' := [vi 13, vi x13]) (pc' := 61) [(.iload 4, vi 0, 59), (.bipush 13, vi 13, 61)] (by decide +kernel) rfl rfl ?_
              refine sm_case (V g mX4_putText d 64 [(0, vr (some (gw g))), (2, vi u2), (3, vi w3), (4, vi x13)] [] σ τ Q) (V g mX4_putText d 69 [(0, vr (some (gw g))), (2, vi u2), (3, vi w3), (4, vi x13)] [] σ τ Q) ?_ ?_ (fun f76 p77 n78 => ?_)
              · refine sm_b (l' := [(0, vr (some (gw g))), (2, vi u2), (3, vi w3), (4, vi x13)]) (st' := [vi 114]) (pc' := 101) [(.bipush 114, vi 114, 66), (.goto 35, vi 0, 101)] (by decide +kernel) rfl rfl ?_
                exact sm_leaf (fun h => j19 _ h)
              · refine sm_b (l' := [(0, vr (some (gw g))), (2, vi u2), (3, vi w3), (4, vi x13)]) (st' := [vi 9, vi x13]) (pc' := 73) [(.iload 4, vi 0, 71), (.bipush 9, vi 9, 73)] (by decide +kernel) rfl rfl ?_
                refine sm_case (V g mX4_putText d 76 [(0, vr (some (gw g))), (2, vi u2), (3, vi w3), (4, vi x13)] [] σ τ Q) (V g mX4_putText d 81 [(0, vr (some (gw g))), (2, vi u2), (3, vi w3), (4, vi x13)] [] σ τ Q) ?_ ?_ (fun f72 p73 n74 => ?_)
                · refine sm_b (l' := [(0, vr (some (gw g))), (2, vi u2), (3, vi w3), (4, vi x13)]) (st' := [vi 116]) (pc' := 101) [(.bipush 116, vi 116, 78), (.goto 23, vi 0, 101)] (by decide +kernel) rfl rfl ?_
                  exact sm_leaf (fun h => j19 _ h)
                · refine sm_b (l' := [(0, vr (some (gw g))), (2, vi u2), (3, vi w3), (4, vi x13)]) (st' := [vi 34, vi x13]) (pc' := 85) [(.iload 4, vi 0, 83), (.bipush 34, vi 34, 85)] (by decide +kernel) rfl rfl ?_
                  refine sm_case (V g mX4_putText d 95 [(0, vr (some (gw g))), (2, vi u2), (3, vi w3), (4, vi x13)] [] σ τ Q) (V g mX4_putText d 100 [(0, vr (some (gw g))), (2, vi u2), (3, vi w3), (4, vi x13)] [] σ τ Q) ?_ ?_ (fun f67 p68 n69 => ?_)
                  · refine sm_b (l' := [(0, vr (some (gw g))), (2, vi u2), (3, vi w3), (4, vi x13)]) (st' := [vi x13]) (pc' := 101) [(.iload 4, vi 0, 97), (.goto 4, vi 0, 101)] (by decide +kernel) rfl rfl ?_
                    exact sm_leaf (fun h => j19 _ h)
                  · refine sm_b (l' := [(0, vr (some (gw g))), (2, vi u2), (3, vi w3), (4, vi x13)]) (st' := [vi 0]) (pc' := 101) [(.iconst 0, vi 0, 101)] (by decide +kernel) rfl rfl ?_
                    exact sm_leaf (fun h => j19 _ h)
                  refine sm_icmp_eq (off := 10) (tgt := 95) h14 (by decide) (by decide +kernel) (fun c70 => ?_) (fun c70 => ?_)
                  · exact p68 (Or.inl c70)
                  · refine sm_b (l' := [(0, vr (some (gw g))), (2, vi u2), (3, vi w3), (4, vi x13)]) (st' := [vi 92, vi x13]) (pc' := 92) [(.iload 4, vi 0, 90), (.bipush 92, vi 92, 92)] (by decide +kernel) rfl rfl ?_
                    refine sm_icmp_ne (off := 8) (tgt := 100) h14 (by decide) (by decide +kernel) (fun c71 => ?_) (fun c71 => ?_)
                    · exact n69 (fun q => q.elim c70 c71)
                    · exact p68 (Or.inr c71)
                refine sm_icmp_ne (off := 8) (tgt := 81) h14 (by decide) (by decide +kernel) (fun c75 => ?_) (fun c75 => ?_)
                · exact n74 c75
                · exact p73 c75
              refine sm_icmp_ne (off := 8) (tgt := 69) h14 (by decide) (by decide +kernel) (fun c79 => ?_) (fun c79 => ?_)
              · exact n78 c79
              · exact p77 c79
            refine sm_icmp_ne (off := 8) (tgt := 57) h14 (by decide) (by decide +kernel) (fun c83 => ?_) (fun c83 => ?_)
            · exact n82 c83
            · exact p81 c83
          refine sm_icmp_ne (off := 8) (tgt := 45) h14 (by decide) (by decide +kernel) (fun c87 => ?_) (fun c87 => ?_)
          · exact n86 c87
          · exact p85 c87
        refine sm_icmp_ne (off := 8) (tgt := 33) h14 (by decide) (by decide +kernel) (fun c91 => ?_) (fun c91 => ?_)
        · exact n90 c91
        · exact p89 c91
    refine sm_icmp_ge (off := 190) (tgt := 200) h8 h9 (by decide +kernel) (fun c95 => ?_) (fun c95 => ?_)
    · exact p93 c95
    · exact n94 c95
set_option maxHeartbeats 4000000 in
theorem m_putText_ok {g : GE} (G : GG g) {σ : ST} (d : Nat) (hd1 : 7 ≤ d) (a1 : Int) (a2 : Int)  (τ : TT) (Q : VQ) : Sm (V g mX4_putText d 0 [(0, vr (some (gw g))), (1, vi a1), (2, vi a2)] [] σ τ Q) (m_putText a1 a2 τ) (fun r => Q.1 none σ r) := by
  unfold m_putText
  refine sm_top (fun K hRET => ?_)
  refine sm_b (l' := [(0, vr (some (gw g))), (1, vi a1), (2, vi a2)]) (st' := [vi 34, vr (some (gw g))]) (pc' := 3) [(.aload_n 0, vi 0, 1), (.bipush 34, vi 34, 3)] (by decide +kernel) rfl rfl ?_
  refine sm_cv (N := mX4_put) (d' := d - 1) (fun r => none) (fun _ => σ) (fun r => r) [vi 34] [] rfl (by decide +kernel) q1817 q1819 qs86 (Or.inl ⟨rfl, q1820⟩) (show okN yX4_put 1 = true by decide +kernel) (fun H hR => hR.rvw G.1 G.2.1) rfl rfl (by omega) rfl (fun Q' => m_put_ok G (d - 1) (by omega) 34 τ Q') (fun y1 => ?_)
  refine sm_b (l' := [(0, vr (some (gw g))), (1, vi a1), (2, vi a2), (3, vi a1)]) (st' := []) (pc' := 8) [(.iload_n 1, vi 0, 7), (.istore_n 3, vi 0, 8)] (by decide +kernel) rfl rfl ?_
  refine sm_bind1 (fun (v2 : TT) => V g mX4_putText d 200 [(0, vr (some (gw g)))] [] σ v2 Q) (fun v2 => ?_) (fun K3 j4 => ?_)
  · refine sm_b (l' := [(0, vr (some (gw g)))]) (st' := [vi 34, vr (some (gw g))]) (pc' := 203) [(.aload_n 0, vi 0, 201), (.bipush 34, vi 34, 203)] (by decide +kernel) rfl rfl ?_
    refine sm_cv (N := mX4_put) (d' := d - 1) (fun r => none) (fun _ => σ) (fun r => r) [vi 34] [] rfl (by decide +kernel) q1817 q1819 qs86 (Or.inl ⟨rfl, q1820⟩) (show okN yX4_put 1 = true by decide +kernel) (fun H hR => hR.rvw G.1 G.2.1) rfl rfl (by omega) rfl (fun Q' => m_put_ok G (d - 1) (by omega) 34 v2 Q') (fun y6 => ?_)
    exact sm_vret rfl (by decide +kernel) (fun h => hRET _ h)
  · refine sm_pick [0, 2, 3] (l' := [(0, vr (some (gw g))), (2, vi a2), (3, vi a1)]) rfl ?_
    exact m_putText_L8_ok G d hd1 a2  (fun _ h => j4 _ h) FU a1 y1
def m_sixBits (a1 : Int) : Option (Int) := gd (rg a1) (if 26 ≤ a1 then (if 52 ≤ a1 then (if 62 ≤ a1 then (if a1 = 62 then (some 43) else (some 47)) else (some (((48 + a1) - 52)))) else (some (((97 + a1) - 26)))) else (some ((65 + a1))))
set_option maxHeartbeats 4000000 in
theorem m_sixBits_ok {g : GE} (G : GG g) {σ : ST} (d : Nat) (hd1 : 0 ≤ d) (a1 : Int)  (τ : TT) (Q : VQ) : Sm (V g mX4_sixBits d 0 [(0, vi a1)] [] σ τ Q) (m_sixBits a1) (fun r => Q.1 (some (vi r)) σ τ) := by
  unfold m_sixBits
  refine sm_top (fun K hRET => ?_)
  refine sm_b (l' := [(0, vi a1)]) (st' := [vi 26, vi a1]) (pc' := 3) [(.iload_n 0, vi 0, 1), (.bipush 26, vi 26, 3)] (by decide +kernel) rfl rfl ?_
  refine sm_gd (fun h1 => ?_)
  refine sm_case (V g mX4_sixBits d 13 [(0, vi a1)] [] σ τ Q) (V g mX4_sixBits d 6 [(0, vi a1)] [] σ τ Q) ?_ ?_ (fun f22 p23 n24 => ?_)
  · refine sm_b (l' := [(0, vi a1)]) (st' := [vi 52, vi a1]) (pc' := 16) [(.iload_n 0, vi 0, 14), (.bipush 52, vi 52, 16)] (by decide +kernel) rfl rfl ?_
    refine sm_case (V g mX4_sixBits d 29 [(0, vi a1)] [] σ τ Q) (V g mX4_sixBits d 19 [(0, vi a1)] [] σ τ Q) ?_ ?_ (fun f18 p19 n20 => ?_)
    · refine sm_b (l' := [(0, vi a1)]) (st' := [vi 62, vi a1]) (pc' := 32) [(.iload_n 0, vi 0, 30), (.bipush 62, vi 62, 32)] (by decide +kernel) rfl rfl ?_
      refine sm_case (V g mX4_sixBits d 45 [(0, vi a1)] [] σ τ Q) (V g mX4_sixBits d 35 [(0, vi a1)] [] σ τ Q) ?_ ?_ (fun f14 p15 n16 => ?_)
      · refine sm_b (l' := [(0, vi a1)]) (st' := [vi 62, vi a1]) (pc' := 48) [(.iload_n 0, vi 0, 46), (.bipush 62, vi 62, 48)] (by decide +kernel) rfl rfl ?_
        refine sm_case (V g mX4_sixBits d 51 [(0, vi a1)] [] σ τ Q) (V g mX4_sixBits d 56 [(0, vi a1)] [] σ τ Q) ?_ ?_ (fun f10 p11 n12 => ?_)
        · refine sm_b (l' := [(0, vi a1)]) (st' := [vi 43]) (pc' := 58) [(.bipush 43, vi 43, 53), (.goto 5, vi 0, 58)] (by decide +kernel) rfl rfl ?_
          exact sm_iret rfl (by decide +kernel) (fun h => hRET _ h)
        · refine sm_b (l' := [(0, vi a1)]) (st' := [vi 47]) (pc' := 58) [(.bipush 47, vi 47, 58)] (by decide +kernel) rfl rfl ?_
          exact sm_iret rfl (by decide +kernel) (fun h => hRET _ h)
        refine sm_icmp_ne (off := 8) (tgt := 56) h1 (by decide) (by decide +kernel) (fun c13 => ?_) (fun c13 => ?_)
        · exact n12 c13
        · exact p11 c13
      · refine sm_b (l' := [(0, vi a1)]) (st' := [vi ((48 + a1) - 52)]) (pc' := 58) [(.bipush 48, vi 48, 37), (.iload_n 0, vi 0, 38), (.iadd, vi 0, 39), (.bipush 52, vi 52, 41), (.isub, vi 0, 42), (.goto 16, vi 0, 58)] (by decide +kernel) rfl rfl ?_
        exact sm_iret rfl (by decide +kernel) (fun h => hRET _ h)
      refine sm_icmp_ge (off := 13) (tgt := 45) h1 (by decide) (by decide +kernel) (fun c17 => ?_) (fun c17 => ?_)
      · exact p15 c17
      · exact n16 c17
    · refine sm_b (l' := [(0, vi a1)]) (st' := [vi ((97 + a1) - 26)]) (pc' := 58) [(.bipush 97, vi 97, 21), (.iload_n 0, vi 0, 22), (.iadd, vi 0, 23), (.bipush 26, vi 26, 25), (.isub, vi 0, 26), (.goto 32, vi 0, 58)] (by decide +kernel) rfl rfl ?_
      exact sm_iret rfl (by decide +kernel) (fun h => hRET _ h)
    refine sm_icmp_ge (off := 13) (tgt := 29) h1 (by decide) (by decide +kernel) (fun c21 => ?_) (fun c21 => ?_)
    · exact p19 c21
    · exact n20 c21
  · refine sm_b (l' := [(0, vi a1)]) (st' := [vi (65 + a1)]) (pc' := 58) [(.bipush 65, vi 65, 8), (.iload_n 0, vi 0, 9), (.iadd, vi 0, 10), (.goto 48, vi 0, 58)] (by decide +kernel) rfl rfl ?_
    exact sm_iret rfl (by decide +kernel) (fun h => hRET _ h)
  refine sm_icmp_ge (off := 10) (tgt := 13) h1 (by decide) (by decide +kernel) (fun c25 => ?_) (fun c25 => ?_)
  · exact p23 c25
  · exact n24 c25
def m_putBytes_L8 (u2 : Int) : Nat → Int → TT → Option (TT)
  | 0, _, _ => none
  | n + 1, w3, τ => gd (rg w3) (gd (rg u2) (if u2 ≤ w3 then (some τ) else (gd (ib w3 1000) (nm (tA τ 2 w3.toNat) fun x13 => Option.bind (gd (rg (w3 + 1)) (if u2 ≤ (w3 + 1) then (some 0) else (gd (ib (w3 + 1) 1000) (some ((tA τ 2 (w3 + 1).toNat)))))) fun (v18 : Int) => Option.bind (gd (rg (w3 + 2)) (if u2 ≤ (w3 + 2) then (some 0) else (gd (ib (w3 + 2) 1000) (some ((tA τ 2 (w3 + 2).toNat)))))) fun (v26 : Int) => Option.bind (m_sixBits (iShr x13 2)) fun y30 => Option.bind (m_put y30 τ) fun y31 => Option.bind (m_sixBits (iOr (iShl (iAnd x13 3) 4) (iShr v18 4))) fun y32 => Option.bind (m_put y32 y31) fun y33 => Option.bind (gd (rg (w3 + 1)) (if u2 ≤ (w3 + 1) then (some 61) else (Option.bind (m_sixBits (iOr (iShl (iAnd v18 15) 2) (iShr v26 6))) fun y57 => some y57))) fun (v38 : Int) => Option.bind (m_put v38 y33) fun y42 => Option.bind (gd (rg (w3 + 2)) (if u2 ≤ (w3 + 2) then (some 61) else (Option.bind (m_sixBits (iAnd v26 63)) fun y52 => some y52))) fun (v47 : Int) => Option.bind (m_put v47 y42) fun y51 => m_putBytes_L8 u2 n (w3 + 3) y51))))
def m_putBytes (a1 : Int) (a2 : Int) (τ : TT) : Option (TT) := Option.bind (m_put 34 τ) fun y1 => Option.bind (m_putBytes_L8 a2 FU a1 y1) fun (v2 : TT) => Option.bind (m_put 34 v2) fun y6 => some y6
set_option maxHeartbeats 4000000 in
theorem m_putBytes_L8_ok {g : GE} (G : GG g) {σ : ST} {Q : VQ} (d : Nat) (hd1 : 1 ≤ d) (u2 : Int)  {K : TT → Prop} (hE154 : ∀ v7 : TT, K (v7) → V g mX4_putBytes d 154 [(0, vr (some (gw g)))] [] σ v7 Q) : ∀ (n : Nat) (w3 : Int) (τ : TT), Sm (V g mX4_putBytes d 8 [(0, vr (some (gw g))), (2, vi u2), (3, vi w3)] [] σ τ Q) (m_putBytes_L8 u2 n w3 τ) K := by
  intro n
  induction n with
  | zero => intro w3 τ; exact sm_none
  | succ n ih =>
    intro w3 τ
    rw [m_putBytes_L8.eq_2]
    refine sm_b (l' := [(0, vr (some (gw g))), (2, vi u2), (3, vi w3)]) (st' := [vi u2, vi w3]) (pc' := 10) [(.iload_n 3, vi 0, 9), (.iload_n 2, vi 0, 10)] (by decide +kernel) rfl rfl ?_
    refine sm_gd (fun h8 => ?_)
    refine sm_gd (fun h9 => ?_)
    refine sm_case (V g mX4_putBytes d 154 [(0, vr (some (gw g))), (2, vi u2), (3, vi w3)] [] σ τ Q) (V g mX4_putBytes d 13 [(0, vr (some (gw g))), (2, vi u2), (3, vi w3)] [] σ τ Q) ?_ ?_ (fun f72 p73 n74 => ?_)
    · refine sm_pick [0] (l' := [(0, vr (some (gw g)))]) rfl ?_
      exact sm_leaf (fun h => hE154 _ h)
    · refine sm_b (l' := [(0, vr (some (gw g))), (2, vi u2), (3, vi w3)]) (st' := [vr (some (gw g))]) (pc' := 14) [(.aload_n 0, vi 0, 14)] (by decide +kernel) rfl rfl ?_
      refine sm_tg (k := 2) (x := vr (some (gT g 2))) G.2.1 q1420 rfl rfl (by decide +kernel) ?_
      refine sm_b (l' := [(0, vr (some (gw g))), (2, vi u2), (3, vi w3)]) (st' := [vi w3, vr (some (gT g 2))]) (pc' := 18) [(.iload_n 3, vi 0, 18)] (by decide +kernel) rfl rfl ?_
      refine sm_gd (fun h12 => ?_)
      refine sm_ial (k := 2) G.2.1 (by decide) rfl (ibt (k := 2) h12) h12 (by decide +kernel) ?_
      refine sm_nmi (fun x13 => ?_)
      refine sm_b (l' := [(0, vr (some (gw g))), (2, vi u2), (3, vi w3), (4, vi x13)]) (st' := [vi u2, vi (w3 + 1)]) (pc' := 25) [(.istore 4, vi 0, 21), (.iload_n 3, vi 0, 22), (.iconst 1, vi 1, 23), (.iadd, vi 0, 24), (.iload_n 2, vi 0, 25)] (by decide +kernel) rfl rfl ?_
      refine sm_bind1 (fun (v18 : Int) => V g mX4_putBytes d 40 [(0, vr (some (gw g))), (2, vi u2), (3, vi w3), (4, vi x13)] [vi v18] σ τ Q) (fun v18 => ?_) (fun K19 j20 => ?_)
      · refine sm_b (l' := [(0, vr (some (gw g))), (2, vi u2), (3, vi w3), (4, vi x13), (5, vi v18)]) (st' := [vi u2, vi (w3 + 2)]) (pc' := 46) [(.istore 5, vi 0, 42), (.iload_n 3, vi 0, 43), (.iconst 2, vi 2, 44), (.iadd, vi 0, 45), (.iload_n 2, vi 0, 46)] (by decide +kernel) rfl rfl ?_
        refine sm_bind1 (fun (v26 : Int) => V g mX4_putBytes d 61 [(0, vr (some (gw g))), (2, vi u2), (3, vi w3), (4, vi x13), (5, vi v18)] [vi v26] σ τ Q) (fun v26 => ?_) (fun K27 j28 => ?_)
        · refine sm_b (l' := [(0, vr (some (gw g))), (2, vi u2), (3, vi w3), (4, vi x13), (5, vi v18), (6, vi v26)]) (st' := [vi (iShr x13 2), vr (some (gw g))]) (pc' := 68) [(.istore 6, vi 0, 63), (.aload_n 0, vi 0, 64), (.iload 4, vi 0, 66), (.iconst 2, vi 2, 67), (.ishr, vi 0, 68)] (by decide +kernel) rfl rfl ?_
          refine sm_cs (N := mX4_sixBits) (d' := d - 1) (fun r => (some (vi r))) (fun _ => σ) (fun _ => τ) [vi (iShr x13 2)] [vr (some (gw g))] rfl (by decide +kernel) q1854 q1855 q138 (Or.inl ⟨rfl, q1856⟩) (show okN yX4_sixBits 1 = true by decide +kernel) rfl rfl (by omega) rfl (fun Q' => m_sixBits_ok G (d - 1) (by omega) (iShr x13 2) τ Q') (fun y30 => ?_)
          refine sm_cv (N := mX4_put) (d' := d - 1) (fun r => none) (fun _ => σ) (fun r => r) [vi y30] [] rfl (by decide +kernel) q1817 q1819 qs86 (Or.inl ⟨rfl, q1820⟩) (show okN yX4_put 1 = true by decide +kernel) (fun H hR => hR.rvw G.1 G.2.1) rfl rfl (by omega) rfl (fun Q' => m_put_ok G (d - 1) (by omega) y30 τ Q') (fun y31 => ?_)
          refine sm_b (l' := [(0, vr (some (gw g))), (2, vi u2), (3, vi w3), (4, vi x13), (5, vi v18), (6, vi v26)]) (st' := [vi (iOr (iShl (iAnd x13 3) 4) (iShr v18 4)), vr (some (gw g))]) (pc' := 86) [(.aload_n 0, vi 0, 75), (.iload 4, vi 0, 77), (.iconst 3, vi 3, 78), (.iand, vi 0, 79), (.iconst 4, vi 4, 80), (.ishl, vi 0, 81), (.iload 5, vi 0, 83), (.iconst 4, vi 4, 84), (.ishr, vi 0, 85), (.ior, vi 0, 86)] (by decide +kernel) rfl rfl ?_
          refine sm_cs (N := mX4_sixBits) (d' := d - 1) (fun r => (some (vi r))) (fun _ => σ) (fun _ => y31) [vi (iOr (iShl (iAnd x13 3) 4) (iShr v18 4))] [vr (some (gw g))] rfl (by decide +kernel) q1854 q1855 q138 (Or.inl ⟨rfl, q1856⟩) (show okN yX4_sixBits 1 = true by decide +kernel) rfl rfl (by omega) rfl (fun Q' => m_sixBits_ok G (d - 1) (by omega) (iOr (iShl (iAnd x13 3) 4) (iShr v18 4)) y31 Q') (fun y32 => ?_)
          refine sm_cv (N := mX4_put) (d' := d - 1) (fun r => none) (fun _ => σ) (fun r => r) [vi y32] [] rfl (by decide +kernel) q1817 q1819 qs86 (Or.inl ⟨rfl, q1820⟩) (show okN yX4_put 1 = true by decide +kernel) (fun H hR => hR.rvw G.1 G.2.1) rfl rfl (by omega) rfl (fun Q' => m_put_ok G (d - 1) (by omega) y32 y31 Q') (fun y33 => ?_)
          refine sm_b (l' := [(0, vr (some (gw g))), (2, vi u2), (3, vi w3), (4, vi x13), (5, vi v18), (6, vi v26)]) (st' := [vi u2, vi (w3 + 1), vr (some (gw g))]) (pc' := 97) [(.aload_n 0, vi 0, 93), (.iload_n 3, vi 0, 94), (.iconst 1, vi 1, 95), (.iadd, vi 0, 96), (.iload_n 2, vi 0, 97)] (by decide +kernel) rfl rfl ?_
          refine sm_bind1 (fun (v38 : Int) => V g mX4_putBytes d 121 [(0, vr (some (gw g))), (2, vi u2), (3, vi w3), (6, vi v26)] [vi v38, vr (some (gw g))] σ y33 Q) (fun v38 => ?_) (fun K39 j40 => ?_)
          · refine sm_cv (N := mX4_put) (d' := d - 1) (fun r => none) (fun _ => σ) (fun r => r) [vi v38] [] rfl (by decide +kernel) q1817 q1819 qs86 (Or.inl ⟨rfl, q1820⟩) (show okN yX4_put 1 = true by decide +kernel) (fun H hR => hR.rvw G.1 G.2.1) rfl rfl (by omega) rfl (fun Q' => m_put_ok G (d - 1) (by omega) v38 y33 Q') (fun y42 => ?_)
            refine sm_b (l' := [(0, vr (some (gw g))), (2, vi u2), (3, vi w3), (6, vi v26)]) (st' := [vi u2, vi (w3 + 2), vr (some (gw g))]) (pc' := 129) [(.aload_n 0, vi 0, 125), (.iload_n 3, vi 0, 126), (.iconst 2, vi 2, 127), (.iadd, vi 0, 128), (.iload_n 2, vi 0, 129)] (by decide +kernel) rfl rfl ?_
            refine sm_bind1 (fun (v47 : Int) => V g mX4_putBytes d 145 [(0, vr (some (gw g))), (2, vi u2), (3, vi w3)] [vi v47, vr (some (gw g))] σ y42 Q) (fun v47 => ?_) (fun K48 j49 => ?_)
            · refine sm_cv (N := mX4_put) (d' := d - 1) (fun r => none) (fun _ => σ) (fun r => r) [vi v47] [] rfl (by decide +kernel) q1817 q1819 qs86 (Or.inl ⟨rfl, q1820⟩) (show okN yX4_put 1 = true by decide +kernel) (fun H hR => hR.rvw G.1 G.2.1) rfl rfl (by omega) rfl (fun Q' => m_put_ok G (d - 1) (by omega) v47 y42 Q') (fun y51 => ?_)
              refine sm_b (l' := [(0, vr (some (gw g))), (2, vi u2), (3, vi (w3 + 3))]) (st' := []) (pc' := 8) [(.iinc 3 3, vi 3, 151), (.goto (-143), vi 0, 8)] (by decide +kernel) rfl rfl ?_
              exact ih (w3 + 3) y51
            · refine sm_gd (fun h43 => ?_)
              refine sm_case (V g mX4_putBytes d 143 [(0, vr (some (gw g))), (2, vi u2), (3, vi w3), (6, vi v26)] [vr (some (gw g))] σ y42 Q) (V g mX4_putBytes d 132 [(0, vr (some (gw g))), (2, vi u2), (3, vi w3), (6, vi v26)] [vr (some (gw g))] σ y42 Q) ?_ ?_ (fun f53 p54 n55 => ?_)
              · refine sm_b (l' := [(0, vr (some (gw g))), (2, vi u2), (3, vi w3), (6, vi v26)]) (st' := [vi 61, vr (some (gw g))]) (pc' := 145) [(.bipush 61, vi 61, 145)] (by decide +kernel) rfl rfl ?_
                refine sm_pick [0, 1, 2] (l' := [(0, vr (some (gw g))), (2, vi u2), (3, vi w3)]) rfl ?_
                exact sm_leaf (fun h => j49 _ h)
              · refine sm_b (l' := [(0, vr (some (gw g))), (2, vi u2), (3, vi w3), (6, vi v26)]) (st' := [vi (iAnd v26 63), vr (some (gw g))]) (pc' := 137) [(.iload 6, vi 0, 134), (.bipush 63, vi 63, 136), (.iand, vi 0, 137)] (by decide +kernel) rfl rfl ?_
                refine sm_cs (N := mX4_sixBits) (d' := d - 1) (fun r => (some (vi r))) (fun _ => σ) (fun _ => y42) [vi (iAnd v26 63)] [vr (some (gw g))] rfl (by decide +kernel) q1854 q1855 q138 (Or.inl ⟨rfl, q1856⟩) (show okN yX4_sixBits 1 = true by decide +kernel) rfl rfl (by omega) rfl (fun Q' => m_sixBits_ok G (d - 1) (by omega) (iAnd v26 63) y42 Q') (fun y52 => ?_)
                refine sm_b (l' := [(0, vr (some (gw g))), (2, vi u2), (3, vi w3), (6, vi v26)]) (st' := [vi y52, vr (some (gw g))]) (pc' := 145) [(.goto 5, vi 0, 145)] (by decide +kernel) rfl rfl ?_
                refine sm_pick [0, 1, 2] (l' := [(0, vr (some (gw g))), (2, vi u2), (3, vi w3)]) rfl ?_
                exact sm_leaf (fun h => j49 _ h)
              refine sm_icmp_ge (off := 14) (tgt := 143) h43 h9 (by decide +kernel) (fun c56 => ?_) (fun c56 => ?_)
              · exact p54 c56
              · exact n55 c56
          · refine sm_gd (fun h34 => ?_)
            refine sm_case (V g mX4_putBytes d 119 [(0, vr (some (gw g))), (2, vi u2), (3, vi w3), (4, vi x13), (5, vi v18), (6, vi v26)] [vr (some (gw g))] σ y33 Q) (V g mX4_putBytes d 100 [(0, vr (some (gw g))), (2, vi u2), (3, vi w3), (4, vi x13), (5, vi v18), (6, vi v26)] [vr (some (gw g))] σ y33 Q) ?_ ?_ (fun f58 p59 n60 => ?_)
            · refine sm_b (l' := [(0, vr (some (gw g))), (2, vi u2), (3, vi w3), (4, vi x13), (5, vi v18), (6, vi v26)]) (st' := [vi 61, vr (some (gw g))]) (pc' := 121) [(.bipush 61, vi 61, 121)] (by decide +kernel) rfl rfl ?_
              refine sm_pick [0, 1, 2, 5] (l' := [(0, vr (some (gw g))), (2, vi u2), (3, vi w3), (6, vi v26)]) rfl ?_
              exact sm_leaf (fun h => j40 _ h)
            · refine sm_b (l' := [(0, vr (some (gw g))), (2, vi u2), (3, vi w3), (4, vi x13), (5, vi v18), (6, vi v26)]) (st' := [vi (iOr (iShl (iAnd v18 15) 2) (iShr v26 6)), vr (some (gw g))]) (pc' := 113) [(.iload 5, vi 0, 102), (.bipush 15, vi 15, 104), (.iand, vi 0, 105), (.iconst 2, vi 2, 106), (.ishl, vi 0, 107), (.iload 6, vi 0, 109), (.bipush 6, vi 6, 111), (.ishr, vi 0, 112), (.ior, vi 0, 113)] (by decide +kernel) rfl rfl ?_
              refine sm_cs (N := mX4_sixBits) (d' := d - 1) (fun r => (some (vi r))) (fun _ => σ) (fun _ => y33) [vi (iOr (iShl (iAnd v18 15) 2) (iShr v26 6))] [vr (some (gw g))] rfl (by decide +kernel) q1854 q1855 q138 (Or.inl ⟨rfl, q1856⟩) (show okN yX4_sixBits 1 = true by decide +kernel) rfl rfl (by omega) rfl (fun Q' => m_sixBits_ok G (d - 1) (by omega) (iOr (iShl (iAnd v18 15) 2) (iShr v26 6)) y33 Q') (fun y57 => ?_)
              refine sm_b (l' := [(0, vr (some (gw g))), (2, vi u2), (3, vi w3), (4, vi x13), (5, vi v18), (6, vi v26)]) (st' := [vi y57, vr (some (gw g))]) (pc' := 121) [(.goto 5, vi 0, 121)] (by decide +kernel) rfl rfl ?_
              refine sm_pick [0, 1, 2, 5] (l' := [(0, vr (some (gw g))), (2, vi u2), (3, vi w3), (6, vi v26)]) rfl ?_
              exact sm_leaf (fun h => j40 _ h)
            refine sm_icmp_ge (off := 22) (tgt := 119) h34 h9 (by decide +kernel) (fun c61 => ?_) (fun c61 => ?_)
            · exact p59 c61
            · exact n60 c61
        · refine sm_gd (fun h22 => ?_)
          refine sm_case (V g mX4_putBytes d 60 [(0, vr (some (gw g))), (2, vi u2), (3, vi w3), (4, vi x13), (5, vi v18)] [] σ τ Q) (V g mX4_putBytes d 49 [(0, vr (some (gw g))), (2, vi u2), (3, vi w3), (4, vi x13), (5, vi v18)] [] σ τ Q) ?_ ?_ (fun f63 p64 n65 => ?_)
          · refine sm_b (l' := [(0, vr (some (gw g))), (2, vi u2), (3, vi w3), (4, vi x13), (5, vi v18)]) (st' := [vi 0]) (pc' := 61) [(.iconst 0, vi 0, 61)] (by decide +kernel) rfl rfl ?_
            exact sm_leaf (fun h => j28 _ h)
          · refine sm_b (l' := [(0, vr (some (gw g))), (2, vi u2), (3, vi w3), (4, vi x13), (5, vi v18)]) (st' := [vr (some (gw g))]) (pc' := 50) [(.aload_n 0, vi 0, 50)] (by decide +kernel) rfl rfl ?_
            refine sm_tg (k := 2) (x := vr (some (gT g 2))) G.2.1 q1420 rfl rfl (by decide +kernel) ?_
            refine sm_b (l' := [(0, vr (some (gw g))), (2, vi u2), (3, vi w3), (4, vi x13), (5, vi v18)]) (st' := [vi (w3 + 2), vr (some (gT g 2))]) (pc' := 56) [(.iload_n 3, vi 0, 54), (.iconst 2, vi 2, 55), (.iadd, vi 0, 56)] (by decide +kernel) rfl rfl ?_
            refine sm_gd (fun h62 => ?_)
            refine sm_ial (k := 2) G.2.1 (by decide) rfl (ibt (k := 2) h62) h62 (by decide +kernel) ?_
            refine sm_b (l' := [(0, vr (some (gw g))), (2, vi u2), (3, vi w3), (4, vi x13), (5, vi v18)]) (st' := [vi (tA τ 2 (w3 + 2).toNat)]) (pc' := 61) [(.goto 4, vi 0, 61)] (by decide +kernel) rfl rfl ?_
            exact sm_leaf (fun h => j28 _ h)
          refine sm_icmp_ge (off := 14) (tgt := 60) h22 h9 (by decide +kernel) (fun c66 => ?_) (fun c66 => ?_)
          · exact p64 c66
          · exact n65 c66
      · refine sm_gd (fun h14 => ?_)
        refine sm_case (V g mX4_putBytes d 39 [(0, vr (some (gw g))), (2, vi u2), (3, vi w3), (4, vi x13)] [] σ τ Q) (V g mX4_putBytes d 28 [(0, vr (some (gw g))), (2, vi u2), (3, vi w3), (4, vi x13)] [] σ τ Q) ?_ ?_ (fun f68 p69 n70 => ?_)
        · refine sm_b (l' := [(0, vr (some (gw g))), (2, vi u2), (3, vi w3), (4, vi x13)]) (st' := [vi 0]) (pc' := 40) [(.iconst 0, vi 0, 40)] (by decide +kernel) rfl rfl ?_
          exact sm_leaf (fun h => j20 _ h)
        · refine sm_b (l' := [(0, vr (some (gw g))), (2, vi u2), (3, vi w3), (4, vi x13)]) (st' := [vr (some (gw g))]) (pc' := 29) [(.aload_n 0, vi 0, 29)] (by decide +kernel) rfl rfl ?_
          refine sm_tg (k := 2) (x := vr (some (gT g 2))) G.2.1 q1420 rfl rfl (by decide +kernel) ?_
          refine sm_b (l' := [(0, vr (some (gw g))), (2, vi u2), (3, vi w3), (4, vi x13)]) (st' := [vi (w3 + 1), vr (some (gT g 2))]) (pc' := 35) [(.iload_n 3, vi 0, 33), (.iconst 1, vi 1, 34), (.iadd, vi 0, 35)] (by decide +kernel) rfl rfl ?_
          refine sm_gd (fun h67 => ?_)
          refine sm_ial (k := 2) G.2.1 (by decide) rfl (ibt (k := 2) h67) h67 (by decide +kernel) ?_
          refine sm_b (l' := [(0, vr (some (gw g))), (2, vi u2), (3, vi w3), (4, vi x13)]) (st' := [vi (tA τ 2 (w3 + 1).toNat)]) (pc' := 40) [(.goto 4, vi 0, 40)] (by decide +kernel) rfl rfl ?_
          exact sm_leaf (fun h => j20 _ h)
        refine sm_icmp_ge (off := 14) (tgt := 39) h14 h9 (by decide +kernel) (fun c71 => ?_) (fun c71 => ?_)
        · exact p69 c71
        · exact n70 c71
    refine sm_icmp_ge (off := 144) (tgt := 154) h8 h9 (by decide +kernel) (fun c75 => ?_) (fun c75 => ?_)
    · exact p73 c75
    · exact n74 c75
set_option maxHeartbeats 4000000 in
theorem m_putBytes_ok {g : GE} (G : GG g) {σ : ST} (d : Nat) (hd1 : 1 ≤ d) (a1 : Int) (a2 : Int)  (τ : TT) (Q : VQ) : Sm (V g mX4_putBytes d 0 [(0, vr (some (gw g))), (1, vi a1), (2, vi a2)] [] σ τ Q) (m_putBytes a1 a2 τ) (fun r => Q.1 none σ r) := by
  unfold m_putBytes
  refine sm_top (fun K hRET => ?_)
  refine sm_b (l' := [(0, vr (some (gw g))), (1, vi a1), (2, vi a2)]) (st' := [vi 34, vr (some (gw g))]) (pc' := 3) [(.aload_n 0, vi 0, 1), (.bipush 34, vi 34, 3)] (by decide +kernel) rfl rfl ?_
  refine sm_cv (N := mX4_put) (d' := d - 1) (fun r => none) (fun _ => σ) (fun r => r) [vi 34] [] rfl (by decide +kernel) q1817 q1819 qs86 (Or.inl ⟨rfl, q1820⟩) (show okN yX4_put 1 = true by decide +kernel) (fun H hR => hR.rvw G.1 G.2.1) rfl rfl (by omega) rfl (fun Q' => m_put_ok G (d - 1) (by omega) 34 τ Q') (fun y1 => ?_)
  refine sm_b (l' := [(0, vr (some (gw g))), (1, vi a1), (2, vi a2), (3, vi a1)]) (st' := []) (pc' := 8) [(.iload_n 1, vi 0, 7), (.istore_n 3, vi 0, 8)] (by decide +kernel) rfl rfl ?_
  refine sm_bind1 (fun (v2 : TT) => V g mX4_putBytes d 154 [(0, vr (some (gw g)))] [] σ v2 Q) (fun v2 => ?_) (fun K3 j4 => ?_)
  · refine sm_b (l' := [(0, vr (some (gw g)))]) (st' := [vi 34, vr (some (gw g))]) (pc' := 157) [(.aload_n 0, vi 0, 155), (.bipush 34, vi 34, 157)] (by decide +kernel) rfl rfl ?_
    refine sm_cv (N := mX4_put) (d' := d - 1) (fun r => none) (fun _ => σ) (fun r => r) [vi 34] [] rfl (by decide +kernel) q1817 q1819 qs86 (Or.inl ⟨rfl, q1820⟩) (show okN yX4_put 1 = true by decide +kernel) (fun H hR => hR.rvw G.1 G.2.1) rfl rfl (by omega) rfl (fun Q' => m_put_ok G (d - 1) (by omega) 34 v2 Q') (fun y6 => ?_)
    exact sm_vret rfl (by decide +kernel) (fun h => hRET _ h)
  · refine sm_pick [0, 2, 3] (l' := [(0, vr (some (gw g))), (2, vi a2), (3, vi a1)]) rfl ?_
    exact m_putBytes_L8_ok G d hd1 a2  (fun _ h => j4 _ h) FU a1 y1
def m_meant (a1 : Int) (a2 : Int64) (τ : TT) : Option (Int64) := gd (ib a1 50) (gd (rg (tA τ 28 a1.toNat)) (if (tA τ 28 a1.toNat) = 0 then (some ((iL (lI a2)))) else (if (tA τ 28 a1.toNat) = 2 ∨ (tA τ 28 a1.toNat) = 6 then (some ((a2 &&& 4294967295))) else (if (tA τ 28 a1.toNat) = 4 then (some ((iL (iXor (iUsh (lI a2) 1) (-(iAnd (lI a2) 1)))))) else (if (tA τ 28 a1.toNat) = 5 then (some (((lUsh a2 1) ^^^ (-(a2 &&& 1))))) else (if (tA τ 28 a1.toNat) = 8 then (if a2 = 0 then (some 0) else (some 1)) else (if (tA τ 28 a1.toNat) < 32 then (some a2) else (some ((iL (lI a2)))))))))))
set_option maxHeartbeats 4000000 in
theorem m_meant_ok {g : GE} (G : GG g) {σ : ST} (d : Nat) (hd1 : 0 ≤ d) (a1 : Int) (a2 : Int64)  (τ : TT) (Q : VQ) : Sm (V g mX4_meant d 0 [(0, vr (some (gw g))), (1, vi a1), (2, vl a2)] [] σ τ Q) (m_meant a1 a2 τ) (fun r => Q.1 (some (vl r)) σ τ) := by
  unfold m_meant
  refine sm_top (fun K hRET => ?_)
  refine sm_b (l' := [(0, vr (some (gw g))), (1, vi a1), (2, vl a2)]) (st' := [vr (some (gw g))]) (pc' := 1) [(.aload_n 0, vi 0, 1)] (by decide +kernel) rfl rfl ?_
  refine sm_tg (k := 28) (x := vr (some (gT g 28))) G.2.1 q1446 rfl rfl (by decide +kernel) ?_
  refine sm_b (l' := [(0, vr (some (gw g))), (1, vi a1), (2, vl a2)]) (st' := [vi a1, vr (some (gT g 28))]) (pc' := 5) [(.iload_n 1, vi 0, 5)] (by decide +kernel) rfl rfl ?_
  refine sm_gd (fun h1 => ?_)
  refine sm_ial (k := 28) G.2.1 (by decide) rfl (ibt (k := 28) h1) h1 (by decide +kernel) ?_
  refine sm_gd (fun h2 => ?_)
  refine sm_if (fun c3 => ?_) (fun c3 => ?_)
  · refine sm_dflt (V g mX4_meant d 56 [(0, vr (some (gw g))), (1, vi a1), (2, vl a2)] [] σ τ Q) ?_ (fun f4 => ?_)
    · refine sm_b (l' := [(0, vr (some (gw g))), (1, vi a1), (2, vl a2)]) (st' := [vl (iL (lI a2))]) (pc' := 59) [(.lload_n 2, vi 0, 57), (.l2i, vi 0, 58), (.i2l, vi 0, 59)] (by decide +kernel) rfl rfl ?_
      exact sm_lret rfl (by decide +kernel) (fun h => hRET _ h)
    exact sm_tcase (df := 93) (lo := 0) (hi := 8) (os := #[50, 93, 54, 93, 60, 72, 54, 93, 81]) (n := 50) (k := 0) (off := 50) (tgt := 56) (by decide +kernel) c3 f4
  · refine sm_if (fun c5 => ?_) (fun c5 => ?_)
    · refine sm_dflt (V g mX4_meant d 60 [(0, vr (some (gw g))), (1, vi a1), (2, vl a2)] [] σ τ Q) ?_ (fun f6 => ?_)
      · refine sm_b (l' := [(0, vr (some (gw g))), (1, vi a1), (2, vl a2)]) (st' := [vl a2]) (pc' := 61) [(.lload_n 2, vi 0, 61)] (by decide +kernel) rfl rfl ?_
        refine sm_ldc2 (by decide +kernel) q1861 ?_
        refine sm_b (l' := [(0, vr (some (gw g))), (1, vi a1), (2, vl a2)]) (st' := [vl (a2 &&& 4294967295)]) (pc' := 65) [(.land, vi 0, 65)] (by decide +kernel) rfl rfl ?_
        exact sm_lret rfl (by decide +kernel) (fun h => hRET _ h)
      rcases c5 with c5 | c5
      · exact sm_tcase (df := 93) (lo := 0) (hi := 8) (os := #[50, 93, 54, 93, 60, 72, 54, 93, 81]) (n := 50) (k := 2) (off := 54) (tgt := 60) (by decide +kernel) c5 f6
      · exact sm_tcase (df := 93) (lo := 0) (hi := 8) (os := #[50, 93, 54, 93, 60, 72, 54, 93, 81]) (n := 50) (k := 6) (off := 54) (tgt := 60) (by decide +kernel) c5 f6
    · refine sm_if (fun c7 => ?_) (fun c7 => ?_)
      · refine sm_dflt (V g mX4_meant d 66 [(0, vr (some (gw g))), (1, vi a1), (2, vl a2)] [] σ τ Q) ?_ (fun f8 => ?_)
        · refine sm_b (l' := [(0, vr (some (gw g))), (1, vi a1), (2, vl a2)]) (st' := [vl (iL (iXor (iUsh (lI a2) 1) (-(iAnd (lI a2) 1))))]) (pc' := 77) [(.lload_n 2, vi 0, 67), (.l2i, vi 0, 68), (.iconst 1, vi 1, 69), (.iushr, vi 0, 70), (.lload_n 2, vi 0, 71), (.l2i, vi 0, 72), (.iconst 1, vi 1, 73), (.iand, vi 0, 74), (.ineg, vi 0, 75), (.ixor, vi 0, 76), (.i2l, vi 0, 77)] (by decide +kernel) rfl rfl ?_
          exact sm_lret rfl (by decide +kernel) (fun h => hRET _ h)
        exact sm_tcase (df := 93) (lo := 0) (hi := 8) (os := #[50, 93, 54, 93, 60, 72, 54, 93, 81]) (n := 50) (k := 4) (off := 60) (tgt := 66) (by decide +kernel) c7 f8
      · refine sm_if (fun c9 => ?_) (fun c9 => ?_)
        · refine sm_dflt (V g mX4_meant d 78 [(0, vr (some (gw g))), (1, vi a1), (2, vl a2)] [] σ τ Q) ?_ (fun f10 => ?_)
          · refine sm_b (l' := [(0, vr (some (gw g))), (1, vi a1), (2, vl a2)]) (st' := [vl ((lUsh a2 1) ^^^ (-(a2 &&& 1)))]) (pc' := 86) [(.lload_n 2, vi 0, 79), (.iconst 1, vi 1, 80), (.lushr, vi 0, 81), (.lload_n 2, vi 0, 82), (.lconst 1, vl 1, 83), (.land, vi 0, 84), (.lneg, vi 0, 85), (.lxor, vi 0, 86)] (by decide +kernel) rfl rfl ?_
            exact sm_lret rfl (by decide +kernel) (fun h => hRET _ h)
          exact sm_tcase (df := 93) (lo := 0) (hi := 8) (os := #[50, 93, 54, 93, 60, 72, 54, 93, 81]) (n := 50) (k := 5) (off := 72) (tgt := 78) (by decide +kernel) c9 f10
        · refine sm_if (fun c11 => ?_) (fun c11 => ?_)
          · refine sm_dflt (V g mX4_meant d 87 [(0, vr (some (gw g))), (1, vi a1), (2, vl a2)] [] σ τ Q) ?_ (fun f12 => ?_)
            · refine sm_b (l' := [(0, vr (some (gw g))), (1, vi a1), (2, vl a2)]) (st' := [vl 0, vl a2]) (pc' := 89) [(.lload_n 2, vi 0, 88), (.lconst 0, vl 0, 89)] (by decide +kernel) rfl rfl ?_
              refine sm_case (V g mX4_meant d 97 [(0, vr (some (gw g))), (1, vi a1), (2, vl a2)] [] σ τ Q) (V g mX4_meant d 93 [(0, vr (some (gw g))), (1, vi a1), (2, vl a2)] [] σ τ Q) ?_ ?_ (fun f15 p16 n17 => ?_)
              · refine sm_b (l' := [(0, vr (some (gw g))), (1, vi a1), (2, vl a2)]) (st' := [vl 0]) (pc' := 98) [(.lconst 0, vl 0, 98)] (by decide +kernel) rfl rfl ?_
                exact sm_lret rfl (by decide +kernel) (fun h => hRET _ h)
              · refine sm_b (l' := [(0, vr (some (gw g))), (1, vi a1), (2, vl a2)]) (st' := [vl 1]) (pc' := 98) [(.lconst 1, vl 1, 94), (.goto 4, vi 0, 98)] (by decide +kernel) rfl rfl ?_
                exact sm_lret rfl (by decide +kernel) (fun h => hRET _ h)
              refine sm_lc_eq (off := 7) (tgt := 97) (by decide +kernel) (by decide +kernel) (fun c18 => ?_) (fun c18 => ?_)
              · exact p16 c18
              · exact n17 c18
            exact sm_tcase (df := 93) (lo := 0) (hi := 8) (os := #[50, 93, 54, 93, 60, 72, 54, 93, 81]) (n := 50) (k := 8) (off := 81) (tgt := 87) (by decide +kernel) c11 f12
          · refine sm_dflt (V g mX4_meant d 99 [(0, vr (some (gw g))), (1, vi a1), (2, vl a2)] [] σ τ Q) ?_ (fun f25 => ?_)
            · refine sm_b (l' := [(0, vr (some (gw g))), (1, vi a1), (2, vl a2)]) (st' := [vr (some (gw g))]) (pc' := 100) [(.aload_n 0, vi 0, 100)] (by decide +kernel) rfl rfl ?_
              refine sm_tg (k := 28) (x := vr (some (gT g 28))) G.2.1 q1446 rfl rfl (by decide +kernel) ?_
              refine sm_b (l' := [(0, vr (some (gw g))), (1, vi a1), (2, vl a2)]) (st' := [vi a1, vr (some (gT g 28))]) (pc' := 104) [(.iload_n 1, vi 0, 104)] (by decide +kernel) rfl rfl ?_
              refine sm_ial (k := 28) G.2.1 (by decide) rfl (ibt (k := 28) h1) h1 (by decide +kernel) ?_
              refine sm_b (l' := [(0, vr (some (gw g))), (1, vi a1), (2, vl a2)]) (st' := [vi 32, vi (tA τ 28 a1.toNat)]) (pc' := 107) [(.bipush 32, vi 32, 107)] (by decide +kernel) rfl rfl ?_
              refine sm_case (V g mX4_meant d 116 [(0, vr (some (gw g))), (1, vi a1), (2, vl a2)] [] σ τ Q) (V g mX4_meant d 110 [(0, vr (some (gw g))), (1, vi a1), (2, vl a2)] [] σ τ Q) ?_ ?_ (fun f21 p22 n23 => ?_)
              · refine sm_b (l' := [(0, vr (some (gw g))), (1, vi a1), (2, vl a2)]) (st' := [vl a2]) (pc' := 117) [(.lload_n 2, vi 0, 117)] (by decide +kernel) rfl rfl ?_
                exact sm_lret rfl (by decide +kernel) (fun h => hRET _ h)
              · refine sm_b (l' := [(0, vr (some (gw g))), (1, vi a1), (2, vl a2)]) (st' := [vl (iL (lI a2))]) (pc' := 117) [(.lload_n 2, vi 0, 111), (.l2i, vi 0, 112), (.i2l, vi 0, 113), (.goto 4, vi 0, 117)] (by decide +kernel) rfl rfl ?_
                exact sm_lret rfl (by decide +kernel) (fun h => hRET _ h)
              refine sm_icmp_lt (off := 9) (tgt := 116) h2 (by decide) (by decide +kernel) (fun c24 => ?_) (fun c24 => ?_)
              · exact p22 c24
              · exact n23 c24
            by_cases c26 : (tA τ 28 a1.toNat) = 1
            · exact sm_tcase (df := 93) (lo := 0) (hi := 8) (os := #[50, 93, 54, 93, 60, 72, 54, 93, 81]) (n := 50) (k := 1) (off := 93) (tgt := 99) (by decide +kernel) c26 f25
            by_cases c27 : (tA τ 28 a1.toNat) = 3
            · exact sm_tcase (df := 93) (lo := 0) (hi := 8) (os := #[50, 93, 54, 93, 60, 72, 54, 93, 81]) (n := 50) (k := 3) (off := 93) (tgt := 99) (by decide +kernel) c27 f25
            by_cases c28 : (tA τ 28 a1.toNat) = 7
            · exact sm_tcase (df := 93) (lo := 0) (hi := 8) (os := #[50, 93, 54, 93, 60, 72, 54, 93, 81]) (n := 50) (k := 7) (off := 93) (tgt := 99) (by decide +kernel) c28 f25
            exact sm_tdef (df := 93) (lo := 0) (hi := 8) (os := #[50, 93, 54, 93, 60, 72, 54, 93, 81]) (n := 50) (tgt := 99) h2 (by decide +kernel) (by omega) f25
def m_putUnsignedb (rec : Int64 → TT → Option (TT)) (a1 : Int64) (τ : TT) : Option (TT) := Option.bind (if (a1 < 0) ∨ (¬ (a1 ≤ 9)) then (Option.bind (jl_divideUnsigned a1 10) fun y10 => Option.bind (rec y10 τ) fun y11 => some y11) else (some τ)) fun (v4 : TT) => Option.bind (jl_remainderUnsigned a1 10) fun y8 => Option.bind (m_put (48 + (lI y8)) v4) fun y9 => some y9
set_option maxHeartbeats 4000000 in
theorem m_putUnsignedb_ok {g : GE} (G : GG g) {D : Nat} (rec : Int64 → TT → Option (TT)) (hrec : ∀ (d : Nat), D ≤ d → ∀ {σ : ST} (a1 : Int64) (τ : TT) (Q' : VQ), Sm (V g mX4_putUnsigned d 0 [(0, vr (some (gw g))), (1, vl a1)] [] σ τ Q') (rec a1 τ) (fun r => Q'.1 none σ r)) {σ : ST} (d : Nat) (hd1 : D + 1 ≤ d) (hd2 : 1 ≤ d) (a1 : Int64)  (τ : TT) (Q : VQ) : Sm (V g mX4_putUnsigned d 0 [(0, vr (some (gw g))), (1, vl a1)] [] σ τ Q) (m_putUnsignedb rec a1 τ) (fun r => Q.1 none σ r) := by
  unfold m_putUnsignedb
  refine sm_top (fun K hRET => ?_)
  refine sm_b (l' := [(0, vr (some (gw g))), (1, vl a1)]) (st' := [vl 0, vl a1]) (pc' := 2) [(.lload_n 1, vi 0, 1), (.lconst 0, vl 0, 2)] (by decide +kernel) rfl rfl ?_
  refine sm_bind1 (fun (v4 : TT) => V g mX4_putUnsigned d 25 [(0, vr (some (gw g))), (1, vl a1)] [] σ v4 Q) (fun v4 => ?_) (fun K5 j6 => ?_)
  · refine sm_b (l' := [(0, vr (some (gw g))), (1, vl a1)]) (st' := [vl a1, vi 48, vr (some (gw g))]) (pc' := 29) [(.aload_n 0, vi 0, 26), (.bipush 48, vi 48, 28), (.lload_n 1, vi 0, 29)] (by decide +kernel) rfl rfl ?_
    refine sm_ldc2 (by decide +kernel) q1875 ?_
    refine sm_cs (N := mJ15_remainderUnsigned) (d' := d - 1) (fun r => (some (vl r))) (fun _ => σ) (fun _ => v4) [vl a1, vl 10] [vi 48, vr (some (gw g))] rfl (by decide +kernel) q1877 q1878 q161 (Or.inl ⟨rfl, q1879⟩) (show okN yJ15_remainderUnsigned 2 = true by decide +kernel) rfl rfl (by omega) rfl (fun Q' => jl_remainderUnsigned_ok G (d - 1) (by omega) a1 10 v4 Q') (fun y8 => ?_)
    refine sm_b (l' := [(0, vr (some (gw g))), (1, vl a1)]) (st' := [vi (48 + (lI y8)), vr (some (gw g))]) (pc' := 37) [(.l2i, vi 0, 36), (.iadd, vi 0, 37)] (by decide +kernel) rfl rfl ?_
    refine sm_cv (N := mX4_put) (d' := d - 1) (fun r => none) (fun _ => σ) (fun r => r) [vi (48 + (lI y8))] [] rfl (by decide +kernel) q1817 q1819 qs86 (Or.inl ⟨rfl, q1820⟩) (show okN yX4_put 1 = true by decide +kernel) (fun H hR => hR.rvw G.1 G.2.1) rfl rfl (by omega) rfl (fun Q' => m_put_ok G (d - 1) (by omega) (48 + (lI y8)) v4 Q') (fun y9 => ?_)
    exact sm_vret rfl (by decide +kernel) (fun h => hRET _ h)
  · refine sm_case (V g mX4_putUnsigned d 14 [(0, vr (some (gw g))), (1, vl a1)] [] σ τ Q) (V g mX4_putUnsigned d 25 [(0, vr (some (gw g))), (1, vl a1)] [] σ τ Q) ?_ ?_ (fun f12 p13 n14 => ?_)
    · refine sm_b (l' := [(0, vr (some (gw g))), (1, vl a1)]) (st' := [vl a1, vr (some (gw g))]) (pc' := 16) [(.aload_n 0, vi 0, 15), (.lload_n 1, vi 0, 16)] (by decide +kernel) rfl rfl ?_
      refine sm_ldc2 (by decide +kernel) q1875 ?_
      refine sm_cs (N := mJ15_divideUnsigned) (d' := d - 1) (fun r => (some (vl r))) (fun _ => σ) (fun _ => τ) [vl a1, vl 10] [vr (some (gw g))] rfl (by decide +kernel) q1876 q1148 q161 (Or.inl ⟨rfl, q1149⟩) (show okN yJ15_divideUnsigned 2 = true by decide +kernel) rfl rfl (by omega) rfl (fun Q' => jl_divideUnsigned_ok G (d - 1) (by omega) a1 10 τ Q') (fun y10 => ?_)
      refine sm_cv (N := mX4_putUnsigned) (d' := d - 1) (fun r => none) (fun _ => σ) (fun r => r) [vl y10] [] rfl (by decide +kernel) q1870 q1872 qs98 (Or.inl ⟨rfl, q1873⟩) (show okN yX4_putUnsigned 1 = true by decide +kernel) (fun H hR => hR.rvw G.1 G.2.1) rfl rfl (by omega) rfl (fun Q' => hrec (d - 1) (by omega) y10 τ Q') (fun y11 => ?_)
      exact sm_leaf (fun h => j6 _ h)
    · exact sm_leaf (fun h => j6 _ h)
    refine sm_lc_lt (off := 11) (tgt := 14) (by decide +kernel) (by decide +kernel) (fun c15 => ?_) (fun c15 => ?_)
    · exact p13 (Or.inl c15)
    · refine sm_b (l' := [(0, vr (some (gw g))), (1, vl a1)]) (st' := [vl a1]) (pc' := 7) [(.lload_n 1, vi 0, 7)] (by decide +kernel) rfl rfl ?_
      refine sm_ldc2 (by decide +kernel) q1874 ?_
      refine sm_lc_le (off := 14) (tgt := 25) (by decide +kernel) (by decide +kernel) (fun c16 => ?_) (fun c16 => ?_)
      · exact n14 (fun q => q.elim c15 (fun q => q c16))
      · exact p13 (Or.inr c16)
def m_putUnsigned : Nat → Int64 → TT → Option (TT)
  | 0 => fun _ _ => none
  | n + 1 => fun a1 τ => m_putUnsignedb (m_putUnsigned n) a1 τ
set_option maxHeartbeats 4000000 in
theorem m_putUnsigned_ok {g : GE} (G : GG g) (n : Nat) : ∀ (d : Nat), 1 + 1 * n ≤ d → ∀ {σ : ST} (a1 : Int64) (τ : TT) (Q : VQ), Sm (V g mX4_putUnsigned d 0 [(0, vr (some (gw g))), (1, vl a1)] [] σ τ Q) (m_putUnsigned n a1 τ) (fun r => Q.1 none σ r) := by
  induction n with
  | zero => intro d hd σ a1 τ Q; exact sm_none
  | succ n ih =>
    intro d hd σ a1 τ Q
    exact m_putUnsignedb_ok G (D := 1 + 1 * n) (m_putUnsigned n) ih d (by omega) (by omega) a1 τ Q
def m_putSigned (a1 : Int64) (τ : TT) : Option (TT) := Option.bind (if 0 ≤ a1 then (some τ) else (Option.bind (m_put 45 τ) fun y17 => some y17)) fun (v2 : TT) => Option.bind (if 0 ≤ a1 then (some a1) else (some ((-a1)))) fun (v8 : Int64) => Option.bind (m_putUnsigned 24 v8 v2) fun y12 => some y12
set_option maxHeartbeats 4000000 in
theorem m_putSigned_ok {g : GE} (G : GG g) {σ : ST} (d : Nat) (hd1 : 26 ≤ d) (a1 : Int64)  (τ : TT) (Q : VQ) : Sm (V g mX4_putSigned d 0 [(0, vr (some (gw g))), (1, vl a1)] [] σ τ Q) (m_putSigned a1 τ) (fun r => Q.1 none σ r) := by
  unfold m_putSigned
  refine sm_top (fun K hRET => ?_)
  refine sm_b (l' := [(0, vr (some (gw g))), (1, vl a1)]) (st' := [vl 0, vl a1]) (pc' := 2) [(.lload_n 1, vi 0, 1), (.lconst 0, vl 0, 2)] (by decide +kernel) rfl rfl ?_
  refine sm_bind1 (fun (v2 : TT) => V g mX4_putSigned d 12 [(0, vr (some (gw g))), (1, vl a1)] [] σ v2 Q) (fun v2 => ?_) (fun K3 j4 => ?_)
  · refine sm_b (l' := [(0, vr (some (gw g))), (1, vl a1)]) (st' := [vl 0, vl a1, vr (some (gw g))]) (pc' := 15) [(.aload_n 0, vi 0, 13), (.lload_n 1, vi 0, 14), (.lconst 0, vl 0, 15)] (by decide +kernel) rfl rfl ?_
    refine sm_bind1 (fun (v8 : Int64) => V g mX4_putSigned d 25 [] [vl v8, vr (some (gw g))] σ v2 Q) (fun v8 => ?_) (fun K9 j10 => ?_)
    · refine sm_cv (N := mX4_putUnsigned) (d' := d - 1) (fun r => none) (fun _ => σ) (fun r => r) [vl v8] [] rfl (by decide +kernel) q1870 q1872 qs98 (Or.inl ⟨rfl, q1873⟩) (show okN yX4_putUnsigned 1 = true by decide +kernel) (fun H hR => hR.rvw G.1 G.2.1) rfl rfl (by omega) rfl (fun Q' => m_putUnsigned_ok G 24 (d - 1) (by omega) v8 v2 Q') (fun y12 => ?_)
      exact sm_vret rfl (by decide +kernel) (fun h => hRET _ h)
    · refine sm_case (V g mX4_putSigned d 24 [(0, vr (some (gw g))), (1, vl a1)] [vr (some (gw g))] σ v2 Q) (V g mX4_putSigned d 19 [(0, vr (some (gw g))), (1, vl a1)] [vr (some (gw g))] σ v2 Q) ?_ ?_ (fun f13 p14 n15 => ?_)
      · refine sm_b (l' := [(0, vr (some (gw g))), (1, vl a1)]) (st' := [vl a1, vr (some (gw g))]) (pc' := 25) [(.lload_n 1, vi 0, 25)] (by decide +kernel) rfl rfl ?_
        refine sm_pick [] (l' := []) rfl ?_
        exact sm_leaf (fun h => j10 _ h)
      · refine sm_b (l' := [(0, vr (some (gw g))), (1, vl a1)]) (st' := [vl (-a1), vr (some (gw g))]) (pc' := 25) [(.lload_n 1, vi 0, 20), (.lneg, vi 0, 21), (.goto 4, vi 0, 25)] (by decide +kernel) rfl rfl ?_
        refine sm_pick [] (l' := []) rfl ?_
        exact sm_leaf (fun h => j10 _ h)
      refine sm_lc_ge (off := 8) (tgt := 24) (by decide +kernel) (by decide +kernel) (fun c16 => ?_) (fun c16 => ?_)
      · exact p14 c16
      · exact n15 c16
  · refine sm_case (V g mX4_putSigned d 12 [(0, vr (some (gw g))), (1, vl a1)] [] σ τ Q) (V g mX4_putSigned d 6 [(0, vr (some (gw g))), (1, vl a1)] [] σ τ Q) ?_ ?_ (fun f18 p19 n20 => ?_)
    · exact sm_leaf (fun h => j4 _ h)
    · refine sm_b (l' := [(0, vr (some (gw g))), (1, vl a1)]) (st' := [vi 45, vr (some (gw g))]) (pc' := 9) [(.aload_n 0, vi 0, 7), (.bipush 45, vi 45, 9)] (by decide +kernel) rfl rfl ?_
      refine sm_cv (N := mX4_put) (d' := d - 1) (fun r => none) (fun _ => σ) (fun r => r) [vi 45] [] rfl (by decide +kernel) q1817 q1819 qs86 (Or.inl ⟨rfl, q1820⟩) (show okN yX4_put 1 = true by decide +kernel) (fun H hR => hR.rvw G.1 G.2.1) rfl rfl (by omega) rfl (fun Q' => m_put_ok G (d - 1) (by omega) 45 τ Q') (fun y17 => ?_)
      exact sm_leaf (fun h => j4 _ h)
    refine sm_lc_ge (off := 9) (tgt := 12) (by decide +kernel) (by decide +kernel) (fun c21 => ?_) (fun c21 => ?_)
    · exact p19 c21
    · exact n20 c21
