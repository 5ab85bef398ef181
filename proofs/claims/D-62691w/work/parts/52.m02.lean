set_option maxRecDepth 100000
/-! the reference: X4_readReserved, X4_readMessage, X4_readSchema, X4_same -/
def m_readReserved_L10 (u1 : Int) : Nat → TT → Option ((TT) ⊕ (TT))
  | 0, _ => none
  | n + 1, τ => Option.bind (m_number τ) fun y8 => Option.bind (gd (rg (tI y8.2 14)) (gd ((tI y8.2 14) = 0 → rg (tI y8.2 40)) (if ((tI y8.2 14) = 0) ∧ (¬ ((tI y8.2 40) = 30)) then (some 0) else (some 1)))) fun (v14 : Int) => gd (zb v14) (nm (uI y8.2 14 v14) fun τ19 => gd (rg (tI τ19 14)) (if (tI τ19 14) = 0 then (gd (ib (tI τ19 40) 30) (nm (uA τ19 33 (tI τ19 40).toNat y8.1) fun τ24 => gd (ib (tI τ24 40) 30) (nm (uA τ24 34 (tI τ24 40).toNat u1) fun τ26 => nm (uI τ26 40 ((tI τ26 40) + 1)) fun τ27 => Option.bind (m_takes 20 τ27) fun y28 => gd (rg y28.1) (if y28.1 = 0 then (some (Sum.inr y28.2)) else (m_readReserved_L10 u1 n y28.2))))) else (some (Sum.inl τ19))))
def m_readReserved (a1 : Int) (τ : TT) : Option (TT) := nm (uI τ 13 ((tI τ 13) + 1)) fun τ1 => Option.bind (m_readReserved_L10 a1 FU τ1) (Sum.elim some fun (v2 : TT) => Option.bind (m_sign 12 v2) fun y6 => some y6)
set_option maxHeartbeats 4000000 in
theorem m_readReserved_L10_ok {g : GE} (G : GG g) {σ : ST} {Q : VQ} (d : Nat) (hd1 : 8 ≤ d) (u1 : Int)  {K : (TT) ⊕ (TT) → Prop} (hRET : ∀ r : TT, K (Sum.inl r) → Q.1 none σ r) (hE87 : ∀ v7 : TT, K (Sum.inr v7) → V g mX4_readReserved d 87 [(0, vr (some (gw g)))] [] σ v7 Q) : ∀ (n : Nat) (τ : TT), Sm (V g mX4_readReserved d 10 [(0, vr (some (gw g))), (1, vi u1)] [] σ τ Q) (m_readReserved_L10 u1 n τ) K := by
  intro n
  induction n with
  | zero => intro τ; exact sm_none
  | succ n ih =>
    intro τ
    rw [m_readReserved_L10.eq_2]
    refine sm_b (l' := [(0, vr (some (gw g))), (1, vi u1)]) (st' := [vr (some (gw g))]) (pc' := 11) [(.aload_n 0, vi 0, 11)] (by decide +kernel) rfl rfl ?_
    refine sm_cv (N := mX4_number) (d' := d - 1) (fun r => (some (vi r.1))) (fun _ => σ) (fun r => r.2) [] [] rfl (by decide +kernel) q1672 q1674 qs58 (Or.inl ⟨rfl, q1675⟩) (show okN yX4_number 0 = true by decide +kernel) (fun H hR => hR.rvw G.1 G.2.1) rfl rfl (by omega) rfl (fun Q' => m_number_ok G (d - 1) (by omega)  τ Q') (fun y8 => ?_)
    refine sm_b (l' := [(0, vr (some (gw g))), (1, vi u1), (2, vi y8.1)]) (st' := [vr (some (gw g)), vr (some (gw g))]) (pc' := 17) [(.istore_n 2, vi 0, 15), (.aload_n 0, vi 0, 16), (.aload_n 0, vi 0, 17)] (by decide +kernel) rfl rfl ?_
    refine sm_tg (k := 14) (x := vi (tI y8.2 14)) G.2.1 q1432 rfl rfl (by decide +kernel) ?_
    refine sm_bind1 (fun (v14 : Int) => V g mX4_readReserved d 37 [(0, vr (some (gw g))), (1, vi u1), (2, vi y8.1)] [vi v14, vr (some (gw g))] σ y8.2 Q) (fun v14 => ?_) (fun K15 j16 => ?_)
    · refine sm_gd (fun h18 => ?_)
      refine sm_tpz (k := 14) G.2.1 q1432 rfl rfl rfl (tp_14 g y8.2 v14) h18 (by decide +kernel) ?_
      refine sm_nmt (fun τ19 => ?_)
      refine sm_b (l' := [(0, vr (some (gw g))), (1, vi u1), (2, vi y8.1)]) (st' := [vr (some (gw g))]) (pc' := 41) [(.aload_n 0, vi 0, 41)] (by decide +kernel) rfl rfl ?_
      refine sm_tg (k := 14) (x := vi (tI τ19 14)) G.2.1 q1432 rfl rfl (by decide +kernel) ?_
      refine sm_gd (fun h20 => ?_)
      refine sm_case (V g mX4_readReserved d 48 [(0, vr (some (gw g))), (1, vi u1), (2, vi y8.1)] [] σ τ19 Q) (V g mX4_readReserved d 47 [(0, vr (some (gw g))), (1, vi u1), (2, vi y8.1)] [] σ τ19 Q) ?_ ?_ (fun f34 p35 n36 => ?_)
      · refine sm_b (l' := [(0, vr (some (gw g))), (1, vi u1), (2, vi y8.1)]) (st' := [vr (some (gw g))]) (pc' := 49) [(.aload_n 0, vi 0, 49)] (by decide +kernel) rfl rfl ?_
        refine sm_tg (k := 33) (x := vr (some (gT g 33))) G.2.1 q1451 rfl rfl (by decide +kernel) ?_
        refine sm_b (l' := [(0, vr (some (gw g))), (1, vi u1), (2, vi y8.1)]) (st' := [vr (some (gw g)), vr (some (gT g 33))]) (pc' := 53) [(.aload_n 0, vi 0, 53)] (by decide +kernel) rfl rfl ?_
        refine sm_tg (k := 40) (x := vi (tI τ19 40)) G.2.1 q1458 rfl rfl (by decide +kernel) ?_
        refine sm_b (l' := [(0, vr (some (gw g))), (1, vi u1), (2, vi y8.1)]) (st' := [vi y8.1, vi (tI τ19 40), vr (some (gT g 33))]) (pc' := 57) [(.iload_n 2, vi 0, 57)] (by decide +kernel) rfl rfl ?_
        refine sm_gd (fun h23 => ?_)
        refine sm_ias (k := 33) G.2.1 (by decide) rfl (ibt (k := 33) h23) h23 (by decide +kernel) ?_
        refine sm_nmt (fun τ24 => ?_)
        refine sm_b (l' := [(0, vr (some (gw g))), (1, vi u1), (2, vi y8.1)]) (st' := [vr (some (gw g))]) (pc' := 59) [(.aload_n 0, vi 0, 59)] (by decide +kernel) rfl rfl ?_
        refine sm_tg (k := 34) (x := vr (some (gT g 34))) G.2.1 q1452 rfl rfl (by decide +kernel) ?_
        refine sm_b (l' := [(0, vr (some (gw g))), (1, vi u1), (2, vi y8.1)]) (st' := [vr (some (gw g)), vr (some (gT g 34))]) (pc' := 63) [(.aload_n 0, vi 0, 63)] (by decide +kernel) rfl rfl ?_
        refine sm_tg (k := 40) (x := vi (tI τ24 40)) G.2.1 q1458 rfl rfl (by decide +kernel) ?_
        refine sm_b (l' := [(0, vr (some (gw g))), (1, vi u1), (2, vi y8.1)]) (st' := [vi u1, vi (tI τ24 40), vr (some (gT g 34))]) (pc' := 67) [(.iload_n 1, vi 0, 67)] (by decide +kernel) rfl rfl ?_
        refine sm_gd (fun h25 => ?_)
        refine sm_ias (k := 34) G.2.1 (by decide) rfl (ibt (k := 34) h25) h25 (by decide +kernel) ?_
        refine sm_nmt (fun τ26 => ?_)
        refine sm_b (l' := [(0, vr (some (gw g))), (1, vi u1), (2, vi y8.1)]) (st' := [vr (some (gw g)), vr (some (gw g))]) (pc' := 70) [(.aload_n 0, vi 0, 69), (.dup, vi 0, 70)] (by decide +kernel) rfl rfl ?_
        refine sm_tg (k := 40) (x := vi (tI τ26 40)) G.2.1 q1458 rfl rfl (by decide +kernel) ?_
        refine sm_b (l' := [(0, vr (some (gw g))), (1, vi u1), (2, vi y8.1)]) (st' := [vi ((tI τ26 40) + 1), vr (some (gw g))]) (pc' := 75) [(.iconst 1, vi 1, 74), (.iadd, vi 0, 75)] (by decide +kernel) rfl rfl ?_
        refine sm_tpi (k := 40) G.2.1 q1458 rfl rfl rfl (tp_40 g τ26 ((tI τ26 40) + 1)) (by decide +kernel) ?_
        refine sm_nmt (fun τ27 => ?_)
        refine sm_b (l' := [(0, vr (some (gw g))), (1, vi u1), (2, vi y8.1)]) (st' := [vr (some (gw g))]) (pc' := 79) [(.aload_n 0, vi 0, 79)] (by decide +kernel) rfl rfl ?_
        refine sm_str (k := 20) G rfl (by decide +kernel) ?_
        refine sm_cv (N := mX4_takes) (d' := d - 1) (fun r => (some (vi r.1))) (fun _ => σ) (fun r => r.2) [vr (some (gK g 20))] [] rfl (by decide +kernel) q1634 q1636 qs51 (Or.inl ⟨rfl, q1637⟩) (show okN yX4_takes 1 = true by decide +kernel) (fun H hR => hR.rvw G.1 G.2.1) rfl rfl (by omega) rfl (fun Q' => m_takes_ok G (d - 1) (by omega) 20 τ27 Q') (fun y28 => ?_)
        refine sm_gd (fun h29 => ?_)
        refine sm_case (V g mX4_readReserved d 87 [(0, vr (some (gw g))), (1, vi u1), (2, vi y8.1)] [] σ y28.2 Q) (V g mX4_readReserved d 10 [(0, vr (some (gw g))), (1, vi u1), (2, vi y8.1)] [] σ y28.2 Q) ?_ ?_ (fun f30 p31 n32 => ?_)
        · refine sm_pick [0] (l' := [(0, vr (some (gw g)))]) rfl ?_
          exact sm_leaf (fun h => hE87 _ h)
        · refine sm_pick [0, 1] (l' := [(0, vr (some (gw g))), (1, vi u1)]) rfl ?_
          exact ih y28.2
        refine sm_if_ne (off := (-74)) (tgt := 10) h29 (by decide +kernel) (fun c33 => ?_) (fun c33 => ?_)
        · exact n32 c33
        · exact p31 c33
      · exact sm_vret rfl (by decide +kernel) (fun h => hRET _ h)
      refine sm_if_eq (off := 4) (tgt := 48) h20 (by decide +kernel) (fun c37 => ?_) (fun c37 => ?_)
      · exact p35 c37
      · exact n36 c37
    · refine sm_gd (fun h9 => ?_)
      refine sm_gd (fun h11 => ?_)
      refine sm_case (V g mX4_readReserved d 36 [(0, vr (some (gw g))), (1, vi u1), (2, vi y8.1)] [vr (some (gw g))] σ y8.2 Q) (V g mX4_readReserved d 32 [(0, vr (some (gw g))), (1, vi u1), (2, vi y8.1)] [vr (some (gw g))] σ y8.2 Q) ?_ ?_ (fun f38 p39 n40 => ?_)
      · refine sm_b (l' := [(0, vr (some (gw g))), (1, vi u1), (2, vi y8.1)]) (st' := [vi 0, vr (some (gw g))]) (pc' := 37) [(.iconst 0, vi 0, 37)] (by decide +kernel) rfl rfl ?_
        exact sm_leaf (fun h => j16 _ h)
      · refine sm_b (l' := [(0, vr (some (gw g))), (1, vi u1), (2, vi y8.1)]) (st' := [vi 1, vr (some (gw g))]) (pc' := 37) [(.iconst 1, vi 1, 33), (.goto 4, vi 0, 37)] (by decide +kernel) rfl rfl ?_
        exact sm_leaf (fun h => j16 _ h)
      refine sm_if_ne (off := 12) (tgt := 32) h9 (by decide +kernel) (fun c41 => ?_) (fun c41 => ?_)
      · exact n40 (fun q => c41 q.1)
      · have w10 : (tI y8.2 14) = 0 := c41
        refine sm_b (l' := [(0, vr (some (gw g))), (1, vi u1), (2, vi y8.1)]) (st' := [vr (some (gw g)), vr (some (gw g))]) (pc' := 24) [(.aload_n 0, vi 0, 24)] (by decide +kernel) rfl rfl ?_
        refine sm_tg (k := 40) (x := vi (tI y8.2 40)) G.2.1 q1458 rfl rfl (by decide +kernel) ?_
        refine sm_b (l' := [(0, vr (some (gw g))), (1, vi u1), (2, vi y8.1)]) (st' := [vi 30, vi (tI y8.2 40), vr (some (gw g))]) (pc' := 29) [(.bipush 30, vi 30, 29)] (by decide +kernel) rfl rfl ?_
        refine sm_icmp_ne (off := 7) (tgt := 36) (h11 w10) (by decide) (by decide +kernel) (fun c42 => ?_) (fun c42 => ?_)
        · exact p39 ⟨c41, c42⟩
        · exact n40 (fun q => (fun q => q c42) q.2)
set_option maxHeartbeats 4000000 in
theorem m_readReserved_ok {g : GE} (G : GG g) {σ : ST} (d : Nat) (hd1 : 8 ≤ d) (a1 : Int)  (τ : TT) (Q : VQ) : Sm (V g mX4_readReserved d 0 [(0, vr (some (gw g))), (1, vi a1)] [] σ τ Q) (m_readReserved a1 τ) (fun r => Q.1 none σ r) := by
  unfold m_readReserved
  refine sm_top (fun K hRET => ?_)
  refine sm_b (l' := [(0, vr (some (gw g))), (1, vi a1)]) (st' := [vr (some (gw g)), vr (some (gw g))]) (pc' := 2) [(.aload_n 0, vi 0, 1), (.dup, vi 0, 2)] (by decide +kernel) rfl rfl ?_
  refine sm_tg (k := 13) (x := vi (tI τ 13)) G.2.1 q1431 rfl rfl (by decide +kernel) ?_
  refine sm_b (l' := [(0, vr (some (gw g))), (1, vi a1)]) (st' := [vi ((tI τ 13) + 1), vr (some (gw g))]) (pc' := 7) [(.iconst 1, vi 1, 6), (.iadd, vi 0, 7)] (by decide +kernel) rfl rfl ?_
  refine sm_tpi (k := 13) G.2.1 q1431 rfl rfl rfl (tp_13 g τ ((tI τ 13) + 1)) (by decide +kernel) ?_
  refine sm_nmt (fun τ1 => ?_)
  refine sm_bindS (fun (v2 : TT) => V g mX4_readReserved d 87 [(0, vr (some (gw g)))] [] σ v2 Q) (fun v2 => ?_) (fun K3 o5 j4 => ?_)
  · refine sm_b (l' := [(0, vr (some (gw g)))]) (st' := [vr (some (gw g))]) (pc' := 88) [(.aload_n 0, vi 0, 88)] (by decide +kernel) rfl rfl ?_
    refine sm_str (k := 12) G rfl (by decide +kernel) ?_
    refine sm_cv (N := mX4_sign) (d' := d - 1) (fun r => none) (fun _ => σ) (fun r => r) [vr (some (gK g 12))] [] rfl (by decide +kernel) q1645 q1647 qs53 (Or.inl ⟨rfl, q1648⟩) (show okN yX4_sign 1 = true by decide +kernel) (fun H hR => hR.rvw G.1 G.2.1) rfl rfl (by omega) rfl (fun Q' => m_sign_ok G (d - 1) (by omega) 12 v2 Q') (fun y6 => ?_)
    exact sm_vret rfl (by decide +kernel) (fun h => hRET _ h)
  · exact m_readReserved_L10_ok G d hd1 a1  (fun r h => hRET _ (o5 _ h)) (fun _ h => j4 _ h) FU τ1
def m_readMessage_L88 (rec : Int → Int → TT → Option (TT)) (u2 : Int) (u3 : Int) : Nat → TT → Option (TT)
  | 0, _ => none
  | n + 1, τ => gd (rg (tI τ 14)) (if (tI τ 14) = 0 then (Option.bind (m_takes 15 τ) fun y27 => gd (rg y27.1) (if y27.1 = 0 then (Option.bind (m_looks 13 y27.2) fun y32 => gd (rg y32) (if y32 = 0 then (Option.bind (m_looks 16 y27.2) fun y38 => gd (rg y38) (if y38 = 0 then (Option.bind (m_looks 17 y27.2) fun y44 => gd (rg y44) (if y44 = 0 then (Option.bind (m_looks 19 y27.2) fun y50 => gd (rg y50) (if y50 = 0 then (Option.bind (m_looks 21 y27.2) fun y55 => Option.bind (m_looks 22 y27.2) fun y56 => Option.bind (gd (rg y55) (gd (y55 = 0 → rg y56) (if (y55 = 0) ∧ (y56 = 0) then (some y27.2) else (nm (uI y27.2 13 ((tI y27.2 13) + 1)) fun τ66 => some τ66)))) fun (v61 : TT) => Option.bind (m_readField u3 ((-1)) y55 y56 v61) fun y65 => m_readMessage_L88 rec u2 u3 n y65) else (Option.bind (m_readReserved u3 y27.2) fun y72 => m_readMessage_L88 rec u2 u3 n y72))) else (Option.bind (m_readOneof u3 y27.2) fun y77 => m_readMessage_L88 rec u2 u3 n y77))) else (Option.bind (m_readEnum u3 y27.2) fun y82 => m_readMessage_L88 rec u2 u3 n y82))) else (Option.bind (rec u3 (u2 + 1) y27.2) fun y87 => m_readMessage_L88 rec u2 u3 n y87))) else (some y27.2))) else (some τ))
def m_readMessageb (rec : Int → Int → TT → Option (TT)) (a1 : Int) (a2 : Int) (τ : TT) : Option (TT) := nm (uI τ 13 ((tI τ 13) + 1)) fun τ1 => nm (tI τ1 35) fun x2 => Option.bind (gd (rg (tI τ1 14)) (gd ((tI τ1 14) = 0 → rg x2) (gd (((tI τ1 14) = 0) ∧ (¬ (x2 = 10)) → rg a2) (if (((tI τ1 14) = 0) ∧ (¬ (x2 = 10))) ∧ (a2 ≤ 6) then (some 0) else (some 1))))) fun (v10 : Int) => gd (zb v10) (nm (uI τ1 14 v10) fun τ15 => Option.bind (m_word τ15) fun y16 => gd (rg (tI y16.2 14)) (if (tI y16.2 14) = 0 then (nm (uI y16.2 35 ((tI y16.2 35) + 1)) fun τ20 => gd (ib x2 10) (nm (uA τ20 15 x2.toNat y16.1) fun τ22 => nm (uA τ22 16 x2.toNat a1) fun τ23 => Option.bind (m_sign 14 τ23) fun y24 => m_readMessage_L88 rec a2 x2 FU y24)) else (some y16.2)))
set_option maxHeartbeats 4000000 in
theorem m_readMessage_L88_ok {g : GE} (G : GG g) {D : Nat} (rec : Int → Int → TT → Option (TT)) (hrec : ∀ (d : Nat), D ≤ d → ∀ {σ : ST} (a1 : Int) (a2 : Int) (τ : TT) (Q' : VQ), Sm (V g mX4_readMessage d 0 [(0, vr (some (gw g))), (1, vi a1), (2, vi a2)] [] σ τ Q') (rec a1 a2 τ) (fun r => Q'.1 none σ r)) {σ : ST} {Q : VQ} (d : Nat) (hd1 : D + 1 ≤ d) (hd2 : 10 ≤ d) (u2 : Int) (u3 : Int)  {K : TT → Prop} (hRET : ∀ r : TT, K (r) → Q.1 none σ r) : ∀ (n : Nat) (τ : TT), Sm (V g mX4_readMessage d 88 [(0, vr (some (gw g))), (2, vi u2), (3, vi u3)] [] σ τ Q) (m_readMessage_L88 rec u2 u3 n τ) K := by
  intro n
  induction n with
  | zero => intro τ; exact sm_none
  | succ n ih =>
    intro τ
    rw [m_readMessage_L88.eq_2]
    refine sm_b (l' := [(0, vr (some (gw g))), (2, vi u2), (3, vi u3)]) (st' := [vr (some (gw g))]) (pc' := 89) [(.aload_n 0, vi 0, 89)] (by decide +kernel) rfl rfl ?_
    refine sm_tg (k := 14) (x := vi (tI τ 14)) G.2.1 q1432 rfl rfl (by decide +kernel) ?_
    refine sm_gd (fun h25 => ?_)
    refine sm_case (V g mX4_readMessage d 95 [(0, vr (some (gw g))), (2, vi u2), (3, vi u3)] [] σ τ Q) (V g mX4_readMessage d 224 [(0, vr (some (gw g))), (2, vi u2), (3, vi u3)] [] σ τ Q) ?_ ?_ (fun f96 p97 n98 => ?_)
    · refine sm_b (l' := [(0, vr (some (gw g))), (2, vi u2), (3, vi u3)]) (st' := [vr (some (gw g))]) (pc' := 96) [(.aload_n 0, vi 0, 96)] (by decide +kernel) rfl rfl ?_
      refine sm_str (k := 15) G rfl (by decide +kernel) ?_
      refine sm_cv (N := mX4_takes) (d' := d - 1) (fun r => (some (vi r.1))) (fun _ => σ) (fun r => r.2) [vr (some (gK g 15))] [] rfl (by decide +kernel) q1634 q1636 qs51 (Or.inl ⟨rfl, q1637⟩) (show okN yX4_takes 1 = true by decide +kernel) (fun H hR => hR.rvw G.1 G.2.1) rfl rfl (by omega) rfl (fun Q' => m_takes_ok G (d - 1) (by omega) 15 τ Q') (fun y27 => ?_)
      refine sm_gd (fun h28 => ?_)
      refine sm_case (V g mX4_readMessage d 104 [(0, vr (some (gw g))), (2, vi u2), (3, vi u3)] [] σ y27.2 Q) (V g mX4_readMessage d 224 [(0, vr (some (gw g))), (2, vi u2), (3, vi u3)] [] σ y27.2 Q) ?_ ?_ (fun f92 p93 n94 => ?_)
      · refine sm_b (l' := [(0, vr (some (gw g))), (2, vi u2), (3, vi u3)]) (st' := [vr (some (gw g))]) (pc' := 105) [(.aload_n 0, vi 0, 105)] (by decide +kernel) rfl rfl ?_
        refine sm_str (k := 13) G rfl (by decide +kernel) ?_
        refine sm_cv (N := mX4_looks) (d' := d - 1) (fun r => (some (vi r))) (fun _ => σ) (fun _ => y27.2) [vr (some (gK g 13))] [] rfl (by decide +kernel) q1653 q1655 qs54 (Or.inl ⟨rfl, q1656⟩) (show okN yX4_looks 1 = true by decide +kernel) (fun H hR => hR.rvw G.1 G.2.1) rfl rfl (by omega) rfl (fun Q' => m_looks_ok G (d - 1) (by omega) 13 y27.2 Q') (fun y32 => ?_)
        refine sm_gd (fun h33 => ?_)
        refine sm_case (V g mX4_readMessage d 124 [(0, vr (some (gw g))), (2, vi u2), (3, vi u3)] [] σ y27.2 Q) (V g mX4_readMessage d 113 [(0, vr (some (gw g))), (2, vi u2), (3, vi u3)] [] σ y27.2 Q) ?_ ?_ (fun f88 p89 n90 => ?_)
        · refine sm_b (l' := [(0, vr (some (gw g))), (2, vi u2), (3, vi u3)]) (st' := [vr (some (gw g))]) (pc' := 125) [(.aload_n 0, vi 0, 125)] (by decide +kernel) rfl rfl ?_
          refine sm_str (k := 16) G rfl (by decide +kernel) ?_
          refine sm_cv (N := mX4_looks) (d' := d - 1) (fun r => (some (vi r))) (fun _ => σ) (fun _ => y27.2) [vr (some (gK g 16))] [] rfl (by decide +kernel) q1653 q1655 qs54 (Or.inl ⟨rfl, q1656⟩) (show okN yX4_looks 1 = true by decide +kernel) (fun H hR => hR.rvw G.1 G.2.1) rfl rfl (by omega) rfl (fun Q' => m_looks_ok G (d - 1) (by omega) 16 y27.2 Q') (fun y38 => ?_)
          refine sm_gd (fun h39 => ?_)
          refine sm_case (V g mX4_readMessage d 141 [(0, vr (some (gw g))), (2, vi u2), (3, vi u3)] [] σ y27.2 Q) (V g mX4_readMessage d 133 [(0, vr (some (gw g))), (2, vi u2), (3, vi u3)] [] σ y27.2 Q) ?_ ?_ (fun f83 p84 n85 => ?_)
          · refine sm_b (l' := [(0, vr (some (gw g))), (2, vi u2), (3, vi u3)]) (st' := [vr (some (gw g))]) (pc' := 142) [(.aload_n 0, vi 0, 142)] (by decide +kernel) rfl rfl ?_
            refine sm_str (k := 17) G rfl (by decide +kernel) ?_
            refine sm_cv (N := mX4_looks) (d' := d - 1) (fun r => (some (vi r))) (fun _ => σ) (fun _ => y27.2) [vr (some (gK g 17))] [] rfl (by decide +kernel) q1653 q1655 qs54 (Or.inl ⟨rfl, q1656⟩) (show okN yX4_looks 1 = true by decide +kernel) (fun H hR => hR.rvw G.1 G.2.1) rfl rfl (by omega) rfl (fun Q' => m_looks_ok G (d - 1) (by omega) 17 y27.2 Q') (fun y44 => ?_)
            refine sm_gd (fun h45 => ?_)
            refine sm_case (V g mX4_readMessage d 158 [(0, vr (some (gw g))), (2, vi u2), (3, vi u3)] [] σ y27.2 Q) (V g mX4_readMessage d 150 [(0, vr (some (gw g))), (2, vi u2), (3, vi u3)] [] σ y27.2 Q) ?_ ?_ (fun f78 p79 n80 => ?_)
            · refine sm_b (l' := [(0, vr (some (gw g))), (2, vi u2), (3, vi u3)]) (st' := [vr (some (gw g))]) (pc' := 159) [(.aload_n 0, vi 0, 159)] (by decide +kernel) rfl rfl ?_
              refine sm_str (k := 19) G rfl (by decide +kernel) ?_
              refine sm_cv (N := mX4_looks) (d' := d - 1) (fun r => (some (vi r))) (fun _ => σ) (fun _ => y27.2) [vr (some (gK g 19))] [] rfl (by decide +kernel) q1653 q1655 qs54 (Or.inl ⟨rfl, q1656⟩) (show okN yX4_looks 1 = true by decide +kernel) (fun H hR => hR.rvw G.1 G.2.1) rfl rfl (by omega) rfl (fun Q' => m_looks_ok G (d - 1) (by omega) 19 y27.2 Q') (fun y50 => ?_)
              refine sm_gd (fun h51 => ?_)
              refine sm_case (V g mX4_readMessage d 175 [(0, vr (some (gw g))), (2, vi u2), (3, vi u3)] [] σ y27.2 Q) (V g mX4_readMessage d 167 [(0, vr (some (gw g))), (2, vi u2), (3, vi u3)] [] σ y27.2 Q) ?_ ?_ (fun f73 p74 n75 => ?_)
              · refine sm_b (l' := [(0, vr (some (gw g))), (2, vi u2), (3, vi u3)]) (st' := [vr (some (gw g))]) (pc' := 176) [(.aload_n 0, vi 0, 176)] (by decide +kernel) rfl rfl ?_
                refine sm_str (k := 21) G rfl (by decide +kernel) ?_
                refine sm_cv (N := mX4_looks) (d' := d - 1) (fun r => (some (vi r))) (fun _ => σ) (fun _ => y27.2) [vr (some (gK g 21))] [] rfl (by decide +kernel) q1653 q1655 qs54 (Or.inl ⟨rfl, q1656⟩) (show okN yX4_looks 1 = true by decide +kernel) (fun H hR => hR.rvw G.1 G.2.1) rfl rfl (by omega) rfl (fun Q' => m_looks_ok G (d - 1) (by omega) 21 y27.2 Q') (fun y55 => ?_)
                refine sm_b (l' := [(0, vr (some (gw g))), (2, vi u2), (3, vi u3), (5, vi y55)]) (st' := [vr (some (gw g))]) (pc' := 184) [(.istore 5, vi 0, 183), (.aload_n 0, vi 0, 184)] (by decide +kernel) rfl rfl ?_
                refine sm_str (k := 22) G rfl (by decide +kernel) ?_
                refine sm_cv (N := mX4_looks) (d' := d - 1) (fun r => (some (vi r))) (fun _ => σ) (fun _ => y27.2) [vr (some (gK g 22))] [] rfl (by decide +kernel) q1653 q1655 qs54 (Or.inl ⟨rfl, q1656⟩) (show okN yX4_looks 1 = true by decide +kernel) (fun H hR => hR.rvw G.1 G.2.1) rfl rfl (by omega) rfl (fun Q' => m_looks_ok G (d - 1) (by omega) 22 y27.2 Q') (fun y56 => ?_)
                refine sm_b (l' := [(0, vr (some (gw g))), (2, vi u2), (3, vi u3), (5, vi y55), (6, vi y56)]) (st' := [vi y55]) (pc' := 193) [(.istore 6, vi 0, 191), (.iload 5, vi 0, 193)] (by decide +kernel) rfl rfl ?_
                refine sm_bind1 (fun (v61 : TT) => V g mX4_readMessage d 211 [(0, vr (some (gw g))), (2, vi u2), (3, vi u3), (5, vi y55), (6, vi y56)] [] σ v61 Q) (fun v61 => ?_) (fun K62 j63 => ?_)
                · refine sm_b (l' := [(0, vr (some (gw g))), (2, vi u2), (3, vi u3), (5, vi y55), (6, vi y56)]) (st' := [vi y56, vi y55, vi ((-1)), vi u3, vr (some (gw g))]) (pc' := 218) [(.aload_n 0, vi 0, 212), (.iload_n 3, vi 0, 213), (.iconst (-1), vi (-1), 214), (.iload 5, vi 0, 216), (.iload 6, vi 0, 218)] (by decide +kernel) rfl rfl ?_
                  refine sm_cv (N := mX4_readField) (d' := d - 1) (fun r => none) (fun _ => σ) (fun r => r) [vi u3, vi ((-1)), vi y55, vi y56] [] rfl (by decide +kernel) q1681 q1683 qs60 (Or.inl ⟨rfl, q1684⟩) (show okN yX4_readField 4 = true by decide +kernel) (fun H hR => hR.rvw G.1 G.2.1) rfl rfl (by omega) rfl (fun Q' => m_readField_ok G (d - 1) (by omega) u3 ((-1)) y55 y56 v61 Q') (fun y65 => ?_)
                  refine sm_b (l' := [(0, vr (some (gw g))), (2, vi u2), (3, vi u3), (5, vi y55), (6, vi y56)]) (st' := []) (pc' := 88) [(.goto (-133), vi 0, 88)] (by decide +kernel) rfl rfl ?_
                  refine sm_pick [0, 1, 2] (l' := [(0, vr (some (gw g))), (2, vi u2), (3, vi u3)]) rfl ?_
                  exact ih y65
                · refine sm_gd (fun h57 => ?_)
                  refine sm_gd (fun h59 => ?_)
                  refine sm_case (V g mX4_readMessage d 211 [(0, vr (some (gw g))), (2, vi u2), (3, vi u3), (5, vi y55), (6, vi y56)] [] σ y27.2 Q) (V g mX4_readMessage d 201 [(0, vr (some (gw g))), (2, vi u2), (3, vi u3), (5, vi y55), (6, vi y56)] [] σ y27.2 Q) ?_ ?_ (fun f67 p68 n69 => ?_)
                  · exact sm_leaf (fun h => j63 _ h)
                  · refine sm_b (l' := [(0, vr (some (gw g))), (2, vi u2), (3, vi u3), (5, vi y55), (6, vi y56)]) (st' := [vr (some (gw g)), vr (some (gw g))]) (pc' := 203) [(.aload_n 0, vi 0, 202), (.dup, vi 0, 203)] (by decide +kernel) rfl rfl ?_
                    refine sm_tg (k := 13) (x := vi (tI y27.2 13)) G.2.1 q1431 rfl rfl (by decide +kernel) ?_
                    refine sm_b (l' := [(0, vr (some (gw g))), (2, vi u2), (3, vi u3), (5, vi y55), (6, vi y56)]) (st' := [vi ((tI y27.2 13) + 1), vr (some (gw g))]) (pc' := 208) [(.iconst 1, vi 1, 207), (.iadd, vi 0, 208)] (by decide +kernel) rfl rfl ?_
                    refine sm_tpi (k := 13) G.2.1 q1431 rfl rfl rfl (tp_13 g y27.2 ((tI y27.2 13) + 1)) (by decide +kernel) ?_
                    refine sm_nmt (fun τ66 => ?_)
                    exact sm_leaf (fun h => j63 _ h)
                  refine sm_if_ne (off := 8) (tgt := 201) h57 (by decide +kernel) (fun c70 => ?_) (fun c70 => ?_)
                  · exact n69 (fun q => c70 q.1)
                  · have w58 : y55 = 0 := c70
                    refine sm_b (l' := [(0, vr (some (gw g))), (2, vi u2), (3, vi u3), (5, vi y55), (6, vi y56)]) (st' := [vi y56]) (pc' := 198) [(.iload 6, vi 0, 198)] (by decide +kernel) rfl rfl ?_
                    refine sm_if_eq (off := 13) (tgt := 211) (h59 w58) (by decide +kernel) (fun c71 => ?_) (fun c71 => ?_)
                    · exact p68 ⟨c70, c71⟩
                    · exact n69 (fun q => c71 q.2)
              · refine sm_b (l' := [(0, vr (some (gw g))), (2, vi u2), (3, vi u3)]) (st' := [vi u3, vr (some (gw g))]) (pc' := 169) [(.aload_n 0, vi 0, 168), (.iload_n 3, vi 0, 169)] (by decide +kernel) rfl rfl ?_
                refine sm_cv (N := mX4_readReserved) (d' := d - 1) (fun r => none) (fun _ => σ) (fun r => r) [vi u3] [] rfl (by decide +kernel) q1687 q1689 qs61 (Or.inl ⟨rfl, q1690⟩) (show okN yX4_readReserved 1 = true by decide +kernel) (fun H hR => hR.rvw G.1 G.2.1) rfl rfl (by omega) rfl (fun Q' => m_readReserved_ok G (d - 1) (by omega) u3 y27.2 Q') (fun y72 => ?_)
                refine sm_b (l' := [(0, vr (some (gw g))), (2, vi u2), (3, vi u3)]) (st' := []) (pc' := 88) [(.goto (-84), vi 0, 88)] (by decide +kernel) rfl rfl ?_
                exact ih y72
              refine sm_if_eq (off := 11) (tgt := 175) h51 (by decide +kernel) (fun c76 => ?_) (fun c76 => ?_)
              · exact p74 c76
              · exact n75 c76
            · refine sm_b (l' := [(0, vr (some (gw g))), (2, vi u2), (3, vi u3)]) (st' := [vi u3, vr (some (gw g))]) (pc' := 152) [(.aload_n 0, vi 0, 151), (.iload_n 3, vi 0, 152)] (by decide +kernel) rfl rfl ?_
              refine sm_cv (N := mX4_readOneof) (d' := d - 1) (fun r => none) (fun _ => σ) (fun r => r) [vi u3] [] rfl (by decide +kernel) q1677 q1679 qs59 (Or.inl ⟨rfl, q1680⟩) (show okN yX4_readOneof 1 = true by decide +kernel) (fun H hR => hR.rvw G.1 G.2.1) rfl rfl (by omega) rfl (fun Q' => m_readOneof_ok G (d - 1) (by omega) u3 y27.2 Q') (fun y77 => ?_)
              refine sm_b (l' := [(0, vr (some (gw g))), (2, vi u2), (3, vi u3)]) (st' := []) (pc' := 88) [(.goto (-67), vi 0, 88)] (by decide +kernel) rfl rfl ?_
              exact ih y77
            refine sm_if_eq (off := 11) (tgt := 158) h45 (by decide +kernel) (fun c81 => ?_) (fun c81 => ?_)
            · exact p79 c81
            · exact n80 c81
          · refine sm_b (l' := [(0, vr (some (gw g))), (2, vi u2), (3, vi u3)]) (st' := [vi u3, vr (some (gw g))]) (pc' := 135) [(.aload_n 0, vi 0, 134), (.iload_n 3, vi 0, 135)] (by decide +kernel) rfl rfl ?_
            refine sm_cv (N := mX4_readEnum) (d' := d - 1) (fun r => none) (fun _ => σ) (fun r => r) [vi u3] [] rfl (by decide +kernel) q1668 q1670 qs57 (Or.inl ⟨rfl, q1671⟩) (show okN yX4_readEnum 1 = true by decide +kernel) (fun H hR => hR.rvw G.1 G.2.1) rfl rfl (by omega) rfl (fun Q' => m_readEnum_ok G (d - 1) (by omega) u3 y27.2 Q') (fun y82 => ?_)
            refine sm_b (l' := [(0, vr (some (gw g))), (2, vi u2), (3, vi u3)]) (st' := []) (pc' := 88) [(.goto (-50), vi 0, 88)] (by decide +kernel) rfl rfl ?_
            exact ih y82
          refine sm_if_eq (off := 11) (tgt := 141) h39 (by decide +kernel) (fun c86 => ?_) (fun c86 => ?_)
          · exact p84 c86
          · exact n85 c86
        · refine sm_b (l' := [(0, vr (some (gw g))), (2, vi u2), (3, vi u3)]) (st' := [vi (u2 + 1), vi u3, vr (some (gw g))]) (pc' := 118) [(.aload_n 0, vi 0, 114), (.iload_n 3, vi 0, 115), (.iload_n 2, vi 0, 116), (.iconst 1, vi 1, 117), (.iadd, vi 0, 118)] (by decide +kernel) rfl rfl ?_
          refine sm_cv (N := mX4_readMessage) (d' := d - 1) (fun r => none) (fun _ => σ) (fun r => r) [vi u3, vi (u2 + 1)] [] rfl (by decide +kernel) q1657 q1659 qs55 (Or.inl ⟨rfl, q1660⟩) (show okN yX4_readMessage 2 = true by decide +kernel) (fun H hR => hR.rvw G.1 G.2.1) rfl rfl (by omega) rfl (fun Q' => hrec (d - 1) (by omega) u3 (u2 + 1) y27.2 Q') (fun y87 => ?_)
          refine sm_b (l' := [(0, vr (some (gw g))), (2, vi u2), (3, vi u3)]) (st' := []) (pc' := 88) [(.goto (-33), vi 0, 88)] (by decide +kernel) rfl rfl ?_
          exact ih y87
        refine sm_if_eq (off := 14) (tgt := 124) h33 (by decide +kernel) (fun c91 => ?_) (fun c91 => ?_)
        · exact p89 c91
        · exact n90 c91
      · exact sm_vret rfl (by decide +kernel) (fun h => hRET _ h)
      refine sm_if_ne (off := 123) (tgt := 224) h28 (by decide +kernel) (fun c95 => ?_) (fun c95 => ?_)
      · exact n94 c95
      · exact p93 c95
    · exact sm_vret rfl (by decide +kernel) (fun h => hRET _ h)
    refine sm_if_ne (off := 132) (tgt := 224) h25 (by decide +kernel) (fun c99 => ?_) (fun c99 => ?_)
    · exact n98 c99
    · exact p97 c99
set_option maxHeartbeats 4000000 in
theorem m_readMessageb_ok {g : GE} (G : GG g) {D : Nat} (rec : Int → Int → TT → Option (TT)) (hrec : ∀ (d : Nat), D ≤ d → ∀ {σ : ST} (a1 : Int) (a2 : Int) (τ : TT) (Q' : VQ), Sm (V g mX4_readMessage d 0 [(0, vr (some (gw g))), (1, vi a1), (2, vi a2)] [] σ τ Q') (rec a1 a2 τ) (fun r => Q'.1 none σ r)) {σ : ST} (d : Nat) (hd1 : D + 1 ≤ d) (hd2 : 10 ≤ d) (a1 : Int) (a2 : Int)  (τ : TT) (Q : VQ) : Sm (V g mX4_readMessage d 0 [(0, vr (some (gw g))), (1, vi a1), (2, vi a2)] [] σ τ Q) (m_readMessageb rec a1 a2 τ) (fun r => Q.1 none σ r) := by
  unfold m_readMessageb
  refine sm_top (fun K hRET => ?_)
  refine sm_b (l' := [(0, vr (some (gw g))), (1, vi a1), (2, vi a2)]) (st' := [vr (some (gw g)), vr (some (gw g))]) (pc' := 2) [(.aload_n 0, vi 0, 1), (.dup, vi 0, 2)] (by decide +kernel) rfl rfl ?_
  refine sm_tg (k := 13) (x := vi (tI τ 13)) G.2.1 q1431 rfl rfl (by decide +kernel) ?_
  refine sm_b (l' := [(0, vr (some (gw g))), (1, vi a1), (2, vi a2)]) (st' := [vi ((tI τ 13) + 1), vr (some (gw g))]) (pc' := 7) [(.iconst 1, vi 1, 6), (.iadd, vi 0, 7)] (by decide +kernel) rfl rfl ?_
  refine sm_tpi (k := 13) G.2.1 q1431 rfl rfl rfl (tp_13 g τ ((tI τ 13) + 1)) (by decide +kernel) ?_
  refine sm_nmt (fun τ1 => ?_)
  refine sm_b (l' := [(0, vr (some (gw g))), (1, vi a1), (2, vi a2)]) (st' := [vr (some (gw g))]) (pc' := 11) [(.aload_n 0, vi 0, 11)] (by decide +kernel) rfl rfl ?_
  refine sm_tg (k := 35) (x := vi (tI τ1 35)) G.2.1 q1453 rfl rfl (by decide +kernel) ?_
  refine sm_nmi (fun x2 => ?_)
  refine sm_b (l' := [(0, vr (some (gw g))), (1, vi a1), (2, vi a2), (3, vi x2)]) (st' := [vr (some (gw g)), vr (some (gw g))]) (pc' := 17) [(.istore_n 3, vi 0, 15), (.aload_n 0, vi 0, 16), (.aload_n 0, vi 0, 17)] (by decide +kernel) rfl rfl ?_
  refine sm_tg (k := 14) (x := vi (tI τ1 14)) G.2.1 q1432 rfl rfl (by decide +kernel) ?_
  refine sm_bind1 (fun (v10 : Int) => V g mX4_readMessage d 40 [(0, vr (some (gw g))), (1, vi a1), (2, vi a2), (3, vi x2)] [vi v10, vr (some (gw g))] σ τ1 Q) (fun v10 => ?_) (fun K11 j12 => ?_)
  · refine sm_gd (fun h14 => ?_)
    refine sm_tpz (k := 14) G.2.1 q1432 rfl rfl rfl (tp_14 g τ1 v10) h14 (by decide +kernel) ?_
    refine sm_nmt (fun τ15 => ?_)
    refine sm_b (l' := [(0, vr (some (gw g))), (1, vi a1), (2, vi a2), (3, vi x2)]) (st' := [vr (some (gw g))]) (pc' := 44) [(.aload_n 0, vi 0, 44)] (by decide +kernel) rfl rfl ?_
    refine sm_cv (N := mX4_word) (d' := d - 1) (fun r => (some (vi r.1))) (fun _ => σ) (fun r => r.2) [] [] rfl (by decide +kernel) q1661 q1663 qs56 (Or.inl ⟨rfl, q1664⟩) (show okN yX4_word 0 = true by decide +kernel) (fun H hR => hR.rvw G.1 G.2.1) rfl rfl (by omega) rfl (fun Q' => m_word_ok G (d - 1) (by omega)  τ15 Q') (fun y16 => ?_)
    refine sm_b (l' := [(0, vr (some (gw g))), (1, vi a1), (2, vi a2), (3, vi x2), (4, vi y16.1)]) (st' := [vr (some (gw g))]) (pc' := 50) [(.istore 4, vi 0, 49), (.aload_n 0, vi 0, 50)] (by decide +kernel) rfl rfl ?_
    refine sm_tg (k := 14) (x := vi (tI y16.2 14)) G.2.1 q1432 rfl rfl (by decide +kernel) ?_
    refine sm_gd (fun h17 => ?_)
    refine sm_case (V g mX4_readMessage d 57 [(0, vr (some (gw g))), (1, vi a1), (2, vi a2), (3, vi x2), (4, vi y16.1)] [] σ y16.2 Q) (V g mX4_readMessage d 56 [(0, vr (some (gw g))), (1, vi a1), (2, vi a2), (3, vi x2), (4, vi y16.1)] [] σ y16.2 Q) ?_ ?_ (fun f100 p101 n102 => ?_)
    · refine sm_b (l' := [(0, vr (some (gw g))), (1, vi a1), (2, vi a2), (3, vi x2), (4, vi y16.1)]) (st' := [vr (some (gw g)), vr (some (gw g))]) (pc' := 59) [(.aload_n 0, vi 0, 58), (.dup, vi 0, 59)] (by decide +kernel) rfl rfl ?_
      refine sm_tg (k := 35) (x := vi (tI y16.2 35)) G.2.1 q1453 rfl rfl (by decide +kernel) ?_
      refine sm_b (l' := [(0, vr (some (gw g))), (1, vi a1), (2, vi a2), (3, vi x2), (4, vi y16.1)]) (st' := [vi ((tI y16.2 35) + 1), vr (some (gw g))]) (pc' := 64) [(.iconst 1, vi 1, 63), (.iadd, vi 0, 64)] (by decide +kernel) rfl rfl ?_
      refine sm_tpi (k := 35) G.2.1 q1453 rfl rfl rfl (tp_35 g y16.2 ((tI y16.2 35) + 1)) (by decide +kernel) ?_
      refine sm_nmt (fun τ20 => ?_)
      refine sm_b (l' := [(0, vr (some (gw g))), (1, vi a1), (2, vi a2), (3, vi x2), (4, vi y16.1)]) (st' := [vr (some (gw g))]) (pc' := 68) [(.aload_n 0, vi 0, 68)] (by decide +kernel) rfl rfl ?_
      refine sm_tg (k := 15) (x := vr (some (gT g 15))) G.2.1 q1433 rfl rfl (by decide +kernel) ?_
      refine sm_b (l' := [(0, vr (some (gw g))), (1, vi a1), (2, vi a2), (3, vi x2), (4, vi y16.1)]) (st' := [vi y16.1, vi x2, vr (some (gT g 15))]) (pc' := 74) [(.iload_n 3, vi 0, 72), (.iload 4, vi 0, 74)] (by decide +kernel) rfl rfl ?_
      refine sm_gd (fun h21 => ?_)
      refine sm_ias (k := 15) G.2.1 (by decide) rfl (ibt (k := 15) h21) h21 (by decide +kernel) ?_
      refine sm_nmt (fun τ22 => ?_)
      refine sm_b (l' := [(0, vr (some (gw g))), (1, vi a1), (2, vi a2), (3, vi x2), (4, vi y16.1)]) (st' := [vr (some (gw g))]) (pc' := 76) [(.aload_n 0, vi 0, 76)] (by decide +kernel) rfl rfl ?_
      refine sm_tg (k := 16) (x := vr (some (gT g 16))) G.2.1 q1434 rfl rfl (by decide +kernel) ?_
      refine sm_b (l' := [(0, vr (some (gw g))), (1, vi a1), (2, vi a2), (3, vi x2), (4, vi y16.1)]) (st' := [vi a1, vi x2, vr (some (gT g 16))]) (pc' := 81) [(.iload_n 3, vi 0, 80), (.iload_n 1, vi 0, 81)] (by decide +kernel) rfl rfl ?_
      refine sm_ias (k := 16) G.2.1 (by decide) rfl (ibt (k := 16) h21) h21 (by decide +kernel) ?_
      refine sm_nmt (fun τ23 => ?_)
      refine sm_b (l' := [(0, vr (some (gw g))), (1, vi a1), (2, vi a2), (3, vi x2), (4, vi y16.1)]) (st' := [vr (some (gw g))]) (pc' := 83) [(.aload_n 0, vi 0, 83)] (by decide +kernel) rfl rfl ?_
      refine sm_str (k := 14) G rfl (by decide +kernel) ?_
      refine sm_cv (N := mX4_sign) (d' := d - 1) (fun r => none) (fun _ => σ) (fun r => r) [vr (some (gK g 14))] [] rfl (by decide +kernel) q1645 q1647 qs53 (Or.inl ⟨rfl, q1648⟩) (show okN yX4_sign 1 = true by decide +kernel) (fun H hR => hR.rvw G.1 G.2.1) rfl rfl (by omega) rfl (fun Q' => m_sign_ok G (d - 1) (by omega) 14 τ23 Q') (fun y24 => ?_)
      refine sm_pick [0, 2, 3] (l' := [(0, vr (some (gw g))), (2, vi a2), (3, vi x2)]) rfl ?_
      exact m_readMessage_L88_ok G rec hrec d hd1 hd2 a2 x2  (fun r h => hRET _ h) FU y24
    · exact sm_vret rfl (by decide +kernel) (fun h => hRET _ h)
    refine sm_if_eq (off := 4) (tgt := 57) h17 (by decide +kernel) (fun c103 => ?_) (fun c103 => ?_)
    · exact p101 c103
    · exact n102 c103
  · refine sm_gd (fun h3 => ?_)
    refine sm_gd (fun h5 => ?_)
    refine sm_gd (fun h7 => ?_)
    refine sm_case (V g mX4_readMessage d 39 [(0, vr (some (gw g))), (1, vi a1), (2, vi a2), (3, vi x2)] [vr (some (gw g))] σ τ1 Q) (V g mX4_readMessage d 35 [(0, vr (some (gw g))), (1, vi a1), (2, vi a2), (3, vi x2)] [vr (some (gw g))] σ τ1 Q) ?_ ?_ (fun f104 p105 n106 => ?_)
    · refine sm_b (l' := [(0, vr (some (gw g))), (1, vi a1), (2, vi a2), (3, vi x2)]) (st' := [vi 0, vr (some (gw g))]) (pc' := 40) [(.iconst 0, vi 0, 40)] (by decide +kernel) rfl rfl ?_
      exact sm_leaf (fun h => j12 _ h)
    · refine sm_b (l' := [(0, vr (some (gw g))), (1, vi a1), (2, vi a2), (3, vi x2)]) (st' := [vi 1, vr (some (gw g))]) (pc' := 40) [(.iconst 1, vi 1, 36), (.goto 4, vi 0, 40)] (by decide +kernel) rfl rfl ?_
      exact sm_leaf (fun h => j12 _ h)
    refine sm_if_ne (off := 15) (tgt := 35) h3 (by decide +kernel) (fun c107 => ?_) (fun c107 => ?_)
    · exact n106 (fun q => (fun q => c107 q.1) q.1)
    · have w4 : (tI τ1 14) = 0 := c107
      refine sm_b (l' := [(0, vr (some (gw g))), (1, vi a1), (2, vi a2), (3, vi x2)]) (st' := [vi 10, vi x2, vr (some (gw g))]) (pc' := 26) [(.iload_n 3, vi 0, 24), (.bipush 10, vi 10, 26)] (by decide +kernel) rfl rfl ?_
      refine sm_icmp_eq (off := 9) (tgt := 35) (h5 w4) (by decide) (by decide +kernel) (fun c108 => ?_) (fun c108 => ?_)
      · exact n106 (fun q => (fun q => (fun q => q c108) q.2) q.1)
      · have w6 : ((tI τ1 14) = 0) ∧ (¬ (x2 = 10)) := ⟨c107, c108⟩
        refine sm_b (l' := [(0, vr (some (gw g))), (1, vi a1), (2, vi a2), (3, vi x2)]) (st' := [vi 6, vi a2, vr (some (gw g))]) (pc' := 32) [(.iload_n 2, vi 0, 30), (.bipush 6, vi 6, 32)] (by decide +kernel) rfl rfl ?_
        refine sm_icmp_le (off := 7) (tgt := 39) (h7 w6) (by decide) (by decide +kernel) (fun c109 => ?_) (fun c109 => ?_)
        · exact p105 ⟨⟨c107, c108⟩, c109⟩
        · exact n106 (fun q => c109 q.2)
def m_readMessage : Nat → Int → Int → TT → Option (TT)
  | 0 => fun _ _ _ => none
  | n + 1 => fun a1 a2 τ => m_readMessageb (m_readMessage n) a1 a2 τ
set_option maxHeartbeats 4000000 in
theorem m_readMessage_ok {g : GE} (G : GG g) (n : Nat) : ∀ (d : Nat), 10 + 1 * n ≤ d → ∀ {σ : ST} (a1 : Int) (a2 : Int) (τ : TT) (Q : VQ), Sm (V g mX4_readMessage d 0 [(0, vr (some (gw g))), (1, vi a1), (2, vi a2)] [] σ τ Q) (m_readMessage n a1 a2 τ) (fun r => Q.1 none σ r) := by
  induction n with
  | zero => intro d hd σ a1 a2 τ Q; exact sm_none
  | succ n ih =>
    intro d hd σ a1 a2 τ Q
    exact m_readMessageb_ok G (D := 10 + 1 * n) (m_readMessage n) ih d (by omega) (by omega) a1 a2 τ Q
def m_readSchema_L77  : Nat → TT → Option (TT)
  | 0, _ => none
  | n + 1, τ => gd (rg (tI τ 14)) (gd ((tI τ 14) = 0 → ib (tI τ 13) 1001) (gd ((tI τ 14) = 0 → rg (tA τ 9 (tI τ 13).toNat)) (if ((tI τ 14) = 0) ∧ (¬ ((tA τ 9 (tI τ 13).toNat) = 4)) then (Option.bind (m_looks 13 τ) fun y33 => gd (rg y33) (if y33 = 0 then (Option.bind (m_looks 16 τ) fun y39 => gd (rg y39) (if y39 = 0 then (nm (uI τ 14 1) fun τ43 => m_readSchema_L77 n τ43) else (Option.bind (m_readEnum ((-1)) τ) fun y44 => m_readSchema_L77 n y44))) else (Option.bind (m_readMessage 12 ((-1)) 1 τ) fun y49 => m_readSchema_L77 n y49))) else (some τ))))
def m_readSchema  (τ : TT) : Option (TT) := nm (uI τ 13 0) fun τ1 => nm (uI τ1 14 0) fun τ2 => Option.bind (m_takes 8 τ2) fun y3 => Option.bind (gd (rg y3.1) (if y3.1 = 0 then (some 1) else (some 0))) fun (v7 : Int) => gd (zb v7) (nm (uI y3.2 14 v7) fun τ12 => Option.bind (m_sign 9 τ12) fun y13 => Option.bind (m_sign 10 y13) fun y14 => Option.bind (gd (rg (tI y14 14)) (if (tI y14 14) = 0 then (Option.bind (m_takes 11 y14) fun y59 => gd (rg y59.1) (if y59.1 = 0 then (some ((1, y59.2))) else (some ((0, y59.2))))) else (some ((1, y14))))) fun (v17 : Int × TT) => gd (zb v17.1) (nm (uI v17.2 14 v17.1) fun τ22 => Option.bind (m_sign 10 τ22) fun y23 => Option.bind (m_sign 12 y23) fun y24 => m_readSchema_L77  FU y24))
set_option maxHeartbeats 4000000 in
theorem m_readSchema_L77_ok {g : GE} (G : GG g) {σ : ST} {Q : VQ} (d : Nat) (hd1 : 23 ≤ d)   {K : TT → Prop} (hRET : ∀ r : TT, K (r) → Q.1 none σ r) : ∀ (n : Nat) (τ : TT), Sm (V g mX4_readSchema d 77 [(0, vr (some (gw g)))] [] σ τ Q) (m_readSchema_L77 n τ) K := by
  intro n
  induction n with
  | zero => intro τ; exact sm_none
  | succ n ih =>
    intro τ
    rw [m_readSchema_L77.eq_2]
    refine sm_b (l' := [(0, vr (some (gw g)))]) (st' := [vr (some (gw g))]) (pc' := 78) [(.aload_n 0, vi 0, 78)] (by decide +kernel) rfl rfl ?_
    refine sm_tg (k := 14) (x := vi (tI τ 14)) G.2.1 q1432 rfl rfl (by decide +kernel) ?_
    refine sm_gd (fun h25 => ?_)
    refine sm_gd (fun h27 => ?_)
    refine sm_gd (fun h28 => ?_)
    refine sm_case (V g mX4_readSchema d 97 [(0, vr (some (gw g)))] [] σ τ Q) (V g mX4_readSchema d 140 [(0, vr (some (gw g)))] [] σ τ Q) ?_ ?_ (fun f54 p55 n56 => ?_)
    · refine sm_b (l' := [(0, vr (some (gw g)))]) (st' := [vr (some (gw g))]) (pc' := 98) [(.aload_n 0, vi 0, 98)] (by decide +kernel) rfl rfl ?_
      refine sm_str (k := 13) G rfl (by decide +kernel) ?_
      refine sm_cv (N := mX4_looks) (d' := d - 1) (fun r => (some (vi r))) (fun _ => σ) (fun _ => τ) [vr (some (gK g 13))] [] rfl (by decide +kernel) q1653 q1655 qs54 (Or.inl ⟨rfl, q1656⟩) (show okN yX4_looks 1 = true by decide +kernel) (fun H hR => hR.rvw G.1 G.2.1) rfl rfl (by omega) rfl (fun Q' => m_looks_ok G (d - 1) (by omega) 13 τ Q') (fun y33 => ?_)
      refine sm_gd (fun h34 => ?_)
      refine sm_case (V g mX4_readSchema d 115 [(0, vr (some (gw g)))] [] σ τ Q) (V g mX4_readSchema d 106 [(0, vr (some (gw g)))] [] σ τ Q) ?_ ?_ (fun f50 p51 n52 => ?_)
      · refine sm_b (l' := [(0, vr (some (gw g)))]) (st' := [vr (some (gw g))]) (pc' := 116) [(.aload_n 0, vi 0, 116)] (by decide +kernel) rfl rfl ?_
        refine sm_str (k := 16) G rfl (by decide +kernel) ?_
        refine sm_cv (N := mX4_looks) (d' := d - 1) (fun r => (some (vi r))) (fun _ => σ) (fun _ => τ) [vr (some (gK g 16))] [] rfl (by decide +kernel) q1653 q1655 qs54 (Or.inl ⟨rfl, q1656⟩) (show okN yX4_looks 1 = true by decide +kernel) (fun H hR => hR.rvw G.1 G.2.1) rfl rfl (by omega) rfl (fun Q' => m_looks_ok G (d - 1) (by omega) 16 τ Q') (fun y39 => ?_)
        refine sm_gd (fun h40 => ?_)
        refine sm_case (V g mX4_readSchema d 132 [(0, vr (some (gw g)))] [] σ τ Q) (V g mX4_readSchema d 124 [(0, vr (some (gw g)))] [] σ τ Q) ?_ ?_ (fun f45 p46 n47 => ?_)
        · refine sm_b (l' := [(0, vr (some (gw g)))]) (st' := [vi 1, vr (some (gw g))]) (pc' := 134) [(.aload_n 0, vi 0, 133), (.iconst 1, vi 1, 134)] (by decide +kernel) rfl rfl ?_
          refine sm_tpz (k := 14) G.2.1 q1432 rfl rfl rfl (tp_14 g τ 1) (by decide) (by decide +kernel) ?_
          refine sm_nmt (fun τ43 => ?_)
          refine sm_b (l' := [(0, vr (some (gw g)))]) (st' := []) (pc' := 77) [(.goto (-60), vi 0, 77)] (by decide +kernel) rfl rfl ?_
          exact ih τ43
        · refine sm_b (l' := [(0, vr (some (gw g)))]) (st' := [vi ((-1)), vr (some (gw g))]) (pc' := 126) [(.aload_n 0, vi 0, 125), (.iconst (-1), vi (-1), 126)] (by decide +kernel) rfl rfl ?_
          refine sm_cv (N := mX4_readEnum) (d' := d - 1) (fun r => none) (fun _ => σ) (fun r => r) [vi ((-1))] [] rfl (by decide +kernel) q1668 q1670 qs57 (Or.inl ⟨rfl, q1671⟩) (show okN yX4_readEnum 1 = true by decide +kernel) (fun H hR => hR.rvw G.1 G.2.1) rfl rfl (by omega) rfl (fun Q' => m_readEnum_ok G (d - 1) (by omega) ((-1)) τ Q') (fun y44 => ?_)
          refine sm_b (l' := [(0, vr (some (gw g)))]) (st' := []) (pc' := 77) [(.goto (-52), vi 0, 77)] (by decide +kernel) rfl rfl ?_
          exact ih y44
        refine sm_if_eq (off := 11) (tgt := 132) h40 (by decide +kernel) (fun c48 => ?_) (fun c48 => ?_)
        · exact p46 c48
        · exact n47 c48
      · refine sm_b (l' := [(0, vr (some (gw g)))]) (st' := [vi 1, vi ((-1)), vr (some (gw g))]) (pc' := 109) [(.aload_n 0, vi 0, 107), (.iconst (-1), vi (-1), 108), (.iconst 1, vi 1, 109)] (by decide +kernel) rfl rfl ?_
        refine sm_cv (N := mX4_readMessage) (d' := d - 1) (fun r => none) (fun _ => σ) (fun r => r) [vi ((-1)), vi 1] [] rfl (by decide +kernel) q1657 q1659 qs55 (Or.inl ⟨rfl, q1660⟩) (show okN yX4_readMessage 2 = true by decide +kernel) (fun H hR => hR.rvw G.1 G.2.1) rfl rfl (by omega) rfl (fun Q' => m_readMessage_ok G 12 (d - 1) (by omega) ((-1)) 1 τ Q') (fun y49 => ?_)
        refine sm_b (l' := [(0, vr (some (gw g)))]) (st' := []) (pc' := 77) [(.goto (-35), vi 0, 77)] (by decide +kernel) rfl rfl ?_
        exact ih y49
      refine sm_if_eq (off := 12) (tgt := 115) h34 (by decide +kernel) (fun c53 => ?_) (fun c53 => ?_)
      · exact p51 c53
      · exact n52 c53
    · exact sm_vret rfl (by decide +kernel) (fun h => hRET _ h)
    refine sm_if_ne (off := 59) (tgt := 140) h25 (by decide +kernel) (fun c57 => ?_) (fun c57 => ?_)
    · exact n56 (fun q => c57 q.1)
    · have w26 : (tI τ 14) = 0 := c57
      refine sm_b (l' := [(0, vr (some (gw g)))]) (st' := [vr (some (gw g))]) (pc' := 85) [(.aload_n 0, vi 0, 85)] (by decide +kernel) rfl rfl ?_
      refine sm_tg (k := 9) (x := vr (some (gT g 9))) G.2.1 q1427 rfl rfl (by decide +kernel) ?_
      refine sm_b (l' := [(0, vr (some (gw g)))]) (st' := [vr (some (gw g)), vr (some (gT g 9))]) (pc' := 89) [(.aload_n 0, vi 0, 89)] (by decide +kernel) rfl rfl ?_
      refine sm_tg (k := 13) (x := vi (tI τ 13)) G.2.1 q1431 rfl rfl (by decide +kernel) ?_
      refine sm_ial (k := 9) G.2.1 (by decide) rfl (ibt (k := 9) (h27 w26)) (h27 w26) (by decide +kernel) ?_
      refine sm_b (l' := [(0, vr (some (gw g)))]) (st' := [vi 4, vi (tA τ 9 (tI τ 13).toNat)]) (pc' := 94) [(.iconst 4, vi 4, 94)] (by decide +kernel) rfl rfl ?_
      refine sm_icmp_eq (off := 46) (tgt := 140) (h28 w26) (by decide) (by decide +kernel) (fun c58 => ?_) (fun c58 => ?_)
      · exact n56 (fun q => (fun q => q c58) q.2)
      · exact p55 ⟨c57, c58⟩
set_option maxHeartbeats 4000000 in
theorem m_readSchema_ok {g : GE} (G : GG g) {σ : ST} (d : Nat) (hd1 : 23 ≤ d)   (τ : TT) (Q : VQ) : Sm (V g mX4_readSchema d 0 [(0, vr (some (gw g)))] [] σ τ Q) (m_readSchema τ) (fun r => Q.1 none σ r) := by
  unfold m_readSchema
  refine sm_top (fun K hRET => ?_)
  refine sm_b (l' := [(0, vr (some (gw g)))]) (st' := [vi 0, vr (some (gw g))]) (pc' := 2) [(.aload_n 0, vi 0, 1), (.iconst 0, vi 0, 2)] (by decide +kernel) rfl rfl ?_
  refine sm_tpi (k := 13) G.2.1 q1431 rfl rfl rfl (tp_13 g τ 0) (by decide +kernel) ?_
  refine sm_nmt (fun τ1 => ?_)
  refine sm_b (l' := [(0, vr (some (gw g)))]) (st' := [vi 0, vr (some (gw g))]) (pc' := 7) [(.aload_n 0, vi 0, 6), (.iconst 0, vi 0, 7)] (by decide +kernel) rfl rfl ?_
  refine sm_tpz (k := 14) G.2.1 q1432 rfl rfl rfl (tp_14 g τ1 0) (by decide) (by decide +kernel) ?_
  refine sm_nmt (fun τ2 => ?_)
  refine sm_b (l' := [(0, vr (some (gw g)))]) (st' := [vr (some (gw g)), vr (some (gw g))]) (pc' := 12) [(.aload_n 0, vi 0, 11), (.aload_n 0, vi 0, 12)] (by decide +kernel) rfl rfl ?_
  refine sm_str (k := 8) G rfl (by decide +kernel) ?_
  refine sm_cv (N := mX4_takes) (d' := d - 1) (fun r => (some (vi r.1))) (fun _ => σ) (fun r => r.2) [vr (some (gK g 8))] [vr (some (gw g))] rfl (by decide +kernel) q1634 q1636 qs51 (Or.inl ⟨rfl, q1637⟩) (show okN yX4_takes 1 = true by decide +kernel) (fun H hR => hR.rvw G.1 G.2.1) rfl rfl (by omega) rfl (fun Q' => m_takes_ok G (d - 1) (by omega) 8 τ2 Q') (fun y3 => ?_)
  refine sm_bind1 (fun (v7 : Int) => V g mX4_readSchema d 25 [(0, vr (some (gw g)))] [vi v7, vr (some (gw g))] σ y3.2 Q) (fun v7 => ?_) (fun K8 j9 => ?_)
  · refine sm_gd (fun h11 => ?_)
    refine sm_tpz (k := 14) G.2.1 q1432 rfl rfl rfl (tp_14 g y3.2 v7) h11 (by decide +kernel) ?_
    refine sm_nmt (fun τ12 => ?_)
    refine sm_b (l' := [(0, vr (some (gw g)))]) (st' := [vr (some (gw g))]) (pc' := 29) [(.aload_n 0, vi 0, 29)] (by decide +kernel) rfl rfl ?_
    refine sm_str (k := 9) G rfl (by decide +kernel) ?_
    refine sm_cv (N := mX4_sign) (d' := d - 1) (fun r => none) (fun _ => σ) (fun r => r) [vr (some (gK g 9))] [] rfl (by decide +kernel) q1645 q1647 qs53 (Or.inl ⟨rfl, q1648⟩) (show okN yX4_sign 1 = true by decide +kernel) (fun H hR => hR.rvw G.1 G.2.1) rfl rfl (by omega) rfl (fun Q' => m_sign_ok G (d - 1) (by omega) 9 τ12 Q') (fun y13 => ?_)
    refine sm_b (l' := [(0, vr (some (gw g)))]) (st' := [vr (some (gw g))]) (pc' := 35) [(.aload_n 0, vi 0, 35)] (by decide +kernel) rfl rfl ?_
    refine sm_str (k := 10) G rfl (by decide +kernel) ?_
    refine sm_cv (N := mX4_sign) (d' := d - 1) (fun r => none) (fun _ => σ) (fun r => r) [vr (some (gK g 10))] [] rfl (by decide +kernel) q1645 q1647 qs53 (Or.inl ⟨rfl, q1648⟩) (show okN yX4_sign 1 = true by decide +kernel) (fun H hR => hR.rvw G.1 G.2.1) rfl rfl (by omega) rfl (fun Q' => m_sign_ok G (d - 1) (by omega) 10 y13 Q') (fun y14 => ?_)
    refine sm_b (l' := [(0, vr (some (gw g)))]) (st' := [vr (some (gw g)), vr (some (gw g))]) (pc' := 42) [(.aload_n 0, vi 0, 41), (.aload_n 0, vi 0, 42)] (by decide +kernel) rfl rfl ?_
    refine sm_tg (k := 14) (x := vi (tI y14 14)) G.2.1 q1432 rfl rfl (by decide +kernel) ?_
    refine sm_bind1 (fun (v17 : Int × TT) => V g mX4_readSchema d 62 [(0, vr (some (gw g)))] [vi v17.1, vr (some (gw g))] σ v17.2 Q) (fun v17 => ?_) (fun K18 j19 => ?_)
    · refine sm_gd (fun h21 => ?_)
      refine sm_tpz (k := 14) G.2.1 q1432 rfl rfl rfl (tp_14 g v17.2 v17.1) h21 (by decide +kernel) ?_
      refine sm_nmt (fun τ22 => ?_)
      refine sm_b (l' := [(0, vr (some (gw g)))]) (st' := [vr (some (gw g))]) (pc' := 66) [(.aload_n 0, vi 0, 66)] (by decide +kernel) rfl rfl ?_
      refine sm_str (k := 10) G rfl (by decide +kernel) ?_
      refine sm_cv (N := mX4_sign) (d' := d - 1) (fun r => none) (fun _ => σ) (fun r => r) [vr (some (gK g 10))] [] rfl (by decide +kernel) q1645 q1647 qs53 (Or.inl ⟨rfl, q1648⟩) (show okN yX4_sign 1 = true by decide +kernel) (fun H hR => hR.rvw G.1 G.2.1) rfl rfl (by omega) rfl (fun Q' => m_sign_ok G (d - 1) (by omega) 10 τ22 Q') (fun y23 => ?_)
      refine sm_b (l' := [(0, vr (some (gw g)))]) (st' := [vr (some (gw g))]) (pc' := 72) [(.aload_n 0, vi 0, 72)] (by decide +kernel) rfl rfl ?_
      refine sm_str (k := 12) G rfl (by decide +kernel) ?_
      refine sm_cv (N := mX4_sign) (d' := d - 1) (fun r => none) (fun _ => σ) (fun r => r) [vr (some (gK g 12))] [] rfl (by decide +kernel) q1645 q1647 qs53 (Or.inl ⟨rfl, q1648⟩) (show okN yX4_sign 1 = true by decide +kernel) (fun H hR => hR.rvw G.1 G.2.1) rfl rfl (by omega) rfl (fun Q' => m_sign_ok G (d - 1) (by omega) 12 y23 Q') (fun y24 => ?_)
      exact m_readSchema_L77_ok G d hd1   (fun r h => hRET _ h) FU y24
    · refine sm_gd (fun h15 => ?_)
      refine sm_case (V g mX4_readSchema d 48 [(0, vr (some (gw g)))] [vr (some (gw g))] σ y14 Q) (V g mX4_readSchema d 57 [(0, vr (some (gw g)))] [vr (some (gw g))] σ y14 Q) ?_ ?_ (fun f66 p67 n68 => ?_)
      · refine sm_b (l' := [(0, vr (some (gw g)))]) (st' := [vr (some (gw g)), vr (some (gw g))]) (pc' := 49) [(.aload_n 0, vi 0, 49)] (by decide +kernel) rfl rfl ?_
        refine sm_str (k := 11) G rfl (by decide +kernel) ?_
        refine sm_cv (N := mX4_takes) (d' := d - 1) (fun r => (some (vi r.1))) (fun _ => σ) (fun r => r.2) [vr (some (gK g 11))] [vr (some (gw g))] rfl (by decide +kernel) q1634 q1636 qs51 (Or.inl ⟨rfl, q1637⟩) (show okN yX4_takes 1 = true by decide +kernel) (fun H hR => hR.rvw G.1 G.2.1) rfl rfl (by omega) rfl (fun Q' => m_takes_ok G (d - 1) (by omega) 11 y14 Q') (fun y59 => ?_)
        refine sm_gd (fun h60 => ?_)
        refine sm_case (V g mX4_readSchema d 57 [(0, vr (some (gw g)))] [vr (some (gw g))] σ y59.2 Q) (V g mX4_readSchema d 61 [(0, vr (some (gw g)))] [vr (some (gw g))] σ y59.2 Q) ?_ ?_ (fun f62 p63 n64 => ?_)
        · refine sm_b (l' := [(0, vr (some (gw g)))]) (st' := [vi 1, vr (some (gw g))]) (pc' := 62) [(.iconst 1, vi 1, 58), (.goto 4, vi 0, 62)] (by decide +kernel) rfl rfl ?_
          exact sm_leaf (fun h => j19 _ h)
        · refine sm_b (l' := [(0, vr (some (gw g)))]) (st' := [vi 0, vr (some (gw g))]) (pc' := 62) [(.iconst 0, vi 0, 62)] (by decide +kernel) rfl rfl ?_
          exact sm_leaf (fun h => j19 _ h)
        refine sm_if_ne (off := 7) (tgt := 61) h60 (by decide +kernel) (fun c65 => ?_) (fun c65 => ?_)
        · exact n64 c65
        · exact p63 c65
      · refine sm_b (l' := [(0, vr (some (gw g)))]) (st' := [vi 1, vr (some (gw g))]) (pc' := 62) [(.iconst 1, vi 1, 58), (.goto 4, vi 0, 62)] (by decide +kernel) rfl rfl ?_
        exact sm_leaf (fun h => j19 _ h)
      refine sm_if_ne (off := 12) (tgt := 57) h15 (by decide +kernel) (fun c69 => ?_) (fun c69 => ?_)
      · exact n68 c69
      · exact p67 c69
  · refine sm_gd (fun h4 => ?_)
    refine sm_case (V g mX4_readSchema d 20 [(0, vr (some (gw g)))] [vr (some (gw g))] σ y3.2 Q) (V g mX4_readSchema d 24 [(0, vr (some (gw g)))] [vr (some (gw g))] σ y3.2 Q) ?_ ?_ (fun f70 p71 n72 => ?_)
    · refine sm_b (l' := [(0, vr (some (gw g)))]) (st' := [vi 1, vr (some (gw g))]) (pc' := 25) [(.iconst 1, vi 1, 21), (.goto 4, vi 0, 25)] (by decide +kernel) rfl rfl ?_
      exact sm_leaf (fun h => j9 _ h)
    · refine sm_b (l' := [(0, vr (some (gw g)))]) (st' := [vi 0, vr (some (gw g))]) (pc' := 25) [(.iconst 0, vi 0, 25)] (by decide +kernel) rfl rfl ?_
      exact sm_leaf (fun h => j9 _ h)
    refine sm_if_ne (off := 7) (tgt := 24) h4 (by decide +kernel) (fun c73 => ?_) (fun c73 => ?_)
    · exact n72 c73
    · exact p71 c73
def m_same_L24 (u1 : Int) (u2 : Int) (τ : TT) : Nat → Int → Int → Option (Int)
  | 0, _, _ => none
  | n + 1, w3, w4 => gd (rg w3) (gd (¬ (w3 = 0) → ib u1 1001) (gd (¬ (w3 = 0) → rg w4) (gd (¬ (w3 = 0) → rg (tA τ 11 u1.toNat)) (if (w3 = 0) ∨ ((tA τ 11 u1.toNat) ≤ w4) then (gd (zb w3) (some w3)) else (gd (ib u1 1001) (gd (ib ((tA τ 10 u1.toNat) + w4) 1000) (gd (ib u2 1001) (gd (ib ((tA τ 10 u2.toNat) + w4) 1000) (Option.bind (gd (rg (tA τ 8 ((tA τ 10 u1.toNat) + w4).toNat)) (gd (rg (tA τ 8 ((tA τ 10 u2.toNat) + w4).toNat)) (if (tA τ 8 ((tA τ 10 u1.toNat) + w4).toNat) = (tA τ 8 ((tA τ 10 u2.toNat) + w4).toNat) then (some 1) else (some 0)))) fun (v33 : Int) => m_same_L24 u1 u2 τ n v33 (w4 + 1))))))))))
def m_same (a1 : Int) (a2 : Int) (τ : TT) : Option (Int) := gd (ib a1 1001) (gd (ib a2 1001) (Option.bind (gd (rg (tA τ 11 a1.toNat)) (gd (rg (tA τ 11 a2.toNat)) (if (tA τ 11 a1.toNat) = (tA τ 11 a2.toNat) then (some 1) else (some 0)))) fun (v7 : Int) => m_same_L24 a1 a2 τ FU v7 0))
set_option maxHeartbeats 4000000 in
theorem m_same_L24_ok {g : GE} (G : GG g) {σ : ST} {Q : VQ} (d : Nat) (hd1 : 0 ≤ d) (u1 : Int) (u2 : Int) (τ : TT)  {K : Int → Prop} (hRET : ∀ r : Int, K (r) → Q.1 (some (vi r)) σ τ) : ∀ (n : Nat) (w3 : Int) (w4 : Int), Sm (V g mX4_same d 24 [(0, vr (some (gw g))), (1, vi u1), (2, vi u2), (3, vi w3), (4, vi w4)] [] σ τ Q) (m_same_L24 u1 u2 τ n w3 w4) K := by
  intro n
  induction n with
  | zero => intro w3 w4; exact sm_none
  | succ n ih =>
    intro w3 w4
    rw [m_same_L24.eq_2]
    refine sm_b (l' := [(0, vr (some (gw g))), (1, vi u1), (2, vi u2), (3, vi w3), (4, vi w4)]) (st' := [vi w3]) (pc' := 25) [(.iload_n 3, vi 0, 25)] (by decide +kernel) rfl rfl ?_
    refine sm_gd (fun h11 => ?_)
    refine sm_gd (fun h13 => ?_)
    refine sm_gd (fun h14 => ?_)
    refine sm_gd (fun h15 => ?_)
    refine sm_case (V g mX4_same d 82 [(0, vr (some (gw g))), (1, vi u1), (2, vi u2), (3, vi w3), (4, vi w4)] [] σ τ Q) (V g mX4_same d 39 [(0, vr (some (gw g))), (1, vi u1), (2, vi u2), (3, vi w3), (4, vi w4)] [] σ τ Q) ?_ ?_ (fun f41 p42 n43 => ?_)
    · refine sm_b (l' := [(0, vr (some (gw g))), (1, vi u1), (2, vi u2), (3, vi w3), (4, vi w4)]) (st' := [vi w3]) (pc' := 83) [(.iload_n 3, vi 0, 83)] (by decide +kernel) rfl rfl ?_
      refine sm_gd (fun h24 => ?_)
      exact sm_zret rfl (by decide +kernel) h24 (fun h => hRET _ h)
    · refine sm_b (l' := [(0, vr (some (gw g))), (1, vi u1), (2, vi u2), (3, vi w3), (4, vi w4)]) (st' := [vr (some (gw g))]) (pc' := 40) [(.aload_n 0, vi 0, 40)] (by decide +kernel) rfl rfl ?_
      refine sm_tg (k := 8) (x := vr (some (gT g 8))) G.2.1 q1426 rfl rfl (by decide +kernel) ?_
      refine sm_b (l' := [(0, vr (some (gw g))), (1, vi u1), (2, vi u2), (3, vi w3), (4, vi w4)]) (st' := [vr (some (gw g)), vr (some (gT g 8))]) (pc' := 44) [(.aload_n 0, vi 0, 44)] (by decide +kernel) rfl rfl ?_
      refine sm_tg (k := 10) (x := vr (some (gT g 10))) G.2.1 q1428 rfl rfl (by decide +kernel) ?_
      refine sm_b (l' := [(0, vr (some (gw g))), (1, vi u1), (2, vi u2), (3, vi w3), (4, vi w4)]) (st' := [vi u1, vr (some (gT g 10)), vr (some (gT g 8))]) (pc' := 48) [(.iload_n 1, vi 0, 48)] (by decide +kernel) rfl rfl ?_
      refine sm_gd (fun h25 => ?_)
      refine sm_ial (k := 10) G.2.1 (by decide) rfl (ibt (k := 10) h25) h25 (by decide +kernel) ?_
      refine sm_b (l' := [(0, vr (some (gw g))), (1, vi u1), (2, vi u2), (3, vi w3), (4, vi w4)]) (st' := [vi ((tA τ 10 u1.toNat) + w4), vr (some (gT g 8))]) (pc' := 52) [(.iload 4, vi 0, 51), (.iadd, vi 0, 52)] (by decide +kernel) rfl rfl ?_
      refine sm_gd (fun h26 => ?_)
      refine sm_ial (k := 8) G.2.1 (by decide) rfl (ibt (k := 8) h26) h26 (by decide +kernel) ?_
      refine sm_b (l' := [(0, vr (some (gw g))), (1, vi u1), (2, vi u2), (3, vi w3), (4, vi w4)]) (st' := [vr (some (gw g)), vi (tA τ 8 ((tA τ 10 u1.toNat) + w4).toNat)]) (pc' := 54) [(.aload_n 0, vi 0, 54)] (by decide +kernel) rfl rfl ?_
      refine sm_tg (k := 8) (x := vr (some (gT g 8))) G.2.1 q1426 rfl rfl (by decide +kernel) ?_
      refine sm_b (l' := [(0, vr (some (gw g))), (1, vi u1), (2, vi u2), (3, vi w3), (4, vi w4)]) (st' := [vr (some (gw g)), vr (some (gT g 8)), vi (tA τ 8 ((tA τ 10 u1.toNat) + w4).toNat)]) (pc' := 58) [(.aload_n 0, vi 0, 58)] (by decide +kernel) rfl rfl ?_
      refine sm_tg (k := 10) (x := vr (some (gT g 10))) G.2.1 q1428 rfl rfl (by decide +kernel) ?_
      refine sm_b (l' := [(0, vr (some (gw g))), (1, vi u1), (2, vi u2), (3, vi w3), (4, vi w4)]) (st' := [vi u2, vr (some (gT g 10)), vr (some (gT g 8)), vi (tA τ 8 ((tA τ 10 u1.toNat) + w4).toNat)]) (pc' := 62) [(.iload_n 2, vi 0, 62)] (by decide +kernel) rfl rfl ?_
      refine sm_gd (fun h27 => ?_)
      refine sm_ial (k := 10) G.2.1 (by decide) rfl (ibt (k := 10) h27) h27 (by decide +kernel) ?_
      refine sm_b (l' := [(0, vr (some (gw g))), (1, vi u1), (2, vi u2), (3, vi w3), (4, vi w4)]) (st' := [vi ((tA τ 10 u2.toNat) + w4), vr (some (gT g 8)), vi (tA τ 8 ((tA τ 10 u1.toNat) + w4).toNat)]) (pc' := 66) [(.iload 4, vi 0, 65), (.iadd, vi 0, 66)] (by decide +kernel) rfl rfl ?_
      refine sm_gd (fun h28 => ?_)
      refine sm_ial (k := 8) G.2.1 (by decide) rfl (ibt (k := 8) h28) h28 (by decide +kernel) ?_
      refine sm_bind1 (fun (v33 : Int) => V g mX4_same d 75 [(0, vr (some (gw g))), (1, vi u1), (2, vi u2), (4, vi w4)] [vi v33] σ τ Q) (fun v33 => ?_) (fun K34 j35 => ?_)
      · refine sm_b (l' := [(0, vr (some (gw g))), (1, vi u1), (2, vi u2), (4, vi (w4 + 1)), (3, vi v33)]) (st' := []) (pc' := 24) [(.istore_n 3, vi 0, 76), (.iinc 4 1, vi 1, 79), (.goto (-55), vi 0, 24)] (by decide +kernel) rfl rfl ?_
        refine sm_pick [0, 1, 2, 4, 3] (l' := [(0, vr (some (gw g))), (1, vi u1), (2, vi u2), (3, vi v33), (4, vi (w4 + 1))]) rfl ?_
        exact ih v33 (w4 + 1)
      · refine sm_gd (fun h29 => ?_)
        refine sm_gd (fun h30 => ?_)
        refine sm_case (V g mX4_same d 70 [(0, vr (some (gw g))), (1, vi u1), (2, vi u2), (3, vi w3), (4, vi w4)] [] σ τ Q) (V g mX4_same d 74 [(0, vr (some (gw g))), (1, vi u1), (2, vi u2), (3, vi w3), (4, vi w4)] [] σ τ Q) ?_ ?_ (fun f37 p38 n39 => ?_)
        · refine sm_b (l' := [(0, vr (some (gw g))), (1, vi u1), (2, vi u2), (3, vi w3), (4, vi w4)]) (st' := [vi 1]) (pc' := 75) [(.iconst 1, vi 1, 71), (.goto 4, vi 0, 75)] (by decide +kernel) rfl rfl ?_
          refine sm_pick [0, 1, 2, 4] (l' := [(0, vr (some (gw g))), (1, vi u1), (2, vi u2), (4, vi w4)]) rfl ?_
          exact sm_leaf (fun h => j35 _ h)
        · refine sm_b (l' := [(0, vr (some (gw g))), (1, vi u1), (2, vi u2), (3, vi w3), (4, vi w4)]) (st' := [vi 0]) (pc' := 75) [(.iconst 0, vi 0, 75)] (by decide +kernel) rfl rfl ?_
          refine sm_pick [0, 1, 2, 4] (l' := [(0, vr (some (gw g))), (1, vi u1), (2, vi u2), (4, vi w4)]) rfl ?_
          exact sm_leaf (fun h => j35 _ h)
        refine sm_icmp_ne (off := 7) (tgt := 74) h29 h30 (by decide +kernel) (fun c40 => ?_) (fun c40 => ?_)
        · exact n39 c40
        · exact p38 c40
    refine sm_if_eq (off := 57) (tgt := 82) h11 (by decide +kernel) (fun c44 => ?_) (fun c44 => ?_)
    · exact p42 (Or.inl c44)
    · have w12 : ¬ (w3 = 0) := c44
      refine sm_b (l' := [(0, vr (some (gw g))), (1, vi u1), (2, vi u2), (3, vi w3), (4, vi w4)]) (st' := [vr (some (gw g)), vi w4]) (pc' := 31) [(.iload 4, vi 0, 30), (.aload_n 0, vi 0, 31)] (by decide +kernel) rfl rfl ?_
      refine sm_tg (k := 11) (x := vr (some (gT g 11))) G.2.1 q1429 rfl rfl (by decide +kernel) ?_
      refine sm_b (l' := [(0, vr (some (gw g))), (1, vi u1), (2, vi u2), (3, vi w3), (4, vi w4)]) (st' := [vi u1, vr (some (gT g 11)), vi w4]) (pc' := 35) [(.iload_n 1, vi 0, 35)] (by decide +kernel) rfl rfl ?_
      refine sm_ial (k := 11) G.2.1 (by decide) rfl (ibt (k := 11) (h13 w12)) (h13 w12) (by decide +kernel) ?_
      refine sm_icmp_ge (off := 46) (tgt := 82) (h14 w12) (h15 w12) (by decide +kernel) (fun c45 => ?_) (fun c45 => ?_)
      · exact p42 (Or.inr c45)
      · exact n43 (fun q => q.elim c44 c45)
set_option maxHeartbeats 4000000 in
theorem m_same_ok {g : GE} (G : GG g) {σ : ST} (d : Nat) (hd1 : 0 ≤ d) (a1 : Int) (a2 : Int)  (τ : TT) (Q : VQ) : Sm (V g mX4_same d 0 [(0, vr (some (gw g))), (1, vi a1), (2, vi a2)] [] σ τ Q) (m_same a1 a2 τ) (fun r => Q.1 (some (vi r)) σ τ) := by
  unfold m_same
  refine sm_top (fun K hRET => ?_)
  refine sm_b (l' := [(0, vr (some (gw g))), (1, vi a1), (2, vi a2)]) (st' := [vr (some (gw g))]) (pc' := 1) [(.aload_n 0, vi 0, 1)] (by decide +kernel) rfl rfl ?_
  refine sm_tg (k := 11) (x := vr (some (gT g 11))) G.2.1 q1429 rfl rfl (by decide +kernel) ?_
  refine sm_b (l' := [(0, vr (some (gw g))), (1, vi a1), (2, vi a2)]) (st' := [vi a1, vr (some (gT g 11))]) (pc' := 5) [(.iload_n 1, vi 0, 5)] (by decide +kernel) rfl rfl ?_
  refine sm_gd (fun h1 => ?_)
  refine sm_ial (k := 11) G.2.1 (by decide) rfl (ibt (k := 11) h1) h1 (by decide +kernel) ?_
  refine sm_b (l' := [(0, vr (some (gw g))), (1, vi a1), (2, vi a2)]) (st' := [vr (some (gw g)), vi (tA τ 11 a1.toNat)]) (pc' := 7) [(.aload_n 0, vi 0, 7)] (by decide +kernel) rfl rfl ?_
  refine sm_tg (k := 11) (x := vr (some (gT g 11))) G.2.1 q1429 rfl rfl (by decide +kernel) ?_
  refine sm_b (l' := [(0, vr (some (gw g))), (1, vi a1), (2, vi a2)]) (st' := [vi a2, vr (some (gT g 11)), vi (tA τ 11 a1.toNat)]) (pc' := 11) [(.iload_n 2, vi 0, 11)] (by decide +kernel) rfl rfl ?_
  refine sm_gd (fun h2 => ?_)
  refine sm_ial (k := 11) G.2.1 (by decide) rfl (ibt (k := 11) h2) h2 (by decide +kernel) ?_
  refine sm_bind1 (fun (v7 : Int) => V g mX4_same d 20 [(0, vr (some (gw g))), (1, vi a1), (2, vi a2)] [vi v7] σ τ Q) (fun v7 => ?_) (fun K8 j9 => ?_)
  · refine sm_b (l' := [(0, vr (some (gw g))), (1, vi a1), (2, vi a2), (3, vi v7), (4, vi 0)]) (st' := []) (pc' := 24) [(.istore_n 3, vi 0, 21), (.iconst 0, vi 0, 22), (.istore 4, vi 0, 24)] (by decide +kernel) rfl rfl ?_
    exact m_same_L24_ok G d hd1 a1 a2 τ  (fun r h => hRET _ h) FU v7 0
  · refine sm_gd (fun h3 => ?_)
    refine sm_gd (fun h4 => ?_)
    refine sm_case (V g mX4_same d 15 [(0, vr (some (gw g))), (1, vi a1), (2, vi a2)] [] σ τ Q) (V g mX4_same d 19 [(0, vr (some (gw g))), (1, vi a1), (2, vi a2)] [] σ τ Q) ?_ ?_ (fun f46 p47 n48 => ?_)
    · refine sm_b (l' := [(0, vr (some (gw g))), (1, vi a1), (2, vi a2)]) (st' := [vi 1]) (pc' := 20) [(.iconst 1, vi 1, 16), (.goto 4, vi 0, 20)] (by decide +kernel) rfl rfl ?_
      exact sm_leaf (fun h => j9 _ h)
    · refine sm_b (l' := [(0, vr (some (gw g))), (1, vi a1), (2, vi a2)]) (st' := [vi 0]) (pc' := 20) [(.iconst 0, vi 0, 20)] (by decide +kernel) rfl rfl ?_
      exact sm_leaf (fun h => j9 _ h)
    refine sm_icmp_ne (off := 7) (tgt := 19) h3 h4 (by decide +kernel) (fun c49 => ?_) (fun c49 => ?_)
    · exact n48 c49
    · exact p47 c49
