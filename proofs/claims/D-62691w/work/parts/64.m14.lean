set_option maxRecDepth 100000
/-! the reference: X4_numberOf, X4_value, X4_array -/
def m_numberOf (a1 : Int) (a2 : Int) (τ : TT) : Option (Int × TT) := Option.bind (m_look a2 τ) fun y1 => gd (rg y1) (if y1 = 34 then (Option.bind (m_string a2 τ) fun y6 => nm (uI y6.2 58 1) fun τ7 => Option.bind (gd (rg y6.1) (gd (¬ (y6.1 = ((-1))) → ok (m_numberText 0 τ7)) (gd (¬ (y6.1 = ((-1))) → rg (vv (m_numberText 0 τ7))) (gd (¬ (y6.1 = ((-1))) → rg (tI τ7 57)) (if (y6.1 = ((-1))) ∨ (¬ ((vv (m_numberText 0 τ7)) = (tI τ7 57))) then (some ((0, τ7))) else (Option.bind (m_isWhole 0 (tI τ7 57) τ7) fun y26 => gd (rg y26.1) (gd (¬ (y26.1 = 0) → ok (m_fits a1 y26.2)) (gd (¬ (y26.1 = 0) → rg (vv (m_fits a1 y26.2))) (if (y26.1 = 0) ∨ ((vv (m_fits a1 y26.2)) = 0) then (some ((0, y26.2))) else (some ((1, y26.2)))))))))))) fun (v14 : Int × TT) => nm (uI v14.2 58 0) fun τ18 => gd (rg v14.1) (if v14.1 = 0 then (some (((-1), τ18))) else (some ((y6.1, τ18))))) else (Option.bind (m_numberText a2 τ) fun y42 => gd (rg y42) (if y42 = ((-1)) then (some (((-1), τ))) else (Option.bind (m_isWhole a2 y42 τ) fun y45 => gd (rg y45.1) (gd (¬ (y45.1 = 0) → ok (m_fits a1 y45.2)) (gd (¬ (y45.1 = 0) → rg (vv (m_fits a1 y45.2))) (if (y45.1 = 0) ∨ ((vv (m_fits a1 y45.2)) = 0) then (some (((-1), y45.2))) else (some ((y42, y45.2))))))))))
set_option maxHeartbeats 4000000 in
theorem m_numberOf_ok {g : GE} (G : GG g) {σ : ST} (d : Nat) (hd1 : 4 ≤ d) (a1 : Int) (a2 : Int)  (τ : TT) (Q : VQ) : Sm (V g mX4_numberOf d 0 [(0, vr (some (gw g))), (1, vi a1), (2, vi a2)] [] σ τ Q) (m_numberOf a1 a2 τ) (fun r => Q.1 (some (vi r.1)) σ r.2) := by
  unfold m_numberOf
  refine sm_top (fun K hRET => ?_)
  refine sm_b (l' := [(0, vr (some (gw g))), (1, vi a1), (2, vi a2)]) (st' := [vi a2, vr (some (gw g))]) (pc' := 2) [(.aload_n 0, vi 0, 1), (.iload_n 2, vi 0, 2)] (by decide +kernel) rfl rfl ?_
  refine sm_cv (N := mX4_look) (d' := d - 1) (fun r => (some (vi r))) (fun _ => σ) (fun _ => τ) [vi a2] [] rfl (by decide +kernel) q1902 q1904 qs103 (Or.inl ⟨rfl, q1905⟩) (show okN yX4_look 1 = true by decide +kernel) (fun H hR => hR.rvw G.1 G.2.1) rfl rfl (by omega) rfl (fun Q' => m_look_ok G (d - 1) (by omega) a2 τ Q') (fun y1 => ?_)
  refine sm_b (l' := [(0, vr (some (gw g))), (1, vi a1), (2, vi a2)]) (st' := [vi 34, vi y1]) (pc' := 7) [(.bipush 34, vi 34, 7)] (by decide +kernel) rfl rfl ?_
  refine sm_gd (fun h2 => ?_)
  refine sm_case (V g mX4_numberOf d 44 [(0, vr (some (gw g))), (1, vi a1), (2, vi a2)] [] σ τ Q) (V g mX4_numberOf d 10 [(0, vr (some (gw g))), (1, vi a1), (2, vi a2)] [] σ τ Q) ?_ ?_ (fun f60 p61 n62 => ?_)
  · refine sm_b (l' := [(0, vr (some (gw g))), (1, vi a1), (2, vi a2)]) (st' := [vi a2, vr (some (gw g))]) (pc' := 46) [(.aload_n 0, vi 0, 45), (.iload_n 2, vi 0, 46)] (by decide +kernel) rfl rfl ?_
    refine sm_cv (N := mX4_string) (d' := d - 1) (fun r => (some (vi r.1))) (fun _ => σ) (fun r => r.2) [vi a2] [] rfl (by decide +kernel) q1906 q1908 qs104 (Or.inl ⟨rfl, q1909⟩) (show okN yX4_string 1 = true by decide +kernel) (fun H hR => hR.rvw G.1 G.2.1) rfl rfl (by omega) rfl (fun Q' => m_string_ok G (d - 1) (by omega) a2 τ Q') (fun y6 => ?_)
    refine sm_b (l' := [(0, vr (some (gw g))), (1, vi a1), (2, vi a2), (3, vi y6.1)]) (st' := [vi 1, vr (some (gw g))]) (pc' := 52) [(.istore_n 3, vi 0, 50), (.aload_n 0, vi 0, 51), (.iconst 1, vi 1, 52)] (by decide +kernel) rfl rfl ?_
    refine sm_tpz (k := 58) G.2.1 q1476 rfl rfl rfl (tp_58 g y6.2 1) (by decide) (by decide +kernel) ?_
    refine sm_nmt (fun τ7 => ?_)
    refine sm_b (l' := [(0, vr (some (gw g))), (1, vi a1), (2, vi a2), (3, vi y6.1)]) (st' := [vi ((-1)), vi y6.1]) (pc' := 57) [(.iload_n 3, vi 0, 56), (.iconst (-1), vi (-1), 57)] (by decide +kernel) rfl rfl ?_
    refine sm_bind1 (fun (v14 : Int × TT) => V g mX4_numberOf d 97 [(0, vr (some (gw g))), (3, vi y6.1)] [vi v14.1] σ v14.2 Q) (fun v14 => ?_) (fun K15 j16 => ?_)
    · refine sm_b (l' := [(0, vr (some (gw g))), (3, vi y6.1), (4, vi v14.1)]) (st' := [vi 0, vr (some (gw g))]) (pc' := 101) [(.istore 4, vi 0, 99), (.aload_n 0, vi 0, 100), (.iconst 0, vi 0, 101)] (by decide +kernel) rfl rfl ?_
      refine sm_tpz (k := 58) G.2.1 q1476 rfl rfl rfl (tp_58 g v14.2 0) (by decide) (by decide +kernel) ?_
      refine sm_nmt (fun τ18 => ?_)
      refine sm_b (l' := [(0, vr (some (gw g))), (3, vi y6.1), (4, vi v14.1)]) (st' := [vi v14.1]) (pc' := 106) [(.iload 4, vi 0, 106)] (by decide +kernel) rfl rfl ?_
      refine sm_gd (fun h19 => ?_)
      refine sm_case (V g mX4_numberOf d 113 [(0, vr (some (gw g))), (3, vi y6.1), (4, vi v14.1)] [] σ τ18 Q) (V g mX4_numberOf d 109 [(0, vr (some (gw g))), (3, vi y6.1), (4, vi v14.1)] [] σ τ18 Q) ?_ ?_ (fun f22 p23 n24 => ?_)
      · refine sm_b (l' := [(0, vr (some (gw g))), (3, vi y6.1), (4, vi v14.1)]) (st' := [vi ((-1))]) (pc' := 114) [(.iconst (-1), vi (-1), 114)] (by decide +kernel) rfl rfl ?_
        exact sm_iret rfl (by decide +kernel) (fun h => hRET _ h)
      · refine sm_b (l' := [(0, vr (some (gw g))), (3, vi y6.1), (4, vi v14.1)]) (st' := [vi y6.1]) (pc' := 114) [(.iload_n 3, vi 0, 110), (.goto 4, vi 0, 114)] (by decide +kernel) rfl rfl ?_
        exact sm_iret rfl (by decide +kernel) (fun h => hRET _ h)
      refine sm_if_eq (off := 7) (tgt := 113) h19 (by decide +kernel) (fun c25 => ?_) (fun c25 => ?_)
      · exact p23 c25
      · exact n24 c25
    · refine sm_gd (fun h8 => ?_)
      refine sm_gd (fun h10 => ?_)
      refine sm_gd (fun h11 => ?_)
      refine sm_gd (fun h12 => ?_)
      refine sm_case (V g mX4_numberOf d 96 [(0, vr (some (gw g))), (1, vi a1), (2, vi a2), (3, vi y6.1)] [] σ τ7 Q) (V g mX4_numberOf d 72 [(0, vr (some (gw g))), (1, vi a1), (2, vi a2), (3, vi y6.1)] [] σ τ7 Q) ?_ ?_ (fun f37 p38 n39 => ?_)
      · refine sm_b (l' := [(0, vr (some (gw g))), (1, vi a1), (2, vi a2), (3, vi y6.1)]) (st' := [vi 0]) (pc' := 97) [(.iconst 0, vi 0, 97)] (by decide +kernel) rfl rfl ?_
        refine sm_pick [0, 3] (l' := [(0, vr (some (gw g))), (3, vi y6.1)]) rfl ?_
        exact sm_leaf (fun h => j16 _ h)
      · refine sm_b (l' := [(0, vr (some (gw g))), (1, vi a1), (2, vi a2), (3, vi y6.1)]) (st' := [vr (some (gw g)), vi 0, vr (some (gw g))]) (pc' := 75) [(.aload_n 0, vi 0, 73), (.iconst 0, vi 0, 74), (.aload_n 0, vi 0, 75)] (by decide +kernel) rfl rfl ?_
        refine sm_tg (k := 57) (x := vi (tI τ7 57)) G.2.1 q1475 rfl rfl (by decide +kernel) ?_
        refine sm_cv (N := mX4_isWhole) (d' := d - 1) (fun r => (some (vi r.1))) (fun _ => σ) (fun r => r.2) [vi 0, vi (tI τ7 57)] [] rfl (by decide +kernel) q1968 q1970 qs118 (Or.inl ⟨rfl, q1971⟩) (show okN yX4_isWhole 2 = true by decide +kernel) (fun H hR => hR.rvw G.1 G.2.1) rfl rfl (by omega) rfl (fun Q' => m_isWhole_ok G (d - 1) (by omega) 0 (tI τ7 57) τ7 Q') (fun y26 => ?_)
        refine sm_gd (fun h27 => ?_)
        refine sm_gd (fun h29 => ?_)
        refine sm_gd (fun h30 => ?_)
        refine sm_case (V g mX4_numberOf d 96 [(0, vr (some (gw g))), (1, vi a1), (2, vi a2), (3, vi y6.1)] [] σ y26.2 Q) (V g mX4_numberOf d 92 [(0, vr (some (gw g))), (1, vi a1), (2, vi a2), (3, vi y6.1)] [] σ y26.2 Q) ?_ ?_ (fun f32 p33 n34 => ?_)
        · refine sm_b (l' := [(0, vr (some (gw g))), (1, vi a1), (2, vi a2), (3, vi y6.1)]) (st' := [vi 0]) (pc' := 97) [(.iconst 0, vi 0, 97)] (by decide +kernel) rfl rfl ?_
          refine sm_pick [0, 3] (l' := [(0, vr (some (gw g))), (3, vi y6.1)]) rfl ?_
          exact sm_leaf (fun h => j16 _ h)
        · refine sm_b (l' := [(0, vr (some (gw g))), (1, vi a1), (2, vi a2), (3, vi y6.1)]) (st' := [vi 1]) (pc' := 97) [(.iconst 1, vi 1, 93), (.goto 4, vi 0, 97)] (by decide +kernel) rfl rfl ?_
          refine sm_pick [0, 3] (l' := [(0, vr (some (gw g))), (3, vi y6.1)]) rfl ?_
          exact sm_leaf (fun h => j16 _ h)
        refine sm_if_eq (off := 15) (tgt := 96) h27 (by decide +kernel) (fun c35 => ?_) (fun c35 => ?_)
        · exact p33 (Or.inl c35)
        · have w28 : ¬ (y26.1 = 0) := c35
          refine sm_b (l' := [(0, vr (some (gw g))), (1, vi a1), (2, vi a2), (3, vi y6.1)]) (st' := [vi a1, vr (some (gw g))]) (pc' := 86) [(.aload_n 0, vi 0, 85), (.iload_n 1, vi 0, 86)] (by decide +kernel) rfl rfl ?_
          refine sm_cvp (N := mX4_fits) (d' := d - 1) (fun r => (some (vi r))) (some (vi (vv (m_fits a1 y26.2)))) (h29 w28) (fun y h => by rw [vv_some h]) [vi a1] [] rfl (by decide +kernel) q1979 q1981 qs120 (Or.inl ⟨rfl, q1982⟩) (show okN yX4_fits 1 = true by decide +kernel) (fun H hR => hR.rvw G.1 G.2.1) rfl rfl (by omega) rfl (fun Q' => m_fits_ok G (d - 1) (by omega) a1 y26.2 Q') ?_
          refine sm_if_eq (off := 7) (tgt := 96) (h30 w28) (by decide +kernel) (fun c36 => ?_) (fun c36 => ?_)
          · exact p33 (Or.inr c36)
          · exact n34 (fun q => q.elim c35 c36)
      refine sm_icmp_eq (off := 39) (tgt := 96) h8 (by decide) (by decide +kernel) (fun c40 => ?_) (fun c40 => ?_)
      · exact p38 (Or.inl c40)
      · have w9 : ¬ (y6.1 = ((-1))) := c40
        refine sm_b (l' := [(0, vr (some (gw g))), (1, vi a1), (2, vi a2), (3, vi y6.1)]) (st' := [vi 0, vr (some (gw g))]) (pc' := 62) [(.aload_n 0, vi 0, 61), (.iconst 0, vi 0, 62)] (by decide +kernel) rfl rfl ?_
        refine sm_cvp (N := mX4_numberText) (d' := d - 1) (fun r => (some (vi r))) (some (vi (vv (m_numberText 0 τ7)))) (h10 w9) (fun y h => by rw [vv_some h]) [vi 0] [] rfl (by decide +kernel) q1956 q1958 qs115 (Or.inl ⟨rfl, q1959⟩) (show okN yX4_numberText 1 = true by decide +kernel) (fun H hR => hR.rvw G.1 G.2.1) rfl rfl (by omega) rfl (fun Q' => m_numberText_ok G (d - 1) (by omega) 0 τ7 Q') ?_
        refine sm_b (l' := [(0, vr (some (gw g))), (1, vi a1), (2, vi a2), (3, vi y6.1)]) (st' := [vr (some (gw g)), vi (vv (m_numberText 0 τ7))]) (pc' := 66) [(.aload_n 0, vi 0, 66)] (by decide +kernel) rfl rfl ?_
        refine sm_tg (k := 57) (x := vi (tI τ7 57)) G.2.1 q1475 rfl rfl (by decide +kernel) ?_
        refine sm_icmp_ne (off := 27) (tgt := 96) (h11 w9) (h12 w9) (by decide +kernel) (fun c41 => ?_) (fun c41 => ?_)
        · exact p38 (Or.inr c41)
        · exact n39 (fun q => q.elim c40 (fun q => q c41))
  · refine sm_b (l' := [(0, vr (some (gw g))), (1, vi a1), (2, vi a2)]) (st' := [vi a2, vr (some (gw g))]) (pc' := 12) [(.aload_n 0, vi 0, 11), (.iload_n 2, vi 0, 12)] (by decide +kernel) rfl rfl ?_
    refine sm_cv (N := mX4_numberText) (d' := d - 1) (fun r => (some (vi r))) (fun _ => σ) (fun _ => τ) [vi a2] [] rfl (by decide +kernel) q1956 q1958 qs115 (Or.inl ⟨rfl, q1959⟩) (show okN yX4_numberText 1 = true by decide +kernel) (fun H hR => hR.rvw G.1 G.2.1) rfl rfl (by omega) rfl (fun Q' => m_numberText_ok G (d - 1) (by omega) a2 τ Q') (fun y42 => ?_)
    refine sm_b (l' := [(0, vr (some (gw g))), (1, vi a1), (2, vi a2), (3, vi y42)]) (st' := [vi ((-1)), vi y42]) (pc' := 18) [(.istore_n 3, vi 0, 16), (.iload_n 3, vi 0, 17), (.iconst (-1), vi (-1), 18)] (by decide +kernel) rfl rfl ?_
    refine sm_gd (fun h43 => ?_)
    refine sm_case (V g mX4_numberOf d 42 [(0, vr (some (gw g))), (1, vi a1), (2, vi a2), (3, vi y42)] [] σ τ Q) (V g mX4_numberOf d 21 [(0, vr (some (gw g))), (1, vi a1), (2, vi a2), (3, vi y42)] [] σ τ Q) ?_ ?_ (fun f56 p57 n58 => ?_)
    · refine sm_b (l' := [(0, vr (some (gw g))), (1, vi a1), (2, vi a2), (3, vi y42)]) (st' := [vi ((-1))]) (pc' := 43) [(.iconst (-1), vi (-1), 43)] (by decide +kernel) rfl rfl ?_
      exact sm_iret rfl (by decide +kernel) (fun h => hRET _ h)
    · refine sm_b (l' := [(0, vr (some (gw g))), (1, vi a1), (2, vi a2), (3, vi y42)]) (st' := [vi y42, vi a2, vr (some (gw g))]) (pc' := 24) [(.aload_n 0, vi 0, 22), (.iload_n 2, vi 0, 23), (.iload_n 3, vi 0, 24)] (by decide +kernel) rfl rfl ?_
      refine sm_cv (N := mX4_isWhole) (d' := d - 1) (fun r => (some (vi r.1))) (fun _ => σ) (fun r => r.2) [vi a2, vi y42] [] rfl (by decide +kernel) q1968 q1970 qs118 (Or.inl ⟨rfl, q1971⟩) (show okN yX4_isWhole 2 = true by decide +kernel) (fun H hR => hR.rvw G.1 G.2.1) rfl rfl (by omega) rfl (fun Q' => m_isWhole_ok G (d - 1) (by omega) a2 y42 τ Q') (fun y45 => ?_)
      refine sm_gd (fun h46 => ?_)
      refine sm_gd (fun h48 => ?_)
      refine sm_gd (fun h49 => ?_)
      refine sm_case (V g mX4_numberOf d 42 [(0, vr (some (gw g))), (1, vi a1), (2, vi a2), (3, vi y42)] [] σ y45.2 Q) (V g mX4_numberOf d 38 [(0, vr (some (gw g))), (1, vi a1), (2, vi a2), (3, vi y42)] [] σ y45.2 Q) ?_ ?_ (fun f51 p52 n53 => ?_)
      · refine sm_b (l' := [(0, vr (some (gw g))), (1, vi a1), (2, vi a2), (3, vi y42)]) (st' := [vi ((-1))]) (pc' := 43) [(.iconst (-1), vi (-1), 43)] (by decide +kernel) rfl rfl ?_
        exact sm_iret rfl (by decide +kernel) (fun h => hRET _ h)
      · refine sm_b (l' := [(0, vr (some (gw g))), (1, vi a1), (2, vi a2), (3, vi y42)]) (st' := [vi y42]) (pc' := 43) [(.iload_n 3, vi 0, 39), (.goto 4, vi 0, 43)] (by decide +kernel) rfl rfl ?_
        exact sm_iret rfl (by decide +kernel) (fun h => hRET _ h)
      refine sm_if_eq (off := 15) (tgt := 42) h46 (by decide +kernel) (fun c54 => ?_) (fun c54 => ?_)
      · exact p52 (Or.inl c54)
      · have w47 : ¬ (y45.1 = 0) := c54
        refine sm_b (l' := [(0, vr (some (gw g))), (1, vi a1), (2, vi a2), (3, vi y42)]) (st' := [vi a1, vr (some (gw g))]) (pc' := 32) [(.aload_n 0, vi 0, 31), (.iload_n 1, vi 0, 32)] (by decide +kernel) rfl rfl ?_
        refine sm_cvp (N := mX4_fits) (d' := d - 1) (fun r => (some (vi r))) (some (vi (vv (m_fits a1 y45.2)))) (h48 w47) (fun y h => by rw [vv_some h]) [vi a1] [] rfl (by decide +kernel) q1979 q1981 qs120 (Or.inl ⟨rfl, q1982⟩) (show okN yX4_fits 1 = true by decide +kernel) (fun H hR => hR.rvw G.1 G.2.1) rfl rfl (by omega) rfl (fun Q' => m_fits_ok G (d - 1) (by omega) a1 y45.2 Q') ?_
        refine sm_if_eq (off := 7) (tgt := 42) (h49 w47) (by decide +kernel) (fun c55 => ?_) (fun c55 => ?_)
        · exact p52 (Or.inr c55)
        · exact n53 (fun q => q.elim c54 c55)
    refine sm_icmp_eq (off := 24) (tgt := 42) h43 (by decide) (by decide +kernel) (fun c59 => ?_) (fun c59 => ?_)
    · exact p57 c59
    · exact n58 c59
  refine sm_icmp_eq (off := 37) (tgt := 44) h2 (by decide) (by decide +kernel) (fun c63 => ?_) (fun c63 => ?_)
  · exact p61 c63
  · exact n62 c63
def m_value (rec : Int → Int → Int → TT → Option (Int × TT)) (a1 : Int) (a2 : Int) (a3 : Int) (τ : TT) : Option (Int × TT) := gd (ib a1 50) (nm (tA τ 28 a1.toNat) fun x2 => gd (rg x2) (if x2 = 8 then (Option.bind (m_literal a2 25 τ) fun y7 => Option.bind (gd (rg y7) (if y7 = ((-1)) then (some 0) else (some 1))) fun (v11 : Int64) => nm (uJ τ 59 v11) fun τ15 => nm (uI τ15 60 0) fun τ16 => gd (rg y7) (if y7 = ((-1)) then (Option.bind (m_literal a2 26 τ16) fun y21 => some ((y21, τ16))) else (some ((y7, τ16))))) else (if x2 = 9 then (Option.bind (m_string a2 τ) fun y32 => some ((y32.1, y32.2))) else (if x2 = 10 then (Option.bind (m_string a2 τ) fun y35 => gd (rg y35.1) (if y35.1 = ((-1)) then (some (((-1), y35.2))) else (Option.bind (m_unbase y35.2) fun y38 => gd (rg y38.1) (if y38.1 = 0 then (some (((-1), y38.2))) else (some ((y35.1, y38.2))))))) else (if (x2 < 16) ∨ (32 ≤ x2) then (gd (¬ (x2 < 32) → ok (m_look a2 τ)) (gd (¬ (x2 < 32) → rg (vv (m_look a2 τ))) (if (x2 < 32) ∨ (¬ ((vv (m_look a2 τ)) = 34)) then (Option.bind (m_numberOf a1 a2 τ) fun y57 => some ((y57.1, y57.2))) else (Option.bind (m_string a2 τ) fun y58 => Option.bind (gd (rg y58.1) (if y58.1 = ((-1)) then (some (((-1)))) else (Option.bind (m_valueNamed (x2 - 32) y58.2) fun y78 => some y78))) fun (v63 : Int) => gd (rg v63) (if v63 = ((-1)) then (some (((-1), y58.2))) else (gd (ib v63 40) (nm (uJ y58.2 59 (iL (tA y58.2 20 v63.toNat))) fun τ72 => nm (uI τ72 60 0) fun τ73 => some ((y58.1, τ73))))))))) else (Option.bind (rec (x2 - 16) a2 (a3 + 1) τ) fun y88 => some ((y88.1, y88.2))))))))
set_option maxHeartbeats 4000000 in
theorem m_value_ok {g : GE} (G : GG g) {D : Nat} (rec : Int → Int → Int → TT → Option (Int × TT)) (hrec : ∀ (d : Nat), D ≤ d → ∀ {σ : ST} (a1 : Int) (a2 : Int) (a3 : Int) (τ : TT) (Q' : VQ), Sm (V g mX4_object d 0 [(0, vr (some (gw g))), (1, vi a1), (2, vi a2), (3, vi a3)] [] σ τ Q') (rec a1 a2 a3 τ) (fun r => Q'.1 (some (vi r.1)) σ r.2)) {σ : ST} (d : Nat) (hd1 : D + 1 ≤ d) (hd2 : 7 ≤ d) (a1 : Int) (a2 : Int) (a3 : Int)  (τ : TT) (Q : VQ) : Sm (V g mX4_value d 0 [(0, vr (some (gw g))), (1, vi a1), (2, vi a2), (3, vi a3)] [] σ τ Q) (m_value rec a1 a2 a3 τ) (fun r => Q.1 (some (vi r.1)) σ r.2) := by
  unfold m_value
  refine sm_top (fun K hRET => ?_)
  refine sm_b (l' := [(0, vr (some (gw g))), (1, vi a1), (2, vi a2), (3, vi a3)]) (st' := [vr (some (gw g))]) (pc' := 1) [(.aload_n 0, vi 0, 1)] (by decide +kernel) rfl rfl ?_
  refine sm_tg (k := 28) (x := vr (some (gT g 28))) G.2.1 q1446 rfl rfl (by decide +kernel) ?_
  refine sm_b (l' := [(0, vr (some (gw g))), (1, vi a1), (2, vi a2), (3, vi a3)]) (st' := [vi a1, vr (some (gT g 28))]) (pc' := 5) [(.iload_n 1, vi 0, 5)] (by decide +kernel) rfl rfl ?_
  refine sm_gd (fun h1 => ?_)
  refine sm_ial (k := 28) G.2.1 (by decide) rfl (ibt (k := 28) h1) h1 (by decide +kernel) ?_
  refine sm_nmi (fun x2 => ?_)
  refine sm_b (l' := [(0, vr (some (gw g))), (1, vi a1), (2, vi a2), (3, vi a3), (4, vi x2)]) (st' := [vi 8, vi x2]) (pc' := 12) [(.istore 4, vi 0, 8), (.iload 4, vi 0, 10), (.bipush 8, vi 8, 12)] (by decide +kernel) rfl rfl ?_
  refine sm_gd (fun h3 => ?_)
  refine sm_case (V g mX4_value d 15 [(0, vr (some (gw g))), (1, vi a1), (2, vi a2), (3, vi a3), (4, vi x2)] [] σ τ Q) (V g mX4_value d 65 [(0, vr (some (gw g))), (1, vi a1), (2, vi a2), (3, vi a3), (4, vi x2)] [] σ τ Q) ?_ ?_ (fun f102 p103 n104 => ?_)
  · refine sm_b (l' := [(0, vr (some (gw g))), (1, vi a1), (2, vi a2), (3, vi a3), (4, vi x2)]) (st' := [vi a2, vr (some (gw g))]) (pc' := 17) [(.aload_n 0, vi 0, 16), (.iload_n 2, vi 0, 17)] (by decide +kernel) rfl rfl ?_
    refine sm_strw (k := 25) G rfl (by decide +kernel) ?_
    refine sm_cv (N := mX4_literal) (d' := d - 1) (fun r => (some (vi r))) (fun _ => σ) (fun _ => τ) [vi a2, vr (some (gK g 25))] [] rfl (by decide +kernel) q1928 q1930 qs109 (Or.inl ⟨rfl, q1931⟩) (show okN yX4_literal 2 = true by decide +kernel) (fun H hR => hR.rvw G.1 G.2.1) rfl rfl (by omega) rfl (fun Q' => m_literal_ok G (d - 1) (by omega) a2 25 τ Q') (fun y7 => ?_)
    refine sm_b (l' := [(0, vr (some (gw g))), (1, vi a1), (2, vi a2), (3, vi a3), (4, vi x2), (5, vi y7)]) (st' := [vi ((-1)), vi y7, vr (some (gw g))]) (pc' := 29) [(.istore 5, vi 0, 25), (.aload_n 0, vi 0, 26), (.iload 5, vi 0, 28), (.iconst (-1), vi (-1), 29)] (by decide +kernel) rfl rfl ?_
    refine sm_bind1 (fun (v11 : Int64) => V g mX4_value d 37 [(0, vr (some (gw g))), (2, vi a2), (5, vi y7)] [vl v11, vr (some (gw g))] σ τ Q) (fun v11 => ?_) (fun K12 j13 => ?_)
    · refine sm_tpj (k := 59) G.2.1 q1477 rfl rfl rfl (tp_59 g τ v11) (by decide +kernel) ?_
      refine sm_nmt (fun τ15 => ?_)
      refine sm_b (l' := [(0, vr (some (gw g))), (2, vi a2), (5, vi y7)]) (st' := [vi 0, vr (some (gw g))]) (pc' := 42) [(.aload_n 0, vi 0, 41), (.iconst 0, vi 0, 42)] (by decide +kernel) rfl rfl ?_
      refine sm_tpz (k := 60) G.2.1 q1478 rfl rfl rfl (tp_60 g τ15 0) (by decide) (by decide +kernel) ?_
      refine sm_nmt (fun τ16 => ?_)
      refine sm_b (l' := [(0, vr (some (gw g))), (2, vi a2), (5, vi y7)]) (st' := [vi ((-1)), vi y7]) (pc' := 48) [(.iload 5, vi 0, 47), (.iconst (-1), vi (-1), 48)] (by decide +kernel) rfl rfl ?_
      refine sm_gd (fun h17 => ?_)
      refine sm_case (V g mX4_value d 51 [(0, vr (some (gw g))), (2, vi a2), (5, vi y7)] [] σ τ16 Q) (V g mX4_value d 62 [(0, vr (some (gw g))), (2, vi a2), (5, vi y7)] [] σ τ16 Q) ?_ ?_ (fun f22 p23 n24 => ?_)
      · refine sm_b (l' := [(0, vr (some (gw g))), (2, vi a2), (5, vi y7)]) (st' := [vi a2, vr (some (gw g))]) (pc' := 53) [(.aload_n 0, vi 0, 52), (.iload_n 2, vi 0, 53)] (by decide +kernel) rfl rfl ?_
        refine sm_strw (k := 26) G rfl (by decide +kernel) ?_
        refine sm_cv (N := mX4_literal) (d' := d - 1) (fun r => (some (vi r))) (fun _ => σ) (fun _ => τ16) [vi a2, vr (some (gK g 26))] [] rfl (by decide +kernel) q1928 q1930 qs109 (Or.inl ⟨rfl, q1931⟩) (show okN yX4_literal 2 = true by decide +kernel) (fun H hR => hR.rvw G.1 G.2.1) rfl rfl (by omega) rfl (fun Q' => m_literal_ok G (d - 1) (by omega) a2 26 τ16 Q') (fun y21 => ?_)
        refine sm_b (l' := [(0, vr (some (gw g))), (2, vi a2), (5, vi y7)]) (st' := [vi y21]) (pc' := 64) [(.goto 5, vi 0, 64)] (by decide +kernel) rfl rfl ?_
        exact sm_iret rfl (by decide +kernel) (fun h => hRET _ h)
      · refine sm_b (l' := [(0, vr (some (gw g))), (2, vi a2), (5, vi y7)]) (st' := [vi y7]) (pc' := 64) [(.iload 5, vi 0, 64)] (by decide +kernel) rfl rfl ?_
        exact sm_iret rfl (by decide +kernel) (fun h => hRET _ h)
      refine sm_icmp_ne (off := 14) (tgt := 62) h17 (by decide) (by decide +kernel) (fun c25 => ?_) (fun c25 => ?_)
      · exact n24 c25
      · exact p23 c25
    · refine sm_gd (fun h8 => ?_)
      refine sm_case (V g mX4_value d 32 [(0, vr (some (gw g))), (1, vi a1), (2, vi a2), (3, vi a3), (4, vi x2), (5, vi y7)] [vr (some (gw g))] σ τ Q) (V g mX4_value d 36 [(0, vr (some (gw g))), (1, vi a1), (2, vi a2), (3, vi a3), (4, vi x2), (5, vi y7)] [vr (some (gw g))] σ τ Q) ?_ ?_ (fun f26 p27 n28 => ?_)
      · refine sm_b (l' := [(0, vr (some (gw g))), (1, vi a1), (2, vi a2), (3, vi a3), (4, vi x2), (5, vi y7)]) (st' := [vl 0, vr (some (gw g))]) (pc' := 37) [(.lconst 0, vl 0, 33), (.goto 4, vi 0, 37)] (by decide +kernel) rfl rfl ?_
        refine sm_pick [0, 2, 5] (l' := [(0, vr (some (gw g))), (2, vi a2), (5, vi y7)]) rfl ?_
        exact sm_leaf (fun h => j13 _ h)
      · refine sm_b (l' := [(0, vr (some (gw g))), (1, vi a1), (2, vi a2), (3, vi a3), (4, vi x2), (5, vi y7)]) (st' := [vl 1, vr (some (gw g))]) (pc' := 37) [(.lconst 1, vl 1, 37)] (by decide +kernel) rfl rfl ?_
        refine sm_pick [0, 2, 5] (l' := [(0, vr (some (gw g))), (2, vi a2), (5, vi y7)]) rfl ?_
        exact sm_leaf (fun h => j13 _ h)
      refine sm_icmp_ne (off := 7) (tgt := 36) h8 (by decide) (by decide +kernel) (fun c29 => ?_) (fun c29 => ?_)
      · exact n28 c29
      · exact p27 c29
  · refine sm_b (l' := [(0, vr (some (gw g))), (1, vi a1), (2, vi a2), (3, vi a3), (4, vi x2)]) (st' := [vi 9, vi x2]) (pc' := 69) [(.iload 4, vi 0, 67), (.bipush 9, vi 9, 69)] (by decide +kernel) rfl rfl ?_
    refine sm_case (V g mX4_value d 72 [(0, vr (some (gw g))), (1, vi a1), (2, vi a2), (3, vi a3), (4, vi x2)] [] σ τ Q) (V g mX4_value d 78 [(0, vr (some (gw g))), (1, vi a1), (2, vi a2), (3, vi a3), (4, vi x2)] [] σ τ Q) ?_ ?_ (fun f98 p99 n100 => ?_)
    · refine sm_b (l' := [(0, vr (some (gw g))), (1, vi a1), (2, vi a2), (3, vi a3), (4, vi x2)]) (st' := [vi a2, vr (some (gw g))]) (pc' := 74) [(.aload_n 0, vi 0, 73), (.iload_n 2, vi 0, 74)] (by decide +kernel) rfl rfl ?_
      refine sm_cv (N := mX4_string) (d' := d - 1) (fun r => (some (vi r.1))) (fun _ => σ) (fun r => r.2) [vi a2] [] rfl (by decide +kernel) q1906 q1908 qs104 (Or.inl ⟨rfl, q1909⟩) (show okN yX4_string 1 = true by decide +kernel) (fun H hR => hR.rvw G.1 G.2.1) rfl rfl (by omega) rfl (fun Q' => m_string_ok G (d - 1) (by omega) a2 τ Q') (fun y32 => ?_)
      exact sm_iret rfl (by decide +kernel) (fun h => hRET _ h)
    · refine sm_b (l' := [(0, vr (some (gw g))), (1, vi a1), (2, vi a2), (3, vi a3), (4, vi x2)]) (st' := [vi 10, vi x2]) (pc' := 82) [(.iload 4, vi 0, 80), (.bipush 10, vi 10, 82)] (by decide +kernel) rfl rfl ?_
      refine sm_case (V g mX4_value d 85 [(0, vr (some (gw g))), (1, vi a1), (2, vi a2), (3, vi a3), (4, vi x2)] [] σ τ Q) (V g mX4_value d 112 [(0, vr (some (gw g))), (1, vi a1), (2, vi a2), (3, vi a3), (4, vi x2)] [] σ τ Q) ?_ ?_ (fun f94 p95 n96 => ?_)
      · refine sm_b (l' := [(0, vr (some (gw g))), (1, vi a1), (2, vi a2), (3, vi a3), (4, vi x2)]) (st' := [vi a2, vr (some (gw g))]) (pc' := 87) [(.aload_n 0, vi 0, 86), (.iload_n 2, vi 0, 87)] (by decide +kernel) rfl rfl ?_
        refine sm_cv (N := mX4_string) (d' := d - 1) (fun r => (some (vi r.1))) (fun _ => σ) (fun r => r.2) [vi a2] [] rfl (by decide +kernel) q1906 q1908 qs104 (Or.inl ⟨rfl, q1909⟩) (show okN yX4_string 1 = true by decide +kernel) (fun H hR => hR.rvw G.1 G.2.1) rfl rfl (by omega) rfl (fun Q' => m_string_ok G (d - 1) (by omega) a2 τ Q') (fun y35 => ?_)
        refine sm_b (l' := [(0, vr (some (gw g))), (1, vi a1), (2, vi a2), (3, vi a3), (4, vi x2), (5, vi y35.1)]) (st' := [vi ((-1)), vi y35.1]) (pc' := 95) [(.istore 5, vi 0, 92), (.iload 5, vi 0, 94), (.iconst (-1), vi (-1), 95)] (by decide +kernel) rfl rfl ?_
        refine sm_gd (fun h36 => ?_)
        refine sm_case (V g mX4_value d 110 [(0, vr (some (gw g))), (1, vi a1), (2, vi a2), (3, vi a3), (4, vi x2), (5, vi y35.1)] [] σ y35.2 Q) (V g mX4_value d 98 [(0, vr (some (gw g))), (1, vi a1), (2, vi a2), (3, vi a3), (4, vi x2), (5, vi y35.1)] [] σ y35.2 Q) ?_ ?_ (fun f45 p46 n47 => ?_)
        · refine sm_b (l' := [(0, vr (some (gw g))), (1, vi a1), (2, vi a2), (3, vi a3), (4, vi x2), (5, vi y35.1)]) (st' := [vi ((-1))]) (pc' := 111) [(.iconst (-1), vi (-1), 111)] (by decide +kernel) rfl rfl ?_
          exact sm_iret rfl (by decide +kernel) (fun h => hRET _ h)
        · refine sm_b (l' := [(0, vr (some (gw g))), (1, vi a1), (2, vi a2), (3, vi a3), (4, vi x2), (5, vi y35.1)]) (st' := [vr (some (gw g))]) (pc' := 99) [(.aload_n 0, vi 0, 99)] (by decide +kernel) rfl rfl ?_
          refine sm_cv (N := mX4_unbase) (d' := d - 1) (fun r => (some (vi r.1))) (fun _ => σ) (fun r => r.2) [] [] rfl (by decide +kernel) q1940 q1942 qs112 (Or.inl ⟨rfl, q1943⟩) (show okN yX4_unbase 0 = true by decide +kernel) (fun H hR => hR.rvw G.1 G.2.1) rfl rfl (by omega) rfl (fun Q' => m_unbase_ok G (d - 1) (by omega)  y35.2 Q') (fun y38 => ?_)
          refine sm_gd (fun h39 => ?_)
          refine sm_case (V g mX4_value d 110 [(0, vr (some (gw g))), (1, vi a1), (2, vi a2), (3, vi a3), (4, vi x2), (5, vi y35.1)] [] σ y38.2 Q) (V g mX4_value d 105 [(0, vr (some (gw g))), (1, vi a1), (2, vi a2), (3, vi a3), (4, vi x2), (5, vi y35.1)] [] σ y38.2 Q) ?_ ?_ (fun f41 p42 n43 => ?_)
          · refine sm_b (l' := [(0, vr (some (gw g))), (1, vi a1), (2, vi a2), (3, vi a3), (4, vi x2), (5, vi y35.1)]) (st' := [vi ((-1))]) (pc' := 111) [(.iconst (-1), vi (-1), 111)] (by decide +kernel) rfl rfl ?_
            exact sm_iret rfl (by decide +kernel) (fun h => hRET _ h)
          · refine sm_b (l' := [(0, vr (some (gw g))), (1, vi a1), (2, vi a2), (3, vi a3), (4, vi x2), (5, vi y35.1)]) (st' := [vi y35.1]) (pc' := 111) [(.iload 5, vi 0, 107), (.goto 4, vi 0, 111)] (by decide +kernel) rfl rfl ?_
            exact sm_iret rfl (by decide +kernel) (fun h => hRET _ h)
          refine sm_if_eq (off := 8) (tgt := 110) h39 (by decide +kernel) (fun c44 => ?_) (fun c44 => ?_)
          · exact p42 c44
          · exact n43 c44
        refine sm_icmp_eq (off := 15) (tgt := 110) h36 (by decide) (by decide +kernel) (fun c48 => ?_) (fun c48 => ?_)
        · exact p46 c48
        · exact n47 c48
      · refine sm_b (l' := [(0, vr (some (gw g))), (1, vi a1), (2, vi a2), (3, vi a3), (4, vi x2)]) (st' := [vi 16, vi x2]) (pc' := 116) [(.iload 4, vi 0, 114), (.bipush 16, vi 16, 116)] (by decide +kernel) rfl rfl ?_
        refine sm_case (V g mX4_value d 140 [(0, vr (some (gw g))), (1, vi a1), (2, vi a2), (3, vi a3), (4, vi x2)] [] σ τ Q) (V g mX4_value d 126 [(0, vr (some (gw g))), (1, vi a1), (2, vi a2), (3, vi a3), (4, vi x2)] [] σ τ Q) ?_ ?_ (fun f89 p90 n91 => ?_)
        · refine sm_b (l' := [(0, vr (some (gw g))), (1, vi a1), (2, vi a2), (3, vi a3), (4, vi x2)]) (st' := [vi 32, vi x2]) (pc' := 144) [(.iload 4, vi 0, 142), (.bipush 32, vi 32, 144)] (by decide +kernel) rfl rfl ?_
          refine sm_gd (fun h53 => ?_)
          refine sm_gd (fun h54 => ?_)
          refine sm_case (V g mX4_value d 213 [(0, vr (some (gw g))), (1, vi a1), (2, vi a2), (3, vi a3), (4, vi x2)] [] σ τ Q) (V g mX4_value d 157 [(0, vr (some (gw g))), (1, vi a1), (2, vi a2), (3, vi a3), (4, vi x2)] [] σ τ Q) ?_ ?_ (fun f83 p84 n85 => ?_)
          · refine sm_b (l' := [(0, vr (some (gw g))), (1, vi a1), (2, vi a2), (3, vi a3), (4, vi x2)]) (st' := [vi a2, vi a1, vr (some (gw g))]) (pc' := 216) [(.aload_n 0, vi 0, 214), (.iload_n 1, vi 0, 215), (.iload_n 2, vi 0, 216)] (by decide +kernel) rfl rfl ?_
            refine sm_cv (N := mX4_numberOf) (d' := d - 1) (fun r => (some (vi r.1))) (fun _ => σ) (fun r => r.2) [vi a1, vi a2] [] rfl (by decide +kernel) q1952 q1954 qs114 (Or.inl ⟨rfl, q1955⟩) (show okN yX4_numberOf 2 = true by decide +kernel) (fun H hR => hR.rvw G.1 G.2.1) rfl rfl (by omega) rfl (fun Q' => m_numberOf_ok G (d - 1) (by omega) a1 a2 τ Q') (fun y57 => ?_)
            exact sm_iret rfl (by decide +kernel) (fun h => hRET _ h)
          · refine sm_b (l' := [(0, vr (some (gw g))), (1, vi a1), (2, vi a2), (3, vi a3), (4, vi x2)]) (st' := [vi a2, vr (some (gw g))]) (pc' := 159) [(.aload_n 0, vi 0, 158), (.iload_n 2, vi 0, 159)] (by decide +kernel) rfl rfl ?_
            refine sm_cv (N := mX4_string) (d' := d - 1) (fun r => (some (vi r.1))) (fun _ => σ) (fun r => r.2) [vi a2] [] rfl (by decide +kernel) q1906 q1908 qs104 (Or.inl ⟨rfl, q1909⟩) (show okN yX4_string 1 = true by decide +kernel) (fun H hR => hR.rvw G.1 G.2.1) rfl rfl (by omega) rfl (fun Q' => m_string_ok G (d - 1) (by omega) a2 τ Q') (fun y58 => ?_)
            refine sm_b (l' := [(0, vr (some (gw g))), (1, vi a1), (2, vi a2), (3, vi a3), (4, vi x2), (5, vi y58.1)]) (st' := [vi ((-1)), vi y58.1]) (pc' := 167) [(.istore 5, vi 0, 164), (.iload 5, vi 0, 166), (.iconst (-1), vi (-1), 167)] (by decide +kernel) rfl rfl ?_
            refine sm_bind1 (fun (v63 : Int) => V g mX4_value d 183 [(0, vr (some (gw g))), (5, vi y58.1)] [vi v63] σ y58.2 Q) (fun v63 => ?_) (fun K64 j65 => ?_)
            · refine sm_b (l' := [(0, vr (some (gw g))), (5, vi y58.1), (6, vi v63)]) (st' := [vi ((-1)), vi v63]) (pc' := 188) [(.istore 6, vi 0, 185), (.iload 6, vi 0, 187), (.iconst (-1), vi (-1), 188)] (by decide +kernel) rfl rfl ?_
              refine sm_gd (fun h67 => ?_)
              refine sm_case (V g mX4_value d 191 [(0, vr (some (gw g))), (5, vi y58.1), (6, vi v63)] [] σ y58.2 Q) (V g mX4_value d 193 [(0, vr (some (gw g))), (5, vi y58.1), (6, vi v63)] [] σ y58.2 Q) ?_ ?_ (fun f74 p75 n76 => ?_)
              · refine sm_b (l' := [(0, vr (some (gw g))), (5, vi y58.1), (6, vi v63)]) (st' := [vi ((-1))]) (pc' := 192) [(.iconst (-1), vi (-1), 192)] (by decide +kernel) rfl rfl ?_
                exact sm_iret rfl (by decide +kernel) (fun h => hRET _ h)
              · refine sm_b (l' := [(0, vr (some (gw g))), (5, vi y58.1), (6, vi v63)]) (st' := [vr (some (gw g)), vr (some (gw g))]) (pc' := 195) [(.aload_n 0, vi 0, 194), (.aload_n 0, vi 0, 195)] (by decide +kernel) rfl rfl ?_
                refine sm_tg (k := 20) (x := vr (some (gT g 20))) G.2.1 q1438 rfl rfl (by decide +kernel) ?_
                refine sm_b (l' := [(0, vr (some (gw g))), (5, vi y58.1), (6, vi v63)]) (st' := [vi v63, vr (some (gT g 20)), vr (some (gw g))]) (pc' := 200) [(.iload 6, vi 0, 200)] (by decide +kernel) rfl rfl ?_
                refine sm_gd (fun h71 => ?_)
                refine sm_ial (k := 20) G.2.1 (by decide) rfl (ibt (k := 20) h71) h71 (by decide +kernel) ?_
                refine sm_b (l' := [(0, vr (some (gw g))), (5, vi y58.1), (6, vi v63)]) (st' := [vl (iL (tA y58.2 20 v63.toNat)), vr (some (gw g))]) (pc' := 202) [(.i2l, vi 0, 202)] (by decide +kernel) rfl rfl ?_
                refine sm_tpj (k := 59) G.2.1 q1477 rfl rfl rfl (tp_59 g y58.2 (iL (tA y58.2 20 v63.toNat))) (by decide +kernel) ?_
                refine sm_nmt (fun τ72 => ?_)
                refine sm_b (l' := [(0, vr (some (gw g))), (5, vi y58.1), (6, vi v63)]) (st' := [vi 0, vr (some (gw g))]) (pc' := 207) [(.aload_n 0, vi 0, 206), (.iconst 0, vi 0, 207)] (by decide +kernel) rfl rfl ?_
                refine sm_tpz (k := 60) G.2.1 q1478 rfl rfl rfl (tp_60 g τ72 0) (by decide) (by decide +kernel) ?_
                refine sm_nmt (fun τ73 => ?_)
                refine sm_b (l' := [(0, vr (some (gw g))), (5, vi y58.1), (6, vi v63)]) (st' := [vi y58.1]) (pc' := 212) [(.iload 5, vi 0, 212)] (by decide +kernel) rfl rfl ?_
                exact sm_iret rfl (by decide +kernel) (fun h => hRET _ h)
              refine sm_icmp_ne (off := 5) (tgt := 193) h67 (by decide) (by decide +kernel) (fun c77 => ?_) (fun c77 => ?_)
              · exact n76 c77
              · exact p75 c77
            · refine sm_gd (fun h59 => ?_)
              refine sm_case (V g mX4_value d 170 [(0, vr (some (gw g))), (1, vi a1), (2, vi a2), (3, vi a3), (4, vi x2), (5, vi y58.1)] [] σ y58.2 Q) (V g mX4_value d 174 [(0, vr (some (gw g))), (1, vi a1), (2, vi a2), (3, vi a3), (4, vi x2), (5, vi y58.1)] [] σ y58.2 Q) ?_ ?_ (fun f79 p80 n81 => ?_)
              · refine sm_b (l' := [(0, vr (some (gw g))), (1, vi a1), (2, vi a2), (3, vi a3), (4, vi x2), (5, vi y58.1)]) (st' := [vi ((-1))]) (pc' := 183) [(.iconst (-1), vi (-1), 171), (.goto 12, vi 0, 183)] (by decide +kernel) rfl rfl ?_
                refine sm_pick [0, 5] (l' := [(0, vr (some (gw g))), (5, vi y58.1)]) rfl ?_
                exact sm_leaf (fun h => j65 _ h)
              · refine sm_b (l' := [(0, vr (some (gw g))), (1, vi a1), (2, vi a2), (3, vi a3), (4, vi x2), (5, vi y58.1)]) (st' := [vi (x2 - 32), vr (some (gw g))]) (pc' := 180) [(.aload_n 0, vi 0, 175), (.iload 4, vi 0, 177), (.bipush 32, vi 32, 179), (.isub, vi 0, 180)] (by decide +kernel) rfl rfl ?_
                refine sm_cv (N := mX4_valueNamed) (d' := d - 1) (fun r => (some (vi r))) (fun _ => σ) (fun _ => y58.2) [vi (x2 - 32)] [] rfl (by decide +kernel) q1948 q1950 qs113 (Or.inl ⟨rfl, q1951⟩) (show okN yX4_valueNamed 1 = true by decide +kernel) (fun H hR => hR.rvw G.1 G.2.1) rfl rfl (by omega) rfl (fun Q' => m_valueNamed_ok G (d - 1) (by omega) (x2 - 32) y58.2 Q') (fun y78 => ?_)
                refine sm_pick [0, 5] (l' := [(0, vr (some (gw g))), (5, vi y58.1)]) rfl ?_
                exact sm_leaf (fun h => j65 _ h)
              refine sm_icmp_ne (off := 7) (tgt := 174) h59 (by decide) (by decide +kernel) (fun c82 => ?_) (fun c82 => ?_)
              · exact n81 c82
              · exact p80 c82
          refine sm_icmp_lt (off := 69) (tgt := 213) h3 (by decide) (by decide +kernel) (fun c86 => ?_) (fun c86 => ?_)
          · exact p84 (Or.inl c86)
          · have w52 : ¬ (x2 < 32) := c86
            refine sm_b (l' := [(0, vr (some (gw g))), (1, vi a1), (2, vi a2), (3, vi a3), (4, vi x2)]) (st' := [vi a2, vr (some (gw g))]) (pc' := 149) [(.aload_n 0, vi 0, 148), (.iload_n 2, vi 0, 149)] (by decide +kernel) rfl rfl ?_
            refine sm_cvp (N := mX4_look) (d' := d - 1) (fun r => (some (vi r))) (some (vi (vv (m_look a2 τ)))) (h53 w52) (fun y h => by rw [vv_some h]) [vi a2] [] rfl (by decide +kernel) q1902 q1904 qs103 (Or.inl ⟨rfl, q1905⟩) (show okN yX4_look 1 = true by decide +kernel) (fun H hR => hR.rvw G.1 G.2.1) rfl rfl (by omega) rfl (fun Q' => m_look_ok G (d - 1) (by omega) a2 τ Q') ?_
            refine sm_b (l' := [(0, vr (some (gw g))), (1, vi a1), (2, vi a2), (3, vi a3), (4, vi x2)]) (st' := [vi 34, vi (vv (m_look a2 τ))]) (pc' := 154) [(.bipush 34, vi 34, 154)] (by decide +kernel) rfl rfl ?_
            refine sm_icmp_ne (off := 59) (tgt := 213) (h54 w52) (by decide) (by decide +kernel) (fun c87 => ?_) (fun c87 => ?_)
            · exact p84 (Or.inr c87)
            · exact n85 (fun q => q.elim c86 (fun q => q c87))
        · refine sm_b (l' := [(0, vr (some (gw g))), (1, vi a1), (2, vi a2), (3, vi a3), (4, vi x2)]) (st' := [vi (a3 + 1), vi a2, vi (x2 - 16), vr (some (gw g))]) (pc' := 136) [(.aload_n 0, vi 0, 127), (.iload 4, vi 0, 129), (.bipush 16, vi 16, 131), (.isub, vi 0, 132), (.iload_n 2, vi 0, 133), (.iload_n 3, vi 0, 134), (.iconst 1, vi 1, 135), (.iadd, vi 0, 136)] (by decide +kernel) rfl rfl ?_
          refine sm_cv (N := mX4_object) (d' := d - 1) (fun r => (some (vi r.1))) (fun _ => σ) (fun r => r.2) [vi (x2 - 16), vi a2, vi (a3 + 1)] [] rfl (by decide +kernel) q1898 q1900 qs102 (Or.inl ⟨rfl, q1901⟩) (show okN yX4_object 3 = true by decide +kernel) (fun H hR => hR.rvw G.1 G.2.1) rfl rfl (by omega) rfl (fun Q' => hrec (d - 1) (by omega) (x2 - 16) a2 (a3 + 1) τ Q') (fun y88 => ?_)
          exact sm_iret rfl (by decide +kernel) (fun h => hRET _ h)
        refine sm_icmp_lt (off := 24) (tgt := 140) h3 (by decide) (by decide +kernel) (fun c92 => ?_) (fun c92 => ?_)
        · exact p90 (Or.inl c92)
        · refine sm_b (l' := [(0, vr (some (gw g))), (1, vi a1), (2, vi a2), (3, vi a3), (4, vi x2)]) (st' := [vi 32, vi x2]) (pc' := 123) [(.iload 4, vi 0, 121), (.bipush 32, vi 32, 123)] (by decide +kernel) rfl rfl ?_
          refine sm_icmp_ge (off := 17) (tgt := 140) h3 (by decide) (by decide +kernel) (fun c93 => ?_) (fun c93 => ?_)
          · exact p90 (Or.inr c93)
          · exact n91 (fun q => q.elim c92 c93)
      refine sm_icmp_ne (off := 30) (tgt := 112) h3 (by decide) (by decide +kernel) (fun c97 => ?_) (fun c97 => ?_)
      · exact n96 c97
      · exact p95 c97
    refine sm_icmp_ne (off := 9) (tgt := 78) h3 (by decide) (by decide +kernel) (fun c101 => ?_) (fun c101 => ?_)
    · exact n100 c101
    · exact p99 c101
  refine sm_icmp_ne (off := 53) (tgt := 65) h3 (by decide) (by decide +kernel) (fun c105 => ?_) (fun c105 => ?_)
  · exact n104 c105
  · exact p103 c105
def m_array_L37 (rec : Int → Int → Int → TT → Option (Int × TT)) (u1 : Int) (u3 : Int) : Nat → Int → TT → Option ((Int × TT) ⊕ (Int × TT))
  | 0, _, _ => none
  | n + 1, w4, τ => Option.bind (m_value rec u1 w4 u3 τ) fun y15 => gd (rg y15.1) (if y15.1 = ((-1)) then (some (Sum.inl (((-1), y15.2)))) else (Option.bind (m_blanks y15.1 y15.2) fun y20 => Option.bind (m_look y20 y15.2) fun y21 => gd (rg y21) (if y21 = 93 then (some (Sum.inr ((y20, y15.2)))) else (Option.bind (m_look y20 y15.2) fun y26 => gd (rg y26) (if y26 = 44 then (Option.bind (m_blanks (y20 + 1) y15.2) fun y31 => m_array_L37 rec u1 u3 n y31 y15.2) else (some (Sum.inl (((-1), y15.2)))))))))
def m_array (rec : Int → Int → Int → TT → Option (Int × TT)) (a1 : Int) (a2 : Int) (a3 : Int) (τ : TT) : Option (Int × TT) := Option.bind (m_look a2 τ) fun y1 => gd (rg y1) (if y1 = 91 then (Option.bind (m_blanks (a2 + 1) τ) fun y6 => Option.bind (m_look y6 τ) fun y7 => gd (rg y7) (if y7 = 93 then (some ((y6 + 1, τ))) else (Option.bind (m_array_L37 rec a1 a3 FU y6 τ) (Sum.elim some fun (v10 : Int × TT) => some ((v10.1 + 1, v10.2)))))) else (some (((-1), τ))))
set_option maxHeartbeats 4000000 in
theorem m_array_L37_ok {g : GE} (G : GG g) {D : Nat} (rec : Int → Int → Int → TT → Option (Int × TT)) (hrec : ∀ (d : Nat), D ≤ d → ∀ {σ : ST} (a1 : Int) (a2 : Int) (a3 : Int) (τ : TT) (Q' : VQ), Sm (V g mX4_object d 0 [(0, vr (some (gw g))), (1, vi a1), (2, vi a2), (3, vi a3)] [] σ τ Q') (rec a1 a2 a3 τ) (fun r => Q'.1 (some (vi r.1)) σ r.2)) {σ : ST} {Q : VQ} (d : Nat) (hd1 : D + 2 ≤ d) (hd2 : 8 ≤ d) (u1 : Int) (u3 : Int)  {K : (Int × TT) ⊕ (Int × TT) → Prop} (hRET : ∀ r : Int × TT, K (Sum.inl r) → Q.1 (some (vi r.1)) σ r.2) (hE74 : ∀ v14 : Int × TT, K (Sum.inr v14) → V g mX4_array d 74 [(4, vi v14.1)] [] σ v14.2 Q) : ∀ (n : Nat) (w4 : Int) (τ : TT), Sm (V g mX4_array d 37 [(0, vr (some (gw g))), (1, vi u1), (3, vi u3), (4, vi w4)] [] σ τ Q) (m_array_L37 rec u1 u3 n w4 τ) K := by
  intro n
  induction n with
  | zero => intro w4 τ; exact sm_none
  | succ n ih =>
    intro w4 τ
    rw [m_array_L37.eq_2]
    refine sm_b (l' := [(0, vr (some (gw g))), (1, vi u1), (3, vi u3), (4, vi w4)]) (st' := [vi u3, vi w4, vi u1, vr (some (gw g))]) (pc' := 42) [(.aload_n 0, vi 0, 38), (.iload_n 1, vi 0, 39), (.iload 4, vi 0, 41), (.iload_n 3, vi 0, 42)] (by decide +kernel) rfl rfl ?_
    refine sm_cv (N := mX4_value) (d' := d - 1) (fun r => (some (vi r.1))) (fun _ => σ) (fun r => r.2) [vi u1, vi w4, vi u3] [] rfl (by decide +kernel) q1936 q1938 qs111 (Or.inl ⟨rfl, q1939⟩) (show okN yX4_value 3 = true by decide +kernel) (fun H hR => hR.rvw G.1 G.2.1) rfl rfl (by omega) rfl (fun Q' => m_value_ok G (D := D) rec hrec (d - 1) (by omega) (by omega) u1 w4 u3 τ Q') (fun y15 => ?_)
    refine sm_b (l' := [(0, vr (some (gw g))), (1, vi u1), (3, vi u3), (4, vi y15.1)]) (st' := [vi ((-1)), vi y15.1]) (pc' := 50) [(.istore 4, vi 0, 47), (.iload 4, vi 0, 49), (.iconst (-1), vi (-1), 50)] (by decide +kernel) rfl rfl ?_
    refine sm_gd (fun h16 => ?_)
    refine sm_case (V g mX4_array d 53 [(0, vr (some (gw g))), (1, vi u1), (3, vi u3), (4, vi y15.1)] [] σ y15.2 Q) (V g mX4_array d 55 [(0, vr (some (gw g))), (1, vi u1), (3, vi u3), (4, vi y15.1)] [] σ y15.2 Q) ?_ ?_ (fun f40 p41 n42 => ?_)
    · refine sm_b (l' := [(0, vr (some (gw g))), (1, vi u1), (3, vi u3), (4, vi y15.1)]) (st' := [vi ((-1))]) (pc' := 54) [(.iconst (-1), vi (-1), 54)] (by decide +kernel) rfl rfl ?_
      exact sm_iret rfl (by decide +kernel) (fun h => hRET _ h)
    · refine sm_b (l' := [(0, vr (some (gw g))), (1, vi u1), (3, vi u3), (4, vi y15.1)]) (st' := [vi y15.1, vr (some (gw g))]) (pc' := 58) [(.aload_n 0, vi 0, 56), (.iload 4, vi 0, 58)] (by decide +kernel) rfl rfl ?_
      refine sm_cv (N := mX4_blanks) (d' := d - 1) (fun r => (some (vi r))) (fun _ => σ) (fun _ => y15.2) [vi y15.1] [] rfl (by decide +kernel) q1894 q1896 qs101 (Or.inl ⟨rfl, q1897⟩) (show okN yX4_blanks 1 = true by decide +kernel) (fun H hR => hR.rvw G.1 G.2.1) rfl rfl (by omega) rfl (fun Q' => m_blanks_ok G (d - 1) (by omega) y15.1 y15.2 Q') (fun y20 => ?_)
      refine sm_b (l' := [(0, vr (some (gw g))), (1, vi u1), (3, vi u3), (4, vi y20)]) (st' := [vi y20, vr (some (gw g))]) (pc' := 66) [(.istore 4, vi 0, 63), (.aload_n 0, vi 0, 64), (.iload 4, vi 0, 66)] (by decide +kernel) rfl rfl ?_
      refine sm_cv (N := mX4_look) (d' := d - 1) (fun r => (some (vi r))) (fun _ => σ) (fun _ => y15.2) [vi y20] [] rfl (by decide +kernel) q1902 q1904 qs103 (Or.inl ⟨rfl, q1905⟩) (show okN yX4_look 1 = true by decide +kernel) (fun H hR => hR.rvw G.1 G.2.1) rfl rfl (by omega) rfl (fun Q' => m_look_ok G (d - 1) (by omega) y20 y15.2 Q') (fun y21 => ?_)
      refine sm_b (l' := [(0, vr (some (gw g))), (1, vi u1), (3, vi u3), (4, vi y20)]) (st' := [vi 93, vi y21]) (pc' := 71) [(.bipush 93, vi 93, 71)] (by decide +kernel) rfl rfl ?_
      refine sm_gd (fun h22 => ?_)
      refine sm_case (V g mX4_array d 74 [(0, vr (some (gw g))), (1, vi u1), (3, vi u3), (4, vi y20)] [] σ y15.2 Q) (V g mX4_array d 79 [(0, vr (some (gw g))), (1, vi u1), (3, vi u3), (4, vi y20)] [] σ y15.2 Q) ?_ ?_ (fun f36 p37 n38 => ?_)
      · refine sm_pick [3] (l' := [(4, vi y20)]) rfl ?_
        exact sm_leaf (fun h => hE74 _ h)
      · refine sm_b (l' := [(0, vr (some (gw g))), (1, vi u1), (3, vi u3), (4, vi y20)]) (st' := [vi y20, vr (some (gw g))]) (pc' := 82) [(.aload_n 0, vi 0, 80), (.iload 4, vi 0, 82)] (by decide +kernel) rfl rfl ?_
        refine sm_cv (N := mX4_look) (d' := d - 1) (fun r => (some (vi r))) (fun _ => σ) (fun _ => y15.2) [vi y20] [] rfl (by decide +kernel) q1902 q1904 qs103 (Or.inl ⟨rfl, q1905⟩) (show okN yX4_look 1 = true by decide +kernel) (fun H hR => hR.rvw G.1 G.2.1) rfl rfl (by omega) rfl (fun Q' => m_look_ok G (d - 1) (by omega) y20 y15.2 Q') (fun y26 => ?_)
        refine sm_b (l' := [(0, vr (some (gw g))), (1, vi u1), (3, vi u3), (4, vi y20)]) (st' := [vi 44, vi y26]) (pc' := 87) [(.bipush 44, vi 44, 87)] (by decide +kernel) rfl rfl ?_
        refine sm_gd (fun h27 => ?_)
        refine sm_case (V g mX4_array d 92 [(0, vr (some (gw g))), (1, vi u1), (3, vi u3), (4, vi y20)] [] σ y15.2 Q) (V g mX4_array d 90 [(0, vr (some (gw g))), (1, vi u1), (3, vi u3), (4, vi y20)] [] σ y15.2 Q) ?_ ?_ (fun f32 p33 n34 => ?_)
        · refine sm_b (l' := [(0, vr (some (gw g))), (1, vi u1), (3, vi u3), (4, vi y20)]) (st' := [vi (y20 + 1), vr (some (gw g))]) (pc' := 97) [(.aload_n 0, vi 0, 93), (.iload 4, vi 0, 95), (.iconst 1, vi 1, 96), (.iadd, vi 0, 97)] (by decide +kernel) rfl rfl ?_
          refine sm_cv (N := mX4_blanks) (d' := d - 1) (fun r => (some (vi r))) (fun _ => σ) (fun _ => y15.2) [vi (y20 + 1)] [] rfl (by decide +kernel) q1894 q1896 qs101 (Or.inl ⟨rfl, q1897⟩) (show okN yX4_blanks 1 = true by decide +kernel) (fun H hR => hR.rvw G.1 G.2.1) rfl rfl (by omega) rfl (fun Q' => m_blanks_ok G (d - 1) (by omega) (y20 + 1) y15.2 Q') (fun y31 => ?_)
          refine sm_b (l' := [(0, vr (some (gw g))), (1, vi u1), (3, vi u3), (4, vi y31)]) (st' := []) (pc' := 37) [(.istore 4, vi 0, 102), (.goto (-65), vi 0, 37)] (by decide +kernel) rfl rfl ?_
          exact ih y31 y15.2
        · refine sm_b (l' := [(0, vr (some (gw g))), (1, vi u1), (3, vi u3), (4, vi y20)]) (st' := [vi ((-1))]) (pc' := 91) [(.iconst (-1), vi (-1), 91)] (by decide +kernel) rfl rfl ?_
          exact sm_iret rfl (by decide +kernel) (fun h => hRET _ h)
        refine sm_icmp_eq (off := 5) (tgt := 92) h27 (by decide) (by decide +kernel) (fun c35 => ?_) (fun c35 => ?_)
        · exact p33 c35
        · exact n34 c35
      refine sm_icmp_ne (off := 8) (tgt := 79) h22 (by decide) (by decide +kernel) (fun c39 => ?_) (fun c39 => ?_)
      · exact n38 c39
      · exact p37 c39
    refine sm_icmp_ne (off := 5) (tgt := 55) h16 (by decide) (by decide +kernel) (fun c43 => ?_) (fun c43 => ?_)
    · exact n42 c43
    · exact p41 c43
set_option maxHeartbeats 4000000 in
theorem m_array_ok {g : GE} (G : GG g) {D : Nat} (rec : Int → Int → Int → TT → Option (Int × TT)) (hrec : ∀ (d : Nat), D ≤ d → ∀ {σ : ST} (a1 : Int) (a2 : Int) (a3 : Int) (τ : TT) (Q' : VQ), Sm (V g mX4_object d 0 [(0, vr (some (gw g))), (1, vi a1), (2, vi a2), (3, vi a3)] [] σ τ Q') (rec a1 a2 a3 τ) (fun r => Q'.1 (some (vi r.1)) σ r.2)) {σ : ST} (d : Nat) (hd1 : D + 2 ≤ d) (hd2 : 8 ≤ d) (a1 : Int) (a2 : Int) (a3 : Int)  (τ : TT) (Q : VQ) : Sm (V g mX4_array d 0 [(0, vr (some (gw g))), (1, vi a1), (2, vi a2), (3, vi a3)] [] σ τ Q) (m_array rec a1 a2 a3 τ) (fun r => Q.1 (some (vi r.1)) σ r.2) := by
  unfold m_array
  refine sm_top (fun K hRET => ?_)
  refine sm_b (l' := [(0, vr (some (gw g))), (1, vi a1), (2, vi a2), (3, vi a3)]) (st' := [vi a2, vr (some (gw g))]) (pc' := 2) [(.aload_n 0, vi 0, 1), (.iload_n 2, vi 0, 2)] (by decide +kernel) rfl rfl ?_
  refine sm_cv (N := mX4_look) (d' := d - 1) (fun r => (some (vi r))) (fun _ => σ) (fun _ => τ) [vi a2] [] rfl (by decide +kernel) q1902 q1904 qs103 (Or.inl ⟨rfl, q1905⟩) (show okN yX4_look 1 = true by decide +kernel) (fun H hR => hR.rvw G.1 G.2.1) rfl rfl (by omega) rfl (fun Q' => m_look_ok G (d - 1) (by omega) a2 τ Q') (fun y1 => ?_)
  refine sm_b (l' := [(0, vr (some (gw g))), (1, vi a1), (2, vi a2), (3, vi a3)]) (st' := [vi 91, vi y1]) (pc' := 7) [(.bipush 91, vi 91, 7)] (by decide +kernel) rfl rfl ?_
  refine sm_gd (fun h2 => ?_)
  refine sm_case (V g mX4_array d 12 [(0, vr (some (gw g))), (1, vi a1), (2, vi a2), (3, vi a3)] [] σ τ Q) (V g mX4_array d 10 [(0, vr (some (gw g))), (1, vi a1), (2, vi a2), (3, vi a3)] [] σ τ Q) ?_ ?_ (fun f48 p49 n50 => ?_)
  · refine sm_b (l' := [(0, vr (some (gw g))), (1, vi a1), (2, vi a2), (3, vi a3)]) (st' := [vi (a2 + 1), vr (some (gw g))]) (pc' := 16) [(.aload_n 0, vi 0, 13), (.iload_n 2, vi 0, 14), (.iconst 1, vi 1, 15), (.iadd, vi 0, 16)] (by decide +kernel) rfl rfl ?_
    refine sm_cv (N := mX4_blanks) (d' := d - 1) (fun r => (some (vi r))) (fun _ => σ) (fun _ => τ) [vi (a2 + 1)] [] rfl (by decide +kernel) q1894 q1896 qs101 (Or.inl ⟨rfl, q1897⟩) (show okN yX4_blanks 1 = true by decide +kernel) (fun H hR => hR.rvw G.1 G.2.1) rfl rfl (by omega) rfl (fun Q' => m_blanks_ok G (d - 1) (by omega) (a2 + 1) τ Q') (fun y6 => ?_)
    refine sm_b (l' := [(0, vr (some (gw g))), (1, vi a1), (2, vi a2), (3, vi a3), (4, vi y6)]) (st' := [vi y6, vr (some (gw g))]) (pc' := 24) [(.istore 4, vi 0, 21), (.aload_n 0, vi 0, 22), (.iload 4, vi 0, 24)] (by decide +kernel) rfl rfl ?_
    refine sm_cv (N := mX4_look) (d' := d - 1) (fun r => (some (vi r))) (fun _ => σ) (fun _ => τ) [vi y6] [] rfl (by decide +kernel) q1902 q1904 qs103 (Or.inl ⟨rfl, q1905⟩) (show okN yX4_look 1 = true by decide +kernel) (fun H hR => hR.rvw G.1 G.2.1) rfl rfl (by omega) rfl (fun Q' => m_look_ok G (d - 1) (by omega) y6 τ Q') (fun y7 => ?_)
    refine sm_b (l' := [(0, vr (some (gw g))), (1, vi a1), (2, vi a2), (3, vi a3), (4, vi y6)]) (st' := [vi 93, vi y7]) (pc' := 29) [(.bipush 93, vi 93, 29)] (by decide +kernel) rfl rfl ?_
    refine sm_gd (fun h8 => ?_)
    refine sm_case (V g mX4_array d 32 [(0, vr (some (gw g))), (1, vi a1), (2, vi a2), (3, vi a3), (4, vi y6)] [] σ τ Q) (V g mX4_array d 37 [(0, vr (some (gw g))), (1, vi a1), (2, vi a2), (3, vi a3), (4, vi y6)] [] σ τ Q) ?_ ?_ (fun f44 p45 n46 => ?_)
    · refine sm_b (l' := [(0, vr (some (gw g))), (1, vi a1), (2, vi a2), (3, vi a3), (4, vi y6)]) (st' := [vi (y6 + 1)]) (pc' := 36) [(.iload 4, vi 0, 34), (.iconst 1, vi 1, 35), (.iadd, vi 0, 36)] (by decide +kernel) rfl rfl ?_
      exact sm_iret rfl (by decide +kernel) (fun h => hRET _ h)
    · refine sm_bindS (fun (v10 : Int × TT) => V g mX4_array d 74 [(4, vi v10.1)] [] σ v10.2 Q) (fun v10 => ?_) (fun K11 o13 j12 => ?_)
      · refine sm_b (l' := [(4, vi v10.1)]) (st' := [vi (v10.1 + 1)]) (pc' := 78) [(.iload 4, vi 0, 76), (.iconst 1, vi 1, 77), (.iadd, vi 0, 78)] (by decide +kernel) rfl rfl ?_
        exact sm_iret rfl (by decide +kernel) (fun h => hRET _ h)
      · refine sm_pick [0, 1, 3, 4] (l' := [(0, vr (some (gw g))), (1, vi a1), (3, vi a3), (4, vi y6)]) rfl ?_
        exact m_array_L37_ok G rec hrec d hd1 hd2 a1 a3  (fun r h => hRET _ (o13 _ h)) (fun _ h => j12 _ h) FU y6 τ
    refine sm_icmp_ne (off := 8) (tgt := 37) h8 (by decide) (by decide +kernel) (fun c47 => ?_) (fun c47 => ?_)
    · exact n46 c47
    · exact p45 c47
  · refine sm_b (l' := [(0, vr (some (gw g))), (1, vi a1), (2, vi a2), (3, vi a3)]) (st' := [vi ((-1))]) (pc' := 11) [(.iconst (-1), vi (-1), 11)] (by decide +kernel) rfl rfl ?_
    exact sm_iret rfl (by decide +kernel) (fun h => hRET _ h)
  refine sm_icmp_eq (off := 5) (tgt := 12) h2 (by decide) (by decide +kernel) (fun c51 => ?_) (fun c51 => ?_)
  · exact p49 c51
  · exact n50 c51
