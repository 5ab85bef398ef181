set_option maxRecDepth 100000
/-! the reference: X4_object, X4_member, X4_putVarint, X4_putTag, X4_putWhole -/
def m_object_L49 (rec : Int → Int → Int → TT → Option (Int × TT)) (u1 : Int) (u3 : Int) : Nat → Int64 → Int → Int → TT → Option ((Int × TT) ⊕ (Int × TT))
  | 0, _, _, _, _ => none
  | n + 1, w4, w6, w7, τ => Option.bind (m_string w7 τ) fun y16 => gd (rg y16.1) (if y16.1 = ((-1)) then (some (Sum.inl (((-1), y16.2)))) else (Option.bind (m_fieldNamed u1 y16.2) fun y20 => Option.bind (m_blanks y16.1 y20.2) fun y21 => gd (rg y20.1) (gd (¬ ((y20.1 = ((-1))) ∨ (((lShr w4 y20.1) &&& 1) = 1)) → ok (m_look y21 y20.2)) (gd (¬ ((y20.1 = ((-1))) ∨ (((lShr w4 y20.1) &&& 1) = 1)) → rg (vv (m_look y21 y20.2))) (if ((y20.1 = ((-1))) ∨ (((lShr w4 y20.1) &&& 1) = 1)) ∨ (¬ ((vv (m_look y21 y20.2)) = 58)) then (some (Sum.inl (((-1), y20.2)))) else (nm (w4 ||| (lShl 1 y20.1)) fun x29 => Option.bind (m_blanks (y21 + 1) y20.2) fun y30 => Option.bind (m_literal y30 27 y20.2) fun y31 => Option.bind (gd (rg y31) (gd (y31 = ((-1)) → ib y20.1 50) (gd (y31 = ((-1)) → rg (tA y20.2 27 y20.1.toNat)) (if (y31 = ((-1))) ∧ (¬ ((tA y20.2 27 y20.1.toNat) = ((-1)))) then (gd (ib y20.1 50) (if (iAnd (iShr w6 (tA y20.2 27 y20.1.toNat)) 1) = 1 then (some (Sum.inl (Sum.inl (((-1), y20.2))))) else (nm (iOr w6 (iShl 1 (tA y20.2 27 y20.1.toNat))) fun x96 => some (Sum.inr x96)))) else (some (Sum.inr w6)))))) (Sum.elim some fun (v38 : Int) => Option.bind (gd (rg y31) (if y31 = ((-1)) then (gd (ib y20.1 50) (gd (rg (tA y20.2 29 y20.1.toNat)) (if (tA y20.2 29 y20.1.toNat) = 0 then (Option.bind (m_value rec y20.1 y30 u3 y20.2) fun y83 => some ((y83.1, y83.2))) else (Option.bind (m_array rec y20.1 y30 u3 y20.2) fun y84 => some ((y84.1, y84.2)))))) else (some ((y31, y20.2))))) fun (v47 : Int × TT) => gd (rg v47.1) (if v47.1 = ((-1)) then (some (Sum.inl (((-1), v47.2)))) else (Option.bind (m_blanks v47.1 v47.2) fun y55 => Option.bind (m_look y55 v47.2) fun y56 => gd (rg y56) (if y56 = 125 then (some (Sum.inr ((y55, v47.2)))) else (Option.bind (m_look y55 v47.2) fun y61 => gd (rg y61) (if y61 = 44 then (Option.bind (m_blanks (y55 + 1) v47.2) fun y66 => m_object_L49 rec u1 u3 n x29 v38 y66 v47.2) else (some (Sum.inl (((-1), v47.2))))))))))))))))
def m_objectb (rec : Int → Int → Int → TT → Option (Int × TT)) (a1 : Int) (a2 : Int) (a3 : Int) (τ : TT) : Option (Int × TT) := gd (rg a3) (gd (¬ (8 < a3) → ok (m_look a2 τ)) (gd (¬ (8 < a3) → rg (vv (m_look a2 τ))) (if (8 < a3) ∨ (¬ ((vv (m_look a2 τ)) = 123)) then (some (((-1), τ))) else (Option.bind (m_blanks (a2 + 1) τ) fun y7 => Option.bind (m_look y7 τ) fun y8 => gd (rg y8) (if y8 = 125 then (some ((y7 + 1, τ))) else (Option.bind (m_object_L49 rec a1 a3 FU 0 0 y7 τ) (Sum.elim some fun (v11 : Int × TT) => some ((v11.1 + 1, v11.2)))))))))
set_option maxHeartbeats 4000000 in
theorem m_object_L49_ok {g : GE} (G : GG g) {D : Nat} (rec : Int → Int → Int → TT → Option (Int × TT)) (hrec : ∀ (d : Nat), D ≤ d → ∀ {σ : ST} (a1 : Int) (a2 : Int) (a3 : Int) (τ : TT) (Q' : VQ), Sm (V g mX4_object d 0 [(0, vr (some (gw g))), (1, vi a1), (2, vi a2), (3, vi a3)] [] σ τ Q') (rec a1 a2 a3 τ) (fun r => Q'.1 (some (vi r.1)) σ r.2)) {σ : ST} {Q : VQ} (d : Nat) (hd1 : D + 3 ≤ d) (hd2 : 9 ≤ d) (u1 : Int) (u3 : Int)  {K : (Int × TT) ⊕ (Int × TT) → Prop} (hRET : ∀ r : Int × TT, K (Sum.inl r) → Q.1 (some (vi r.1)) σ r.2) (hE261 : ∀ v15 : Int × TT, K (Sum.inr v15) → V g mX4_object d 261 [(7, vi v15.1)] [] σ v15.2 Q) : ∀ (n : Nat) (w4 : Int64) (w6 : Int) (w7 : Int) (τ : TT), Sm (V g mX4_object d 49 [(0, vr (some (gw g))), (1, vi u1), (3, vi u3), (4, vl w4), (6, vi w6), (7, vi w7)] [] σ τ Q) (m_object_L49 rec u1 u3 n w4 w6 w7 τ) K := by
  intro n
  induction n with
  | zero => intro w4 w6 w7 τ; exact sm_none
  | succ n ih =>
    intro w4 w6 w7 τ
    rw [m_object_L49.eq_2]
    refine sm_b (l' := [(0, vr (some (gw g))), (1, vi u1), (3, vi u3), (4, vl w4), (6, vi w6), (7, vi w7)]) (st' := [vi w7, vr (some (gw g))]) (pc' := 52) [(.aload_n 0, vi 0, 50), (.iload 7, vi 0, 52)] (by decide +kernel) rfl rfl ?_
    refine sm_cv (N := mX4_string) (d' := d - 1) (fun r => (some (vi r.1))) (fun _ => σ) (fun r => r.2) [vi w7] [] rfl (by decide +kernel) q1906 q1908 qs104 (Or.inl ⟨rfl, q1909⟩) (show okN yX4_string 1 = true by decide +kernel) (fun H hR => hR.rvw G.1 G.2.1) rfl rfl (by omega) rfl (fun Q' => m_string_ok G (d - 1) (by omega) w7 τ Q') (fun y16 => ?_)
    refine sm_b (l' := [(0, vr (some (gw g))), (1, vi u1), (3, vi u3), (4, vl w4), (6, vi w6), (7, vi y16.1)]) (st' := [vi ((-1)), vi y16.1]) (pc' := 60) [(.istore 7, vi 0, 57), (.iload 7, vi 0, 59), (.iconst (-1), vi (-1), 60)] (by decide +kernel) rfl rfl ?_
    refine sm_gd (fun h17 => ?_)
    refine sm_case (V g mX4_object d 63 [(0, vr (some (gw g))), (1, vi u1), (3, vi u3), (4, vl w4), (6, vi w6), (7, vi y16.1)] [] σ y16.2 Q) (V g mX4_object d 65 [(0, vr (some (gw g))), (1, vi u1), (3, vi u3), (4, vl w4), (6, vi w6), (7, vi y16.1)] [] σ y16.2 Q) ?_ ?_ (fun f112 p113 n114 => ?_)
    · refine sm_b (l' := [(0, vr (some (gw g))), (1, vi u1), (3, vi u3), (4, vl w4), (6, vi w6), (7, vi y16.1)]) (st' := [vi ((-1))]) (pc' := 64) [(.iconst (-1), vi (-1), 64)] (by decide +kernel) rfl rfl ?_
      exact sm_iret rfl (by decide +kernel) (fun h => hRET _ h)
    · refine sm_b (l' := [(0, vr (some (gw g))), (1, vi u1), (3, vi u3), (4, vl w4), (6, vi w6), (7, vi y16.1)]) (st' := [vi u1, vr (some (gw g))]) (pc' := 67) [(.aload_n 0, vi 0, 66), (.iload_n 1, vi 0, 67)] (by decide +kernel) rfl rfl ?_
      refine sm_cv (N := mX4_fieldNamed) (d' := d - 1) (fun r => (some (vi r.1))) (fun _ => σ) (fun r => r.2) [vi u1] [] rfl (by decide +kernel) q1923 q1925 qs108 (Or.inl ⟨rfl, q1926⟩) (show okN yX4_fieldNamed 1 = true by decide +kernel) (fun H hR => hR.rvw G.1 G.2.1) rfl rfl (by omega) rfl (fun Q' => m_fieldNamed_ok G (d - 1) (by omega) u1 y16.2 Q') (fun y20 => ?_)
      refine sm_b (l' := [(0, vr (some (gw g))), (1, vi u1), (3, vi u3), (4, vl w4), (6, vi w6), (7, vi y16.1), (8, vi y20.1)]) (st' := [vi y16.1, vr (some (gw g))]) (pc' := 75) [(.istore 8, vi 0, 72), (.aload_n 0, vi 0, 73), (.iload 7, vi 0, 75)] (by decide +kernel) rfl rfl ?_
      refine sm_cv (N := mX4_blanks) (d' := d - 1) (fun r => (some (vi r))) (fun _ => σ) (fun _ => y20.2) [vi y16.1] [] rfl (by decide +kernel) q1894 q1896 qs101 (Or.inl ⟨rfl, q1897⟩) (show okN yX4_blanks 1 = true by decide +kernel) (fun H hR => hR.rvw G.1 G.2.1) rfl rfl (by omega) rfl (fun Q' => m_blanks_ok G (d - 1) (by omega) y16.1 y20.2 Q') (fun y21 => ?_)
      refine sm_b (l' := [(0, vr (some (gw g))), (1, vi u1), (3, vi u3), (4, vl w4), (6, vi w6), (7, vi y21), (8, vi y20.1)]) (st' := [vi ((-1)), vi y20.1]) (pc' := 83) [(.istore 7, vi 0, 80), (.iload 8, vi 0, 82), (.iconst (-1), vi (-1), 83)] (by decide +kernel) rfl rfl ?_
      refine sm_gd (fun h22 => ?_)
      refine sm_gd (fun h25 => ?_)
      refine sm_gd (fun h26 => ?_)
      refine sm_case (V g mX4_object d 109 [(0, vr (some (gw g))), (1, vi u1), (3, vi u3), (4, vl w4), (6, vi w6), (7, vi y21), (8, vi y20.1)] [] σ y20.2 Q) (V g mX4_object d 111 [(0, vr (some (gw g))), (1, vi u1), (3, vi u3), (4, vl w4), (6, vi w6), (7, vi y21), (8, vi y20.1)] [] σ y20.2 Q) ?_ ?_ (fun f106 p107 n108 => ?_)
      · refine sm_b (l' := [(0, vr (some (gw g))), (1, vi u1), (3, vi u3), (4, vl w4), (6, vi w6), (7, vi y21), (8, vi y20.1)]) (st' := [vi ((-1))]) (pc' := 110) [(.iconst (-1), vi (-1), 110)] (by decide +kernel) rfl rfl ?_
        exact sm_iret rfl (by decide +kernel) (fun h => hRET _ h)
      · refine sm_b (l' := [(0, vr (some (gw g))), (1, vi u1), (3, vi u3), (4, vl w4), (6, vi w6), (7, vi y21), (8, vi y20.1)]) (st' := [vl (w4 ||| (lShl 1 y20.1))]) (pc' := 118) [(.lload 4, vi 0, 113), (.lconst 1, vl 1, 114), (.iload 8, vi 0, 116), (.lshl, vi 0, 117), (.lor, vi 0, 118)] (by decide +kernel) rfl rfl ?_
        refine sm_nml (fun x29 => ?_)
        refine sm_b (l' := [(0, vr (some (gw g))), (1, vi u1), (3, vi u3), (4, vl x29), (6, vi w6), (7, vi y21), (8, vi y20.1)]) (st' := [vi (y21 + 1), vr (some (gw g))]) (pc' := 125) [(.lstore 4, vi 0, 120), (.aload_n 0, vi 0, 121), (.iload 7, vi 0, 123), (.iconst 1, vi 1, 124), (.iadd, vi 0, 125)] (by decide +kernel) rfl rfl ?_
        refine sm_cv (N := mX4_blanks) (d' := d - 1) (fun r => (some (vi r))) (fun _ => σ) (fun _ => y20.2) [vi (y21 + 1)] [] rfl (by decide +kernel) q1894 q1896 qs101 (Or.inl ⟨rfl, q1897⟩) (show okN yX4_blanks 1 = true by decide +kernel) (fun H hR => hR.rvw G.1 G.2.1) rfl rfl (by omega) rfl (fun Q' => m_blanks_ok G (d - 1) (by omega) (y21 + 1) y20.2 Q') (fun y30 => ?_)
        refine sm_b (l' := [(0, vr (some (gw g))), (1, vi u1), (3, vi u3), (4, vl x29), (6, vi w6), (7, vi y30), (8, vi y20.1)]) (st' := [vi y30, vr (some (gw g))]) (pc' := 133) [(.istore 7, vi 0, 130), (.aload_n 0, vi 0, 131), (.iload 7, vi 0, 133)] (by decide +kernel) rfl rfl ?_
        refine sm_strw (k := 27) G rfl (by decide +kernel) ?_
        refine sm_cv (N := mX4_literal) (d' := d - 1) (fun r => (some (vi r))) (fun _ => σ) (fun _ => y20.2) [vi y30, vr (some (gK g 27))] [] rfl (by decide +kernel) q1928 q1930 qs109 (Or.inl ⟨rfl, q1931⟩) (show okN yX4_literal 2 = true by decide +kernel) (fun H hR => hR.rvw G.1 G.2.1) rfl rfl (by omega) rfl (fun Q' => m_literal_ok G (d - 1) (by omega) y30 27 y20.2 Q') (fun y31 => ?_)
        refine sm_b (l' := [(0, vr (some (gw g))), (1, vi u1), (3, vi u3), (4, vl x29), (6, vi w6), (7, vi y30), (8, vi y20.1), (9, vi y31)]) (st' := [vi ((-1)), vi y31]) (pc' := 144) [(.istore 9, vi 0, 141), (.iload 9, vi 0, 143), (.iconst (-1), vi (-1), 144)] (by decide +kernel) rfl rfl ?_
        refine sm_bindS (fun (v38 : Int) => V g mX4_object d 190 [(0, vr (some (gw g))), (1, vi u1), (3, vi u3), (4, vl x29), (6, vi v38), (7, vi y30), (8, vi y20.1), (9, vi y31)] [] σ y20.2 Q) (fun v38 => ?_) (fun K39 o41 j40 => ?_)
        · refine sm_b (l' := [(0, vr (some (gw g))), (1, vi u1), (3, vi u3), (4, vl x29), (6, vi v38), (7, vi y30), (8, vi y20.1), (9, vi y31)]) (st' := [vi ((-1)), vi y31]) (pc' := 193) [(.iload 9, vi 0, 192), (.iconst (-1), vi (-1), 193)] (by decide +kernel) rfl rfl ?_
          refine sm_bind1 (fun (v47 : Int × TT) => V g mX4_object d 232 [(0, vr (some (gw g))), (1, vi u1), (3, vi u3), (4, vl x29), (6, vi v38)] [vi v47.1] σ v47.2 Q) (fun v47 => ?_) (fun K48 j49 => ?_)
          · refine sm_b (l' := [(0, vr (some (gw g))), (1, vi u1), (3, vi u3), (4, vl x29), (6, vi v38), (7, vi v47.1)]) (st' := [vi ((-1)), vi v47.1]) (pc' := 237) [(.istore 7, vi 0, 234), (.iload 7, vi 0, 236), (.iconst (-1), vi (-1), 237)] (by decide +kernel) rfl rfl ?_
            refine sm_gd (fun h51 => ?_)
            refine sm_case (V g mX4_object d 240 [(0, vr (some (gw g))), (1, vi u1), (3, vi u3), (4, vl x29), (6, vi v38), (7, vi v47.1)] [] σ v47.2 Q) (V g mX4_object d 242 [(0, vr (some (gw g))), (1, vi u1), (3, vi u3), (4, vl x29), (6, vi v38), (7, vi v47.1)] [] σ v47.2 Q) ?_ ?_ (fun f75 p76 n77 => ?_)
            · refine sm_b (l' := [(0, vr (some (gw g))), (1, vi u1), (3, vi u3), (4, vl x29), (6, vi v38), (7, vi v47.1)]) (st' := [vi ((-1))]) (pc' := 241) [(.iconst (-1), vi (-1), 241)] (by decide +kernel) rfl rfl ?_
              exact sm_iret rfl (by decide +kernel) (fun h => hRET _ h)
            · refine sm_b (l' := [(0, vr (some (gw g))), (1, vi u1), (3, vi u3), (4, vl x29), (6, vi v38), (7, vi v47.1)]) (st' := [vi v47.1, vr (some (gw g))]) (pc' := 245) [(.aload_n 0, vi 0, 243), (.iload 7, vi 0, 245)] (by decide +kernel) rfl rfl ?_
              refine sm_cv (N := mX4_blanks) (d' := d - 1) (fun r => (some (vi r))) (fun _ => σ) (fun _ => v47.2) [vi v47.1] [] rfl (by decide +kernel) q1894 q1896 qs101 (Or.inl ⟨rfl, q1897⟩) (show okN yX4_blanks 1 = true by decide +kernel) (fun H hR => hR.rvw G.1 G.2.1) rfl rfl (by omega) rfl (fun Q' => m_blanks_ok G (d - 1) (by omega) v47.1 v47.2 Q') (fun y55 => ?_)
              refine sm_b (l' := [(0, vr (some (gw g))), (1, vi u1), (3, vi u3), (4, vl x29), (6, vi v38), (7, vi y55)]) (st' := [vi y55, vr (some (gw g))]) (pc' := 253) [(.istore 7, vi 0, 250), (.aload_n 0, vi 0, 251), (.iload 7, vi 0, 253)] (by decide +kernel) rfl rfl ?_
              refine sm_cv (N := mX4_look) (d' := d - 1) (fun r => (some (vi r))) (fun _ => σ) (fun _ => v47.2) [vi y55] [] rfl (by decide +kernel) q1902 q1904 qs103 (Or.inl ⟨rfl, q1905⟩) (show okN yX4_look 1 = true by decide +kernel) (fun H hR => hR.rvw G.1 G.2.1) rfl rfl (by omega) rfl (fun Q' => m_look_ok G (d - 1) (by omega) y55 v47.2 Q') (fun y56 => ?_)
              refine sm_b (l' := [(0, vr (some (gw g))), (1, vi u1), (3, vi u3), (4, vl x29), (6, vi v38), (7, vi y55)]) (st' := [vi 125, vi y56]) (pc' := 258) [(.bipush 125, vi 125, 258)] (by decide +kernel) rfl rfl ?_
              refine sm_gd (fun h57 => ?_)
              refine sm_case (V g mX4_object d 261 [(0, vr (some (gw g))), (1, vi u1), (3, vi u3), (4, vl x29), (6, vi v38), (7, vi y55)] [] σ v47.2 Q) (V g mX4_object d 266 [(0, vr (some (gw g))), (1, vi u1), (3, vi u3), (4, vl x29), (6, vi v38), (7, vi y55)] [] σ v47.2 Q) ?_ ?_ (fun f71 p72 n73 => ?_)
              · refine sm_pick [5] (l' := [(7, vi y55)]) rfl ?_
                exact sm_leaf (fun h => hE261 _ h)
              · refine sm_b (l' := [(0, vr (some (gw g))), (1, vi u1), (3, vi u3), (4, vl x29), (6, vi v38), (7, vi y55)]) (st' := [vi y55, vr (some (gw g))]) (pc' := 269) [(.aload_n 0, vi 0, 267), (.iload 7, vi 0, 269)] (by decide +kernel) rfl rfl ?_
                refine sm_cv (N := mX4_look) (d' := d - 1) (fun r => (some (vi r))) (fun _ => σ) (fun _ => v47.2) [vi y55] [] rfl (by decide +kernel) q1902 q1904 qs103 (Or.inl ⟨rfl, q1905⟩) (show okN yX4_look 1 = true by decide +kernel) (fun H hR => hR.rvw G.1 G.2.1) rfl rfl (by omega) rfl (fun Q' => m_look_ok G (d - 1) (by omega) y55 v47.2 Q') (fun y61 => ?_)
                refine sm_b (l' := [(0, vr (some (gw g))), (1, vi u1), (3, vi u3), (4, vl x29), (6, vi v38), (7, vi y55)]) (st' := [vi 44, vi y61]) (pc' := 274) [(.bipush 44, vi 44, 274)] (by decide +kernel) rfl rfl ?_
                refine sm_gd (fun h62 => ?_)
                refine sm_case (V g mX4_object d 279 [(0, vr (some (gw g))), (1, vi u1), (3, vi u3), (4, vl x29), (6, vi v38), (7, vi y55)] [] σ v47.2 Q) (V g mX4_object d 277 [(0, vr (some (gw g))), (1, vi u1), (3, vi u3), (4, vl x29), (6, vi v38), (7, vi y55)] [] σ v47.2 Q) ?_ ?_ (fun f67 p68 n69 => ?_)
                · refine sm_b (l' := [(0, vr (some (gw g))), (1, vi u1), (3, vi u3), (4, vl x29), (6, vi v38), (7, vi y55)]) (st' := [vi (y55 + 1), vr (some (gw g))]) (pc' := 284) [(.aload_n 0, vi 0, 280), (.iload 7, vi 0, 282), (.iconst 1, vi 1, 283), (.iadd, vi 0, 284)] (by decide +kernel) rfl rfl ?_
                  refine sm_cv (N := mX4_blanks) (d' := d - 1) (fun r => (some (vi r))) (fun _ => σ) (fun _ => v47.2) [vi (y55 + 1)] [] rfl (by decide +kernel) q1894 q1896 qs101 (Or.inl ⟨rfl, q1897⟩) (show okN yX4_blanks 1 = true by decide +kernel) (fun H hR => hR.rvw G.1 G.2.1) rfl rfl (by omega) rfl (fun Q' => m_blanks_ok G (d - 1) (by omega) (y55 + 1) v47.2 Q') (fun y66 => ?_)
                  refine sm_b (l' := [(0, vr (some (gw g))), (1, vi u1), (3, vi u3), (4, vl x29), (6, vi v38), (7, vi y66)]) (st' := []) (pc' := 49) [(.istore 7, vi 0, 289), (.goto (-240), vi 0, 49)] (by decide +kernel) rfl rfl ?_
                  exact ih x29 v38 y66 v47.2
                · refine sm_b (l' := [(0, vr (some (gw g))), (1, vi u1), (3, vi u3), (4, vl x29), (6, vi v38), (7, vi y55)]) (st' := [vi ((-1))]) (pc' := 278) [(.iconst (-1), vi (-1), 278)] (by decide +kernel) rfl rfl ?_
                  exact sm_iret rfl (by decide +kernel) (fun h => hRET _ h)
                refine sm_icmp_eq (off := 5) (tgt := 279) h62 (by decide) (by decide +kernel) (fun c70 => ?_) (fun c70 => ?_)
                · exact p68 c70
                · exact n69 c70
              refine sm_icmp_ne (off := 8) (tgt := 266) h57 (by decide) (by decide +kernel) (fun c74 => ?_) (fun c74 => ?_)
              · exact n73 c74
              · exact p72 c74
            refine sm_icmp_ne (off := 5) (tgt := 242) h51 (by decide) (by decide +kernel) (fun c78 => ?_) (fun c78 => ?_)
            · exact n77 c78
            · exact p76 c78
          · refine sm_gd (fun h42 => ?_)
            refine sm_case (V g mX4_object d 201 [(0, vr (some (gw g))), (1, vi u1), (3, vi u3), (4, vl x29), (6, vi v38), (7, vi y30), (8, vi y20.1), (9, vi y31)] [] σ y20.2 Q) (V g mX4_object d 196 [(0, vr (some (gw g))), (1, vi u1), (3, vi u3), (4, vl x29), (6, vi v38), (7, vi y30), (8, vi y20.1), (9, vi y31)] [] σ y20.2 Q) ?_ ?_ (fun f89 p90 n91 => ?_)
            · refine sm_b (l' := [(0, vr (some (gw g))), (1, vi u1), (3, vi u3), (4, vl x29), (6, vi v38), (7, vi y30), (8, vi y20.1), (9, vi y31)]) (st' := [vr (some (gw g))]) (pc' := 202) [(.aload_n 0, vi 0, 202)] (by decide +kernel) rfl rfl ?_
              refine sm_tg (k := 29) (x := vr (some (gT g 29))) G.2.1 q1447 rfl rfl (by decide +kernel) ?_
              refine sm_b (l' := [(0, vr (some (gw g))), (1, vi u1), (3, vi u3), (4, vl x29), (6, vi v38), (7, vi y30), (8, vi y20.1), (9, vi y31)]) (st' := [vi y20.1, vr (some (gT g 29))]) (pc' := 207) [(.iload 8, vi 0, 207)] (by decide +kernel) rfl rfl ?_
              refine sm_gd (fun h79 => ?_)
              refine sm_zal (k := 29) G.2.1 (by decide) rfl (ibt (k := 29) h79) h79 (by decide +kernel) ?_
              refine sm_gd (fun h80 => ?_)
              refine sm_case (V g mX4_object d 223 [(0, vr (some (gw g))), (1, vi u1), (3, vi u3), (4, vl x29), (6, vi v38), (7, vi y30), (8, vi y20.1), (9, vi y31)] [] σ y20.2 Q) (V g mX4_object d 211 [(0, vr (some (gw g))), (1, vi u1), (3, vi u3), (4, vl x29), (6, vi v38), (7, vi y30), (8, vi y20.1), (9, vi y31)] [] σ y20.2 Q) ?_ ?_ (fun f85 p86 n87 => ?_)
              · refine sm_b (l' := [(0, vr (some (gw g))), (1, vi u1), (3, vi u3), (4, vl x29), (6, vi v38), (7, vi y30), (8, vi y20.1), (9, vi y31)]) (st' := [vi u3, vi y30, vi y20.1, vr (some (gw g))]) (pc' := 229) [(.aload_n 0, vi 0, 224), (.iload 8, vi 0, 226), (.iload 7, vi 0, 228), (.iload_n 3, vi 0, 229)] (by decide +kernel) rfl rfl ?_
                refine sm_cv (N := mX4_value) (d' := d - 1) (fun r => (some (vi r.1))) (fun _ => σ) (fun r => r.2) [vi y20.1, vi y30, vi u3] [] rfl (by decide +kernel) q1936 q1938 qs111 (Or.inl ⟨rfl, q1939⟩) (show okN yX4_value 3 = true by decide +kernel) (fun H hR => hR.rvw G.1 G.2.1) rfl rfl (by omega) rfl (fun Q' => m_value_ok G (D := D) rec hrec (d - 1) (by omega) (by omega) y20.1 y30 u3 y20.2 Q') (fun y83 => ?_)
                refine sm_pick [0, 1, 2, 3, 4] (l' := [(0, vr (some (gw g))), (1, vi u1), (3, vi u3), (4, vl x29), (6, vi v38)]) rfl ?_
                exact sm_leaf (fun h => j49 _ h)
              · refine sm_b (l' := [(0, vr (some (gw g))), (1, vi u1), (3, vi u3), (4, vl x29), (6, vi v38), (7, vi y30), (8, vi y20.1), (9, vi y31)]) (st' := [vi u3, vi y30, vi y20.1, vr (some (gw g))]) (pc' := 217) [(.aload_n 0, vi 0, 212), (.iload 8, vi 0, 214), (.iload 7, vi 0, 216), (.iload_n 3, vi 0, 217)] (by decide +kernel) rfl rfl ?_
                refine sm_cv (N := mX4_array) (d' := d - 1) (fun r => (some (vi r.1))) (fun _ => σ) (fun r => r.2) [vi y20.1, vi y30, vi u3] [] rfl (by decide +kernel) q1932 q1934 qs110 (Or.inl ⟨rfl, q1935⟩) (show okN yX4_array 3 = true by decide +kernel) (fun H hR => hR.rvw G.1 G.2.1) rfl rfl (by omega) rfl (fun Q' => m_array_ok G (D := D) rec hrec (d - 1) (by omega) (by omega) y20.1 y30 u3 y20.2 Q') (fun y84 => ?_)
                refine sm_b (l' := [(0, vr (some (gw g))), (1, vi u1), (3, vi u3), (4, vl x29), (6, vi v38), (7, vi y30), (8, vi y20.1), (9, vi y31)]) (st' := [vi y84.1]) (pc' := 232) [(.goto 12, vi 0, 232)] (by decide +kernel) rfl rfl ?_
                refine sm_pick [0, 1, 2, 3, 4] (l' := [(0, vr (some (gw g))), (1, vi u1), (3, vi u3), (4, vl x29), (6, vi v38)]) rfl ?_
                exact sm_leaf (fun h => j49 _ h)
              refine sm_if_eq (off := 15) (tgt := 223) h80 (by decide +kernel) (fun c88 => ?_) (fun c88 => ?_)
              · exact p86 c88
              · exact n87 c88
            · refine sm_b (l' := [(0, vr (some (gw g))), (1, vi u1), (3, vi u3), (4, vl x29), (6, vi v38), (7, vi y30), (8, vi y20.1), (9, vi y31)]) (st' := [vi y31]) (pc' := 232) [(.iload 9, vi 0, 198), (.goto 34, vi 0, 232)] (by decide +kernel) rfl rfl ?_
              refine sm_pick [0, 1, 2, 3, 4] (l' := [(0, vr (some (gw g))), (1, vi u1), (3, vi u3), (4, vl x29), (6, vi v38)]) rfl ?_
              exact sm_leaf (fun h => j49 _ h)
            refine sm_icmp_eq (off := 8) (tgt := 201) h42 (by decide) (by decide +kernel) (fun c92 => ?_) (fun c92 => ?_)
            · exact p90 c92
            · exact n91 c92
        · refine sm_gd (fun h32 => ?_)
          refine sm_gd (fun h34 => ?_)
          refine sm_gd (fun h35 => ?_)
          refine sm_case (V g mX4_object d 158 [(0, vr (some (gw g))), (1, vi u1), (3, vi u3), (4, vl x29), (6, vi w6), (7, vi y30), (8, vi y20.1), (9, vi y31)] [] σ y20.2 Q) (V g mX4_object d 190 [(0, vr (some (gw g))), (1, vi u1), (3, vi u3), (4, vl x29), (6, vi w6), (7, vi y30), (8, vi y20.1), (9, vi y31)] [] σ y20.2 Q) ?_ ?_ (fun f101 p102 n103 => ?_)
          · refine sm_b (l' := [(0, vr (some (gw g))), (1, vi u1), (3, vi u3), (4, vl x29), (6, vi w6), (7, vi y30), (8, vi y20.1), (9, vi y31)]) (st' := [vr (some (gw g)), vi w6]) (pc' := 161) [(.iload 6, vi 0, 160), (.aload_n 0, vi 0, 161)] (by decide +kernel) rfl rfl ?_
            refine sm_tg (k := 27) (x := vr (some (gT g 27))) G.2.1 q1445 rfl rfl (by decide +kernel) ?_
            refine sm_b (l' := [(0, vr (some (gw g))), (1, vi u1), (3, vi u3), (4, vl x29), (6, vi w6), (7, vi y30), (8, vi y20.1), (9, vi y31)]) (st' := [vi y20.1, vr (some (gT g 27)), vi w6]) (pc' := 166) [(.iload 8, vi 0, 166)] (by decide +kernel) rfl rfl ?_
            refine sm_gd (fun h93 => ?_)
            refine sm_ial (k := 27) G.2.1 (by decide) rfl (ibt (k := 27) h93) h93 (by decide +kernel) ?_
            refine sm_b (l' := [(0, vr (some (gw g))), (1, vi u1), (3, vi u3), (4, vl x29), (6, vi w6), (7, vi y30), (8, vi y20.1), (9, vi y31)]) (st' := [vi 1, vi (iAnd (iShr w6 (tA y20.2 27 y20.1.toNat)) 1)]) (pc' := 171) [(.ishr, vi 0, 168), (.iconst 1, vi 1, 169), (.iand, vi 0, 170), (.iconst 1, vi 1, 171)] (by decide +kernel) rfl rfl ?_
            refine sm_case (V g mX4_object d 174 [(0, vr (some (gw g))), (1, vi u1), (3, vi u3), (4, vl x29), (6, vi w6), (7, vi y30), (8, vi y20.1), (9, vi y31)] [] σ y20.2 Q) (V g mX4_object d 176 [(0, vr (some (gw g))), (1, vi u1), (3, vi u3), (4, vl x29), (6, vi w6), (7, vi y30), (8, vi y20.1), (9, vi y31)] [] σ y20.2 Q) ?_ ?_ (fun f97 p98 n99 => ?_)
            · refine sm_b (l' := [(0, vr (some (gw g))), (1, vi u1), (3, vi u3), (4, vl x29), (6, vi w6), (7, vi y30), (8, vi y20.1), (9, vi y31)]) (st' := [vi ((-1))]) (pc' := 175) [(.iconst (-1), vi (-1), 175)] (by decide +kernel) rfl rfl ?_
              exact sm_iret rfl (by decide +kernel) (fun h => hRET _ (o41 _ h))
            · refine sm_b (l' := [(0, vr (some (gw g))), (1, vi u1), (3, vi u3), (4, vl x29), (6, vi w6), (7, vi y30), (8, vi y20.1), (9, vi y31)]) (st' := [vr (some (gw g)), vi 1, vi w6]) (pc' := 180) [(.iload 6, vi 0, 178), (.iconst 1, vi 1, 179), (.aload_n 0, vi 0, 180)] (by decide +kernel) rfl rfl ?_
              refine sm_tg (k := 27) (x := vr (some (gT g 27))) G.2.1 q1445 rfl rfl (by decide +kernel) ?_
              refine sm_b (l' := [(0, vr (some (gw g))), (1, vi u1), (3, vi u3), (4, vl x29), (6, vi w6), (7, vi y30), (8, vi y20.1), (9, vi y31)]) (st' := [vi y20.1, vr (some (gT g 27)), vi 1, vi w6]) (pc' := 185) [(.iload 8, vi 0, 185)] (by decide +kernel) rfl rfl ?_
              refine sm_ial (k := 27) G.2.1 (by decide) rfl (ibt (k := 27) h93) h93 (by decide +kernel) ?_
              refine sm_b (l' := [(0, vr (some (gw g))), (1, vi u1), (3, vi u3), (4, vl x29), (6, vi w6), (7, vi y30), (8, vi y20.1), (9, vi y31)]) (st' := [vi (iOr w6 (iShl 1 (tA y20.2 27 y20.1.toNat)))]) (pc' := 188) [(.ishl, vi 0, 187), (.ior, vi 0, 188)] (by decide +kernel) rfl rfl ?_
              refine sm_nmi (fun x96 => ?_)
              refine sm_b (l' := [(0, vr (some (gw g))), (1, vi u1), (3, vi u3), (4, vl x29), (6, vi x96), (7, vi y30), (8, vi y20.1), (9, vi y31)]) (st' := []) (pc' := 190) [(.istore 6, vi 0, 190)] (by decide +kernel) rfl rfl ?_
              exact sm_leaf (fun h => j40 _ h)
            refine sm_icmp_ne (off := 5) (tgt := 176) (rg_in _) (by decide) (by decide +kernel) (fun c100 => ?_) (fun c100 => ?_)
            · exact n99 c100
            · exact p98 c100
          · exact sm_leaf (fun h => j40 _ h)
          refine sm_icmp_ne (off := 46) (tgt := 190) h32 (by decide) (by decide +kernel) (fun c104 => ?_) (fun c104 => ?_)
          · exact n103 (fun q => c104 q.1)
          · have w33 : y31 = ((-1)) := c104
            refine sm_b (l' := [(0, vr (some (gw g))), (1, vi u1), (3, vi u3), (4, vl x29), (6, vi w6), (7, vi y30), (8, vi y20.1), (9, vi y31)]) (st' := [vr (some (gw g))]) (pc' := 148) [(.aload_n 0, vi 0, 148)] (by decide +kernel) rfl rfl ?_
            refine sm_tg (k := 27) (x := vr (some (gT g 27))) G.2.1 q1445 rfl rfl (by decide +kernel) ?_
            refine sm_b (l' := [(0, vr (some (gw g))), (1, vi u1), (3, vi u3), (4, vl x29), (6, vi w6), (7, vi y30), (8, vi y20.1), (9, vi y31)]) (st' := [vi y20.1, vr (some (gT g 27))]) (pc' := 153) [(.iload 8, vi 0, 153)] (by decide +kernel) rfl rfl ?_
            refine sm_ial (k := 27) G.2.1 (by decide) rfl (ibt (k := 27) (h34 w33)) (h34 w33) (by decide +kernel) ?_
            refine sm_b (l' := [(0, vr (some (gw g))), (1, vi u1), (3, vi u3), (4, vl x29), (6, vi w6), (7, vi y30), (8, vi y20.1), (9, vi y31)]) (st' := [vi ((-1)), vi (tA y20.2 27 y20.1.toNat)]) (pc' := 155) [(.iconst (-1), vi (-1), 155)] (by decide +kernel) rfl rfl ?_
            refine sm_icmp_eq (off := 35) (tgt := 190) (h35 w33) (by decide) (by decide +kernel) (fun c105 => ?_) (fun c105 => ?_)
            · exact n103 (fun q => (fun q => q c105) q.2)
            · exact p102 ⟨c104, c105⟩
      refine sm_icmp_eq (off := 26) (tgt := 109) h22 (by decide) (by decide +kernel) (fun c109 => ?_) (fun c109 => ?_)
      · exact p107 (Or.inl (Or.inl c109))
      · refine sm_b (l' := [(0, vr (some (gw g))), (1, vi u1), (3, vi u3), (4, vl w4), (6, vi w6), (7, vi y21), (8, vi y20.1)]) (st' := [vl 1, vl ((lShr w4 y20.1) &&& 1)]) (pc' := 94) [(.lload 4, vi 0, 88), (.iload 8, vi 0, 90), (.lshr, vi 0, 91), (.lconst 1, vl 1, 92), (.land, vi 0, 93), (.lconst 1, vl 1, 94)] (by decide +kernel) rfl rfl ?_
        refine sm_lc_eq (off := 14) (tgt := 109) (by decide +kernel) (by decide +kernel) (fun c110 => ?_) (fun c110 => ?_)
        · exact p107 (Or.inl (Or.inr c110))
        · have w24 : ¬ ((y20.1 = ((-1))) ∨ (((lShr w4 y20.1) &&& 1) = 1)) := (fun q => q.elim c109 c110)
          refine sm_b (l' := [(0, vr (some (gw g))), (1, vi u1), (3, vi u3), (4, vl w4), (6, vi w6), (7, vi y21), (8, vi y20.1)]) (st' := [vi y21, vr (some (gw g))]) (pc' := 101) [(.aload_n 0, vi 0, 99), (.iload 7, vi 0, 101)] (by decide +kernel) rfl rfl ?_
          refine sm_cvp (N := mX4_look) (d' := d - 1) (fun r => (some (vi r))) (some (vi (vv (m_look y21 y20.2)))) (h25 w24) (fun y h => by rw [vv_some h]) [vi y21] [] rfl (by decide +kernel) q1902 q1904 qs103 (Or.inl ⟨rfl, q1905⟩) (show okN yX4_look 1 = true by decide +kernel) (fun H hR => hR.rvw G.1 G.2.1) rfl rfl (by omega) rfl (fun Q' => m_look_ok G (d - 1) (by omega) y21 y20.2 Q') ?_
          refine sm_b (l' := [(0, vr (some (gw g))), (1, vi u1), (3, vi u3), (4, vl w4), (6, vi w6), (7, vi y21), (8, vi y20.1)]) (st' := [vi 58, vi (vv (m_look y21 y20.2))]) (pc' := 106) [(.bipush 58, vi 58, 106)] (by decide +kernel) rfl rfl ?_
          refine sm_icmp_eq (off := 5) (tgt := 111) (h26 w24) (by decide) (by decide +kernel) (fun c111 => ?_) (fun c111 => ?_)
          · exact n108 (fun q => q.elim (fun q => q.elim c109 c110) (fun q => q c111))
          · exact p107 (Or.inr c111)
    refine sm_icmp_ne (off := 5) (tgt := 65) h17 (by decide) (by decide +kernel) (fun c115 => ?_) (fun c115 => ?_)
    · exact n114 c115
    · exact p113 c115
set_option maxHeartbeats 4000000 in
theorem m_objectb_ok {g : GE} (G : GG g) {D : Nat} (rec : Int → Int → Int → TT → Option (Int × TT)) (hrec : ∀ (d : Nat), D ≤ d → ∀ {σ : ST} (a1 : Int) (a2 : Int) (a3 : Int) (τ : TT) (Q' : VQ), Sm (V g mX4_object d 0 [(0, vr (some (gw g))), (1, vi a1), (2, vi a2), (3, vi a3)] [] σ τ Q') (rec a1 a2 a3 τ) (fun r => Q'.1 (some (vi r.1)) σ r.2)) {σ : ST} (d : Nat) (hd1 : D + 3 ≤ d) (hd2 : 9 ≤ d) (a1 : Int) (a2 : Int) (a3 : Int)  (τ : TT) (Q : VQ) : Sm (V g mX4_object d 0 [(0, vr (some (gw g))), (1, vi a1), (2, vi a2), (3, vi a3)] [] σ τ Q) (m_objectb rec a1 a2 a3 τ) (fun r => Q.1 (some (vi r.1)) σ r.2) := by
  unfold m_objectb
  refine sm_top (fun K hRET => ?_)
  refine sm_b (l' := [(0, vr (some (gw g))), (1, vi a1), (2, vi a2), (3, vi a3)]) (st' := [vi 8, vi a3]) (pc' := 3) [(.iload_n 3, vi 0, 1), (.bipush 8, vi 8, 3)] (by decide +kernel) rfl rfl ?_
  refine sm_gd (fun h1 => ?_)
  refine sm_gd (fun h3 => ?_)
  refine sm_gd (fun h4 => ?_)
  refine sm_case (V g mX4_object d 16 [(0, vr (some (gw g))), (1, vi a1), (2, vi a2), (3, vi a3)] [] σ τ Q) (V g mX4_object d 18 [(0, vr (some (gw g))), (1, vi a1), (2, vi a2), (3, vi a3)] [] σ τ Q) ?_ ?_ (fun f120 p121 n122 => ?_)
  · refine sm_b (l' := [(0, vr (some (gw g))), (1, vi a1), (2, vi a2), (3, vi a3)]) (st' := [vi ((-1))]) (pc' := 17) [(.iconst (-1), vi (-1), 17)] (by decide +kernel) rfl rfl ?_
    exact sm_iret rfl (by decide +kernel) (fun h => hRET _ h)
  · refine sm_b (l' := [(0, vr (some (gw g))), (1, vi a1), (2, vi a2), (3, vi a3), (4, vl 0), (6, vi 0)]) (st' := [vi (a2 + 1), vr (some (gw g))]) (pc' := 28) [(.lconst 0, vl 0, 19), (.lstore 4, vi 0, 21), (.iconst 0, vi 0, 22), (.istore 6, vi 0, 24), (.aload_n 0, vi 0, 25), (.iload_n 2, vi 0, 26), (.iconst 1, vi 1, 27), (.iadd, vi 0, 28)] (by decide +kernel) rfl rfl ?_
    refine sm_cv (N := mX4_blanks) (d' := d - 1) (fun r => (some (vi r))) (fun _ => σ) (fun _ => τ) [vi (a2 + 1)] [] rfl (by decide +kernel) q1894 q1896 qs101 (Or.inl ⟨rfl, q1897⟩) (show okN yX4_blanks 1 = true by decide +kernel) (fun H hR => hR.rvw G.1 G.2.1) rfl rfl (by omega) rfl (fun Q' => m_blanks_ok G (d - 1) (by omega) (a2 + 1) τ Q') (fun y7 => ?_)
    refine sm_b (l' := [(0, vr (some (gw g))), (1, vi a1), (2, vi a2), (3, vi a3), (4, vl 0), (6, vi 0), (7, vi y7)]) (st' := [vi y7, vr (some (gw g))]) (pc' := 36) [(.istore 7, vi 0, 33), (.aload_n 0, vi 0, 34), (.iload 7, vi 0, 36)] (by decide +kernel) rfl rfl ?_
    refine sm_cv (N := mX4_look) (d' := d - 1) (fun r => (some (vi r))) (fun _ => σ) (fun _ => τ) [vi y7] [] rfl (by decide +kernel) q1902 q1904 qs103 (Or.inl ⟨rfl, q1905⟩) (show okN yX4_look 1 = true by decide +kernel) (fun H hR => hR.rvw G.1 G.2.1) rfl rfl (by omega) rfl (fun Q' => m_look_ok G (d - 1) (by omega) y7 τ Q') (fun y8 => ?_)
    refine sm_b (l' := [(0, vr (some (gw g))), (1, vi a1), (2, vi a2), (3, vi a3), (4, vl 0), (6, vi 0), (7, vi y7)]) (st' := [vi 125, vi y8]) (pc' := 41) [(.bipush 125, vi 125, 41)] (by decide +kernel) rfl rfl ?_
    refine sm_gd (fun h9 => ?_)
    refine sm_case (V g mX4_object d 44 [(0, vr (some (gw g))), (1, vi a1), (2, vi a2), (3, vi a3), (4, vl 0), (6, vi 0), (7, vi y7)] [] σ τ Q) (V g mX4_object d 49 [(0, vr (some (gw g))), (1, vi a1), (2, vi a2), (3, vi a3), (4, vl 0), (6, vi 0), (7, vi y7)] [] σ τ Q) ?_ ?_ (fun f116 p117 n118 => ?_)
    · refine sm_b (l' := [(0, vr (some (gw g))), (1, vi a1), (2, vi a2), (3, vi a3), (4, vl 0), (6, vi 0), (7, vi y7)]) (st' := [vi (y7 + 1)]) (pc' := 48) [(.iload 7, vi 0, 46), (.iconst 1, vi 1, 47), (.iadd, vi 0, 48)] (by decide +kernel) rfl rfl ?_
      exact sm_iret rfl (by decide +kernel) (fun h => hRET _ h)
    · refine sm_bindS (fun (v11 : Int × TT) => V g mX4_object d 261 [(7, vi v11.1)] [] σ v11.2 Q) (fun v11 => ?_) (fun K12 o14 j13 => ?_)
      · refine sm_b (l' := [(7, vi v11.1)]) (st' := [vi (v11.1 + 1)]) (pc' := 265) [(.iload 7, vi 0, 263), (.iconst 1, vi 1, 264), (.iadd, vi 0, 265)] (by decide +kernel) rfl rfl ?_
        exact sm_iret rfl (by decide +kernel) (fun h => hRET _ h)
      · refine sm_pick [0, 1, 3, 4, 5, 6] (l' := [(0, vr (some (gw g))), (1, vi a1), (3, vi a3), (4, vl 0), (6, vi 0), (7, vi y7)]) rfl ?_
        exact m_object_L49_ok G rec hrec d hd1 hd2 a1 a3  (fun r h => hRET _ (o14 _ h)) (fun _ h => j13 _ h) FU 0 0 y7 τ
    refine sm_icmp_ne (off := 8) (tgt := 49) h9 (by decide) (by decide +kernel) (fun c119 => ?_) (fun c119 => ?_)
    · exact n118 c119
    · exact p117 c119
  refine sm_icmp_gt (off := 13) (tgt := 16) h1 (by decide) (by decide +kernel) (fun c123 => ?_) (fun c123 => ?_)
  · exact p121 (Or.inl c123)
  · have w2 : ¬ (8 < a3) := c123
    refine sm_b (l' := [(0, vr (some (gw g))), (1, vi a1), (2, vi a2), (3, vi a3)]) (st' := [vi a2, vr (some (gw g))]) (pc' := 8) [(.aload_n 0, vi 0, 7), (.iload_n 2, vi 0, 8)] (by decide +kernel) rfl rfl ?_
    refine sm_cvp (N := mX4_look) (d' := d - 1) (fun r => (some (vi r))) (some (vi (vv (m_look a2 τ)))) (h3 w2) (fun y h => by rw [vv_some h]) [vi a2] [] rfl (by decide +kernel) q1902 q1904 qs103 (Or.inl ⟨rfl, q1905⟩) (show okN yX4_look 1 = true by decide +kernel) (fun H hR => hR.rvw G.1 G.2.1) rfl rfl (by omega) rfl (fun Q' => m_look_ok G (d - 1) (by omega) a2 τ Q') ?_
    refine sm_b (l' := [(0, vr (some (gw g))), (1, vi a1), (2, vi a2), (3, vi a3)]) (st' := [vi 123, vi (vv (m_look a2 τ))]) (pc' := 13) [(.bipush 123, vi 123, 13)] (by decide +kernel) rfl rfl ?_
    refine sm_icmp_eq (off := 5) (tgt := 18) (h4 w2) (by decide) (by decide +kernel) (fun c124 => ?_) (fun c124 => ?_)
    · exact n122 (fun q => q.elim c123 (fun q => q c124))
    · exact p121 (Or.inr c124)
def m_object : Nat → Int → Int → Int → TT → Option (Int × TT)
  | 0 => fun _ _ _ _ => none
  | n + 1 => fun a1 a2 a3 τ => m_objectb (m_object n) a1 a2 a3 τ
set_option maxHeartbeats 4000000 in
theorem m_object_ok {g : GE} (G : GG g) (n : Nat) : ∀ (d : Nat), 9 + 3 * n ≤ d → ∀ {σ : ST} (a1 : Int) (a2 : Int) (a3 : Int) (τ : TT) (Q : VQ), Sm (V g mX4_object d 0 [(0, vr (some (gw g))), (1, vi a1), (2, vi a2), (3, vi a3)] [] σ τ Q) (m_object n a1 a2 a3 τ) (fun r => Q.1 (some (vi r.1)) σ r.2) := by
  induction n with
  | zero => intro d hd σ a1 a2 a3 τ Q; exact sm_none
  | succ n ih =>
    intro d hd σ a1 a2 a3 τ Q
    exact m_objectb_ok G (D := 9 + 3 * n) (m_object n) ih d (by omega) (by omega) a1 a2 a3 τ Q
def m_member_L9 (u1 : Int) (u2 : Int) : Nat → Int → TT → Option ((Int × TT) ⊕ (Int × TT))
  | 0, _, _ => none
  | n + 1, w4, τ => Option.bind (m_look w4 τ) fun y15 => gd (rg y15) (if y15 = 125 then (some (Sum.inl (((-1), τ)))) else (Option.bind (m_string w4 τ) fun y19 => Option.bind (m_fieldNamed u2 y19.2) fun y20 => Option.bind (m_blanks y19.1 y20.2) fun y21 => Option.bind (m_blanks (y21 + 1) y20.2) fun y22 => gd (rg y20.1) (gd (rg u1) (if y20.1 = u1 then (some (Sum.inr ((y22, y20.2)))) else (Option.bind (m_literal y22 27 y20.2) fun y27 => Option.bind (gd (rg y27) (if y27 = ((-1)) then (gd (ib y20.1 50) (gd (rg (tA y20.2 29 y20.1.toNat)) (if (tA y20.2 29 y20.1.toNat) = 0 then (Option.bind (m_value (m_object 12) y20.1 y22 1 y20.2) fun y55 => some ((y55.1, y55.2))) else (Option.bind (m_array (m_object 12) y20.1 y22 1 y20.2) fun y56 => some ((y56.1, y56.2)))))) else (some ((y27, y20.2))))) fun (v33 : Int × TT) => Option.bind (m_blanks v33.1 v33.2) fun y37 => Option.bind (m_look y37 v33.2) fun y38 => Option.bind (gd (rg y38) (if y38 = 44 then (Option.bind (m_blanks (y37 + 1) v33.2) fun y46 => some y46) else (some y37))) fun (v42 : Int) => m_member_L9 u1 u2 n v42 v33.2)))))
def m_member (a1 : Int) (a2 : Int) (a3 : Int) (τ : TT) : Option (Int × TT) := Option.bind (m_blanks (a3 + 1) τ) fun y1 => Option.bind (m_member_L9 a1 a2 FU y1 τ) (Sum.elim some fun (v2 : Int × TT) => Option.bind (m_literal v2.1 27 v2.2) fun y6 => gd (rg y6) (if y6 = ((-1)) then (some ((v2.1, v2.2))) else (some (((-1), v2.2)))))
set_option maxHeartbeats 4000000 in
theorem m_member_L9_ok {g : GE} (G : GG g) {σ : ST} {Q : VQ} (d : Nat) (hd1 : 48 ≤ d) (u1 : Int) (u2 : Int)  {K : (Int × TT) ⊕ (Int × TT) → Prop} (hRET : ∀ r : Int × TT, K (Sum.inl r) → Q.1 (some (vi r.1)) σ r.2) (hE55 : ∀ v14 : Int × TT, K (Sum.inr v14) → V g mX4_member d 55 [(0, vr (some (gw g))), (6, vi v14.1)] [] σ v14.2 Q) : ∀ (n : Nat) (w4 : Int) (τ : TT), Sm (V g mX4_member d 9 [(0, vr (some (gw g))), (1, vi u1), (2, vi u2), (4, vi w4)] [] σ τ Q) (m_member_L9 u1 u2 n w4 τ) K := by
  intro n
  induction n with
  | zero => intro w4 τ; exact sm_none
  | succ n ih =>
    intro w4 τ
    rw [m_member_L9.eq_2]
    refine sm_b (l' := [(0, vr (some (gw g))), (1, vi u1), (2, vi u2), (4, vi w4)]) (st' := [vi w4, vr (some (gw g))]) (pc' := 12) [(.aload_n 0, vi 0, 10), (.iload 4, vi 0, 12)] (by decide +kernel) rfl rfl ?_
    refine sm_cv (N := mX4_look) (d' := d - 1) (fun r => (some (vi r))) (fun _ => σ) (fun _ => τ) [vi w4] [] rfl (by decide +kernel) q1902 q1904 qs103 (Or.inl ⟨rfl, q1905⟩) (show okN yX4_look 1 = true by decide +kernel) (fun H hR => hR.rvw G.1 G.2.1) rfl rfl (by omega) rfl (fun Q' => m_look_ok G (d - 1) (by omega) w4 τ Q') (fun y15 => ?_)
    refine sm_b (l' := [(0, vr (some (gw g))), (1, vi u1), (2, vi u2), (4, vi w4)]) (st' := [vi 125, vi y15]) (pc' := 17) [(.bipush 125, vi 125, 17)] (by decide +kernel) rfl rfl ?_
    refine sm_gd (fun h16 => ?_)
    refine sm_case (V g mX4_member d 158 [(0, vr (some (gw g))), (1, vi u1), (2, vi u2), (4, vi w4)] [] σ τ Q) (V g mX4_member d 20 [(0, vr (some (gw g))), (1, vi u1), (2, vi u2), (4, vi w4)] [] σ τ Q) ?_ ?_ (fun f69 p70 n71 => ?_)
    · refine sm_b (l' := [(0, vr (some (gw g))), (1, vi u1), (2, vi u2), (4, vi w4)]) (st' := [vi ((-1))]) (pc' := 159) [(.iconst (-1), vi (-1), 159)] (by decide +kernel) rfl rfl ?_
      exact sm_iret rfl (by decide +kernel) (fun h => hRET _ h)
    · refine sm_b (l' := [(0, vr (some (gw g))), (1, vi u1), (2, vi u2), (4, vi w4)]) (st' := [vi w4, vr (some (gw g))]) (pc' := 23) [(.aload_n 0, vi 0, 21), (.iload 4, vi 0, 23)] (by decide +kernel) rfl rfl ?_
      refine sm_cv (N := mX4_string) (d' := d - 1) (fun r => (some (vi r.1))) (fun _ => σ) (fun r => r.2) [vi w4] [] rfl (by decide +kernel) q1906 q1908 qs104 (Or.inl ⟨rfl, q1909⟩) (show okN yX4_string 1 = true by decide +kernel) (fun H hR => hR.rvw G.1 G.2.1) rfl rfl (by omega) rfl (fun Q' => m_string_ok G (d - 1) (by omega) w4 τ Q') (fun y19 => ?_)
      refine sm_b (l' := [(0, vr (some (gw g))), (1, vi u1), (2, vi u2), (4, vi y19.1)]) (st' := [vi u2, vr (some (gw g))]) (pc' := 30) [(.istore 4, vi 0, 28), (.aload_n 0, vi 0, 29), (.iload_n 2, vi 0, 30)] (by decide +kernel) rfl rfl ?_
      refine sm_cv (N := mX4_fieldNamed) (d' := d - 1) (fun r => (some (vi r.1))) (fun _ => σ) (fun r => r.2) [vi u2] [] rfl (by decide +kernel) q1923 q1925 qs108 (Or.inl ⟨rfl, q1926⟩) (show okN yX4_fieldNamed 1 = true by decide +kernel) (fun H hR => hR.rvw G.1 G.2.1) rfl rfl (by omega) rfl (fun Q' => m_fieldNamed_ok G (d - 1) (by omega) u2 y19.2 Q') (fun y20 => ?_)
      refine sm_b (l' := [(0, vr (some (gw g))), (1, vi u1), (2, vi u2), (4, vi y19.1), (5, vi y20.1)]) (st' := [vi y19.1, vr (some (gw g)), vr (some (gw g))]) (pc' := 39) [(.istore 5, vi 0, 35), (.aload_n 0, vi 0, 36), (.aload_n 0, vi 0, 37), (.iload 4, vi 0, 39)] (by decide +kernel) rfl rfl ?_
      refine sm_cv (N := mX4_blanks) (d' := d - 1) (fun r => (some (vi r))) (fun _ => σ) (fun _ => y20.2) [vi y19.1] [vr (some (gw g))] rfl (by decide +kernel) q1894 q1896 qs101 (Or.inl ⟨rfl, q1897⟩) (show okN yX4_blanks 1 = true by decide +kernel) (fun H hR => hR.rvw G.1 G.2.1) rfl rfl (by omega) rfl (fun Q' => m_blanks_ok G (d - 1) (by omega) y19.1 y20.2 Q') (fun y21 => ?_)
      refine sm_b (l' := [(0, vr (some (gw g))), (1, vi u1), (2, vi u2), (4, vi y19.1), (5, vi y20.1)]) (st' := [vi (y21 + 1), vr (some (gw g))]) (pc' := 44) [(.iconst 1, vi 1, 43), (.iadd, vi 0, 44)] (by decide +kernel) rfl rfl ?_
      refine sm_cv (N := mX4_blanks) (d' := d - 1) (fun r => (some (vi r))) (fun _ => σ) (fun _ => y20.2) [vi (y21 + 1)] [] rfl (by decide +kernel) q1894 q1896 qs101 (Or.inl ⟨rfl, q1897⟩) (show okN yX4_blanks 1 = true by decide +kernel) (fun H hR => hR.rvw G.1 G.2.1) rfl rfl (by omega) rfl (fun Q' => m_blanks_ok G (d - 1) (by omega) (y21 + 1) y20.2 Q') (fun y22 => ?_)
      refine sm_b (l' := [(0, vr (some (gw g))), (1, vi u1), (2, vi u2), (4, vi y19.1), (5, vi y20.1), (6, vi y22)]) (st' := [vi u1, vi y20.1]) (pc' := 52) [(.istore 6, vi 0, 49), (.iload 5, vi 0, 51), (.iload_n 1, vi 0, 52)] (by decide +kernel) rfl rfl ?_
      refine sm_gd (fun h23 => ?_)
      refine sm_gd (fun h24 => ?_)
      refine sm_case (V g mX4_member d 55 [(0, vr (some (gw g))), (1, vi u1), (2, vi u2), (4, vi y19.1), (5, vi y20.1), (6, vi y22)] [] σ y20.2 Q) (V g mX4_member d 75 [(0, vr (some (gw g))), (1, vi u1), (2, vi u2), (4, vi y19.1), (5, vi y20.1), (6, vi y22)] [] σ y20.2 Q) ?_ ?_ (fun f65 p66 n67 => ?_)
      · refine sm_pick [0, 5] (l' := [(0, vr (some (gw g))), (6, vi y22)]) rfl ?_
        exact sm_leaf (fun h => hE55 _ h)
      · refine sm_b (l' := [(0, vr (some (gw g))), (1, vi u1), (2, vi u2), (4, vi y19.1), (5, vi y20.1), (6, vi y22)]) (st' := [vi y22, vr (some (gw g))]) (pc' := 78) [(.aload_n 0, vi 0, 76), (.iload 6, vi 0, 78)] (by decide +kernel) rfl rfl ?_
        refine sm_strw (k := 27) G rfl (by decide +kernel) ?_
        refine sm_cv (N := mX4_literal) (d' := d - 1) (fun r => (some (vi r))) (fun _ => σ) (fun _ => y20.2) [vi y22, vr (some (gK g 27))] [] rfl (by decide +kernel) q1928 q1930 qs109 (Or.inl ⟨rfl, q1931⟩) (show okN yX4_literal 2 = true by decide +kernel) (fun H hR => hR.rvw G.1 G.2.1) rfl rfl (by omega) rfl (fun Q' => m_literal_ok G (d - 1) (by omega) y22 27 y20.2 Q') (fun y27 => ?_)
        refine sm_b (l' := [(0, vr (some (gw g))), (1, vi u1), (2, vi u2), (4, vi y19.1), (5, vi y20.1), (6, vi y22), (7, vi y27)]) (st' := [vi ((-1)), vi y27, vr (some (gw g))]) (pc' := 90) [(.istore 7, vi 0, 86), (.aload_n 0, vi 0, 87), (.iload 7, vi 0, 89), (.iconst (-1), vi (-1), 90)] (by decide +kernel) rfl rfl ?_
        refine sm_bind1 (fun (v33 : Int × TT) => V g mX4_member d 129 [(0, vr (some (gw g))), (1, vi u1), (2, vi u2)] [vi v33.1, vr (some (gw g))] σ v33.2 Q) (fun v33 => ?_) (fun K34 j35 => ?_)
        · refine sm_cv (N := mX4_blanks) (d' := d - 1) (fun r => (some (vi r))) (fun _ => σ) (fun _ => v33.2) [vi v33.1] [] rfl (by decide +kernel) q1894 q1896 qs101 (Or.inl ⟨rfl, q1897⟩) (show okN yX4_blanks 1 = true by decide +kernel) (fun H hR => hR.rvw G.1 G.2.1) rfl rfl (by omega) rfl (fun Q' => m_blanks_ok G (d - 1) (by omega) v33.1 v33.2 Q') (fun y37 => ?_)
          refine sm_b (l' := [(0, vr (some (gw g))), (1, vi u1), (2, vi u2), (4, vi y37)]) (st' := [vi y37, vr (some (gw g))]) (pc' := 137) [(.istore 4, vi 0, 134), (.aload_n 0, vi 0, 135), (.iload 4, vi 0, 137)] (by decide +kernel) rfl rfl ?_
          refine sm_cv (N := mX4_look) (d' := d - 1) (fun r => (some (vi r))) (fun _ => σ) (fun _ => v33.2) [vi y37] [] rfl (by decide +kernel) q1902 q1904 qs103 (Or.inl ⟨rfl, q1905⟩) (show okN yX4_look 1 = true by decide +kernel) (fun H hR => hR.rvw G.1 G.2.1) rfl rfl (by omega) rfl (fun Q' => m_look_ok G (d - 1) (by omega) y37 v33.2 Q') (fun y38 => ?_)
          refine sm_b (l' := [(0, vr (some (gw g))), (1, vi u1), (2, vi u2), (4, vi y37)]) (st' := [vi 44, vi y38]) (pc' := 142) [(.bipush 44, vi 44, 142)] (by decide +kernel) rfl rfl ?_
          refine sm_bind1 (fun (v42 : Int) => V g mX4_member d 155 [(0, vr (some (gw g))), (1, vi u1), (2, vi u2), (4, vi v42)] [] σ v33.2 Q) (fun v42 => ?_) (fun K43 j44 => ?_)
          · refine sm_b (l' := [(0, vr (some (gw g))), (1, vi u1), (2, vi u2), (4, vi v42)]) (st' := []) (pc' := 9) [(.goto (-146), vi 0, 9)] (by decide +kernel) rfl rfl ?_
            exact ih v42 v33.2
          · refine sm_gd (fun h39 => ?_)
            refine sm_case (V g mX4_member d 145 [(0, vr (some (gw g))), (1, vi u1), (2, vi u2), (4, vi y37)] [] σ v33.2 Q) (V g mX4_member d 155 [(0, vr (some (gw g))), (1, vi u1), (2, vi u2), (4, vi y37)] [] σ v33.2 Q) ?_ ?_ (fun f47 p48 n49 => ?_)
            · refine sm_b (l' := [(0, vr (some (gw g))), (1, vi u1), (2, vi u2), (4, vi y37)]) (st' := [vi (y37 + 1), vr (some (gw g))]) (pc' := 150) [(.aload_n 0, vi 0, 146), (.iload 4, vi 0, 148), (.iconst 1, vi 1, 149), (.iadd, vi 0, 150)] (by decide +kernel) rfl rfl ?_
              refine sm_cv (N := mX4_blanks) (d' := d - 1) (fun r => (some (vi r))) (fun _ => σ) (fun _ => v33.2) [vi (y37 + 1)] [] rfl (by decide +kernel) q1894 q1896 qs101 (Or.inl ⟨rfl, q1897⟩) (show okN yX4_blanks 1 = true by decide +kernel) (fun H hR => hR.rvw G.1 G.2.1) rfl rfl (by omega) rfl (fun Q' => m_blanks_ok G (d - 1) (by omega) (y37 + 1) v33.2 Q') (fun y46 => ?_)
              refine sm_b (l' := [(0, vr (some (gw g))), (1, vi u1), (2, vi u2), (4, vi y46)]) (st' := []) (pc' := 155) [(.istore 4, vi 0, 155)] (by decide +kernel) rfl rfl ?_
              exact sm_leaf (fun h => j44 _ h)
            · exact sm_leaf (fun h => j44 _ h)
            refine sm_icmp_ne (off := 13) (tgt := 155) h39 (by decide) (by decide +kernel) (fun c50 => ?_) (fun c50 => ?_)
            · exact n49 c50
            · exact p48 c50
        · refine sm_gd (fun h28 => ?_)
          refine sm_case (V g mX4_member d 98 [(0, vr (some (gw g))), (1, vi u1), (2, vi u2), (4, vi y19.1), (5, vi y20.1), (6, vi y22), (7, vi y27)] [vr (some (gw g))] σ y20.2 Q) (V g mX4_member d 93 [(0, vr (some (gw g))), (1, vi u1), (2, vi u2), (4, vi y19.1), (5, vi y20.1), (6, vi y22), (7, vi y27)] [vr (some (gw g))] σ y20.2 Q) ?_ ?_ (fun f61 p62 n63 => ?_)
          · refine sm_b (l' := [(0, vr (some (gw g))), (1, vi u1), (2, vi u2), (4, vi y19.1), (5, vi y20.1), (6, vi y22), (7, vi y27)]) (st' := [vr (some (gw g)), vr (some (gw g))]) (pc' := 99) [(.aload_n 0, vi 0, 99)] (by decide +kernel) rfl rfl ?_
            refine sm_tg (k := 29) (x := vr (some (gT g 29))) G.2.1 q1447 rfl rfl (by decide +kernel) ?_
            refine sm_b (l' := [(0, vr (some (gw g))), (1, vi u1), (2, vi u2), (4, vi y19.1), (5, vi y20.1), (6, vi y22), (7, vi y27)]) (st' := [vi y20.1, vr (some (gT g 29)), vr (some (gw g))]) (pc' := 104) [(.iload 5, vi 0, 104)] (by decide +kernel) rfl rfl ?_
            refine sm_gd (fun h51 => ?_)
            refine sm_zal (k := 29) G.2.1 (by decide) rfl (ibt (k := 29) h51) h51 (by decide +kernel) ?_
            refine sm_gd (fun h52 => ?_)
            refine sm_case (V g mX4_member d 120 [(0, vr (some (gw g))), (1, vi u1), (2, vi u2), (4, vi y19.1), (5, vi y20.1), (6, vi y22), (7, vi y27)] [vr (some (gw g))] σ y20.2 Q) (V g mX4_member d 108 [(0, vr (some (gw g))), (1, vi u1), (2, vi u2), (4, vi y19.1), (5, vi y20.1), (6, vi y22), (7, vi y27)] [vr (some (gw g))] σ y20.2 Q) ?_ ?_ (fun f57 p58 n59 => ?_)
            · refine sm_b (l' := [(0, vr (some (gw g))), (1, vi u1), (2, vi u2), (4, vi y19.1), (5, vi y20.1), (6, vi y22), (7, vi y27)]) (st' := [vi 1, vi y22, vi y20.1, vr (some (gw g)), vr (some (gw g))]) (pc' := 126) [(.aload_n 0, vi 0, 121), (.iload 5, vi 0, 123), (.iload 6, vi 0, 125), (.iconst 1, vi 1, 126)] (by decide +kernel) rfl rfl ?_
              refine sm_cv (N := mX4_value) (d' := d - 1) (fun r => (some (vi r.1))) (fun _ => σ) (fun r => r.2) [vi y20.1, vi y22, vi 1] [vr (some (gw g))] rfl (by decide +kernel) q1936 q1938 qs111 (Or.inl ⟨rfl, q1939⟩) (show okN yX4_value 3 = true by decide +kernel) (fun H hR => hR.rvw G.1 G.2.1) rfl rfl (by omega) rfl (fun Q' => m_value_ok G (D := 45) (m_object 12) (m_object_ok G 12) (d - 1) (by omega) (by omega) y20.1 y22 1 y20.2 Q') (fun y55 => ?_)
              refine sm_pick [0, 1, 2] (l' := [(0, vr (some (gw g))), (1, vi u1), (2, vi u2)]) rfl ?_
              exact sm_leaf (fun h => j35 _ h)
            · refine sm_b (l' := [(0, vr (some (gw g))), (1, vi u1), (2, vi u2), (4, vi y19.1), (5, vi y20.1), (6, vi y22), (7, vi y27)]) (st' := [vi 1, vi y22, vi y20.1, vr (some (gw g)), vr (some (gw g))]) (pc' := 114) [(.aload_n 0, vi 0, 109), (.iload 5, vi 0, 111), (.iload 6, vi 0, 113), (.iconst 1, vi 1, 114)] (by decide +kernel) rfl rfl ?_
              refine sm_cv (N := mX4_array) (d' := d - 1) (fun r => (some (vi r.1))) (fun _ => σ) (fun r => r.2) [vi y20.1, vi y22, vi 1] [vr (some (gw g))] rfl (by decide +kernel) q1932 q1934 qs110 (Or.inl ⟨rfl, q1935⟩) (show okN yX4_array 3 = true by decide +kernel) (fun H hR => hR.rvw G.1 G.2.1) rfl rfl (by omega) rfl (fun Q' => m_array_ok G (D := 45) (m_object 12) (m_object_ok G 12) (d - 1) (by omega) (by omega) y20.1 y22 1 y20.2 Q') (fun y56 => ?_)
              refine sm_b (l' := [(0, vr (some (gw g))), (1, vi u1), (2, vi u2), (4, vi y19.1), (5, vi y20.1), (6, vi y22), (7, vi y27)]) (st' := [vi y56.1, vr (some (gw g))]) (pc' := 129) [(.goto 12, vi 0, 129)] (by decide +kernel) rfl rfl ?_
              refine sm_pick [0, 1, 2] (l' := [(0, vr (some (gw g))), (1, vi u1), (2, vi u2)]) rfl ?_
              exact sm_leaf (fun h => j35 _ h)
            refine sm_if_eq (off := 15) (tgt := 120) h52 (by decide +kernel) (fun c60 => ?_) (fun c60 => ?_)
            · exact p58 c60
            · exact n59 c60
          · refine sm_b (l' := [(0, vr (some (gw g))), (1, vi u1), (2, vi u2), (4, vi y19.1), (5, vi y20.1), (6, vi y22), (7, vi y27)]) (st' := [vi y27, vr (some (gw g))]) (pc' := 129) [(.iload 7, vi 0, 95), (.goto 34, vi 0, 129)] (by decide +kernel) rfl rfl ?_
            refine sm_pick [0, 1, 2] (l' := [(0, vr (some (gw g))), (1, vi u1), (2, vi u2)]) rfl ?_
            exact sm_leaf (fun h => j35 _ h)
          refine sm_icmp_eq (off := 8) (tgt := 98) h28 (by decide) (by decide +kernel) (fun c64 => ?_) (fun c64 => ?_)
          · exact p62 c64
          · exact n63 c64
      refine sm_icmp_ne (off := 23) (tgt := 75) h23 h24 (by decide +kernel) (fun c68 => ?_) (fun c68 => ?_)
      · exact n67 c68
      · exact p66 c68
    refine sm_icmp_eq (off := 141) (tgt := 158) h16 (by decide) (by decide +kernel) (fun c72 => ?_) (fun c72 => ?_)
    · exact p70 c72
    · exact n71 c72
set_option maxHeartbeats 4000000 in
theorem m_member_ok {g : GE} (G : GG g) {σ : ST} (d : Nat) (hd1 : 48 ≤ d) (a1 : Int) (a2 : Int) (a3 : Int)  (τ : TT) (Q : VQ) : Sm (V g mX4_member d 0 [(0, vr (some (gw g))), (1, vi a1), (2, vi a2), (3, vi a3)] [] σ τ Q) (m_member a1 a2 a3 τ) (fun r => Q.1 (some (vi r.1)) σ r.2) := by
  unfold m_member
  refine sm_top (fun K hRET => ?_)
  refine sm_b (l' := [(0, vr (some (gw g))), (1, vi a1), (2, vi a2), (3, vi a3)]) (st' := [vi (a3 + 1), vr (some (gw g))]) (pc' := 4) [(.aload_n 0, vi 0, 1), (.iload_n 3, vi 0, 2), (.iconst 1, vi 1, 3), (.iadd, vi 0, 4)] (by decide +kernel) rfl rfl ?_
  refine sm_cv (N := mX4_blanks) (d' := d - 1) (fun r => (some (vi r))) (fun _ => σ) (fun _ => τ) [vi (a3 + 1)] [] rfl (by decide +kernel) q1894 q1896 qs101 (Or.inl ⟨rfl, q1897⟩) (show okN yX4_blanks 1 = true by decide +kernel) (fun H hR => hR.rvw G.1 G.2.1) rfl rfl (by omega) rfl (fun Q' => m_blanks_ok G (d - 1) (by omega) (a3 + 1) τ Q') (fun y1 => ?_)
  refine sm_b (l' := [(0, vr (some (gw g))), (1, vi a1), (2, vi a2), (3, vi a3), (4, vi y1)]) (st' := []) (pc' := 9) [(.istore 4, vi 0, 9)] (by decide +kernel) rfl rfl ?_
  refine sm_bindS (fun (v2 : Int × TT) => V g mX4_member d 55 [(0, vr (some (gw g))), (6, vi v2.1)] [] σ v2.2 Q) (fun v2 => ?_) (fun K3 o5 j4 => ?_)
  · refine sm_b (l' := [(0, vr (some (gw g))), (6, vi v2.1)]) (st' := [vi v2.1, vr (some (gw g))]) (pc' := 58) [(.aload_n 0, vi 0, 56), (.iload 6, vi 0, 58)] (by decide +kernel) rfl rfl ?_
    refine sm_strw (k := 27) G rfl (by decide +kernel) ?_
    refine sm_cv (N := mX4_literal) (d' := d - 1) (fun r => (some (vi r))) (fun _ => σ) (fun _ => v2.2) [vi v2.1, vr (some (gK g 27))] [] rfl (by decide +kernel) q1928 q1930 qs109 (Or.inl ⟨rfl, q1931⟩) (show okN yX4_literal 2 = true by decide +kernel) (fun H hR => hR.rvw G.1 G.2.1) rfl rfl (by omega) rfl (fun Q' => m_literal_ok G (d - 1) (by omega) v2.1 27 v2.2 Q') (fun y6 => ?_)
    refine sm_b (l' := [(0, vr (some (gw g))), (6, vi v2.1)]) (st' := [vi ((-1)), vi y6]) (pc' := 65) [(.iconst (-1), vi (-1), 65)] (by decide +kernel) rfl rfl ?_
    refine sm_gd (fun h7 => ?_)
    refine sm_case (V g mX4_member d 68 [(0, vr (some (gw g))), (6, vi v2.1)] [] σ v2.2 Q) (V g mX4_member d 73 [(0, vr (some (gw g))), (6, vi v2.1)] [] σ v2.2 Q) ?_ ?_ (fun f10 p11 n12 => ?_)
    · refine sm_b (l' := [(0, vr (some (gw g))), (6, vi v2.1)]) (st' := [vi v2.1]) (pc' := 74) [(.iload 6, vi 0, 70), (.goto 4, vi 0, 74)] (by decide +kernel) rfl rfl ?_
      exact sm_iret rfl (by decide +kernel) (fun h => hRET _ h)
    · refine sm_b (l' := [(0, vr (some (gw g))), (6, vi v2.1)]) (st' := [vi ((-1))]) (pc' := 74) [(.iconst (-1), vi (-1), 74)] (by decide +kernel) rfl rfl ?_
      exact sm_iret rfl (by decide +kernel) (fun h => hRET _ h)
    refine sm_icmp_ne (off := 8) (tgt := 73) h7 (by decide) (by decide +kernel) (fun c13 => ?_) (fun c13 => ?_)
    · exact n12 c13
    · exact p11 c13
  · refine sm_pick [0, 1, 2, 4] (l' := [(0, vr (some (gw g))), (1, vi a1), (2, vi a2), (4, vi y1)]) rfl ?_
    exact m_member_L9_ok G d hd1 a1 a2  (fun r h => hRET _ (o5 _ h)) (fun _ h => j4 _ h) FU y1 τ
def m_putVarint_L2  : Nat → Int64 → TT → Option (Int64 × TT)
  | 0, _, _ => none
  | n + 1, w3, τ => if (w3 < 0) ∨ (¬ (w3 ≤ 127)) then (Option.bind (m_put (iOr (lI (w3 &&& 127)) 128) τ) fun y9 => nm (lUsh w3 7) fun x10 => m_putVarint_L2 n x10 y9) else (some ((w3, τ)))
def m_putVarint (a1 : Int64) (τ : TT) : Option (TT) := Option.bind (m_putVarint_L2  FU a1 τ) fun (v1 : Int64 × TT) => Option.bind (m_put (lI v1.1) v1.2) fun y5 => some y5
set_option maxHeartbeats 4000000 in
theorem m_putVarint_L2_ok {g : GE} (G : GG g) {σ : ST} {Q : VQ} (d : Nat) (hd1 : 1 ≤ d)   {K : Int64 × TT → Prop} (hE38 : ∀ v6 : Int64 × TT, K (v6) → V g mX4_putVarint d 38 [(0, vr (some (gw g))), (3, vl v6.1)] [] σ v6.2 Q) : ∀ (n : Nat) (w3 : Int64) (τ : TT), Sm (V g mX4_putVarint d 2 [(0, vr (some (gw g))), (3, vl w3)] [] σ τ Q) (m_putVarint_L2 n w3 τ) K := by
  intro n
  induction n with
  | zero => intro w3 τ; exact sm_none
  | succ n ih =>
    intro w3 τ
    rw [m_putVarint_L2.eq_2]
    refine sm_b (l' := [(0, vr (some (gw g))), (3, vl w3)]) (st' := [vl 0, vl w3]) (pc' := 4) [(.lload_n 3, vi 0, 3), (.lconst 0, vl 0, 4)] (by decide +kernel) rfl rfl ?_
    refine sm_case (V g mX4_putVarint d 16 [(0, vr (some (gw g))), (3, vl w3)] [] σ τ Q) (V g mX4_putVarint d 38 [(0, vr (some (gw g))), (3, vl w3)] [] σ τ Q) ?_ ?_ (fun f11 p12 n13 => ?_)
    · refine sm_b (l' := [(0, vr (some (gw g))), (3, vl w3)]) (st' := [vl w3, vr (some (gw g))]) (pc' := 18) [(.aload_n 0, vi 0, 17), (.lload_n 3, vi 0, 18)] (by decide +kernel) rfl rfl ?_
      refine sm_ldc2 (by decide +kernel) q2006 ?_
      refine sm_b (l' := [(0, vr (some (gw g))), (3, vl w3)]) (st' := [vi (iOr (lI (w3 &&& 127)) 128), vr (some (gw g))]) (pc' := 27) [(.land, vi 0, 22), (.l2i, vi 0, 23), (.sipush 128, vi 128, 26), (.ior, vi 0, 27)] (by decide +kernel) rfl rfl ?_
      refine sm_cv (N := mX4_put) (d' := d - 1) (fun r => none) (fun _ => σ) (fun r => r) [vi (iOr (lI (w3 &&& 127)) 128)] [] rfl (by decide +kernel) q1817 q1819 qs86 (Or.inl ⟨rfl, q1820⟩) (show okN yX4_put 1 = true by decide +kernel) (fun H hR => hR.rvw G.1 G.2.1) rfl rfl (by omega) rfl (fun Q' => m_put_ok G (d - 1) (by omega) (iOr (lI (w3 &&& 127)) 128) τ Q') (fun y9 => ?_)
      refine sm_b (l' := [(0, vr (some (gw g))), (3, vl w3)]) (st' := [vl (lUsh w3 7)]) (pc' := 34) [(.lload_n 3, vi 0, 31), (.bipush 7, vi 7, 33), (.lushr, vi 0, 34)] (by decide +kernel) rfl rfl ?_
      refine sm_nml (fun x10 => ?_)
      refine sm_b (l' := [(0, vr (some (gw g))), (3, vl x10)]) (st' := []) (pc' := 2) [(.lstore_n 3, vi 0, 35), (.goto (-33), vi 0, 2)] (by decide +kernel) rfl rfl ?_
      exact ih x10 y9
    · exact sm_leaf (fun h => hE38 _ h)
    refine sm_lc_lt (off := 11) (tgt := 16) (by decide +kernel) (by decide +kernel) (fun c14 => ?_) (fun c14 => ?_)
    · exact p12 (Or.inl c14)
    · refine sm_b (l' := [(0, vr (some (gw g))), (3, vl w3)]) (st' := [vl w3]) (pc' := 9) [(.lload_n 3, vi 0, 9)] (by decide +kernel) rfl rfl ?_
      refine sm_ldc2 (by decide +kernel) q2006 ?_
      refine sm_lc_le (off := 25) (tgt := 38) (by decide +kernel) (by decide +kernel) (fun c15 => ?_) (fun c15 => ?_)
      · exact n13 (fun q => q.elim c14 (fun q => q c15))
      · exact p12 (Or.inr c15)
set_option maxHeartbeats 4000000 in
theorem m_putVarint_ok {g : GE} (G : GG g) {σ : ST} (d : Nat) (hd1 : 1 ≤ d) (a1 : Int64)  (τ : TT) (Q : VQ) : Sm (V g mX4_putVarint d 0 [(0, vr (some (gw g))), (1, vl a1)] [] σ τ Q) (m_putVarint a1 τ) (fun r => Q.1 none σ r) := by
  unfold m_putVarint
  refine sm_top (fun K hRET => ?_)
  refine sm_b (l' := [(0, vr (some (gw g))), (1, vl a1), (3, vl a1)]) (st' := []) (pc' := 2) [(.lload_n 1, vi 0, 1), (.lstore_n 3, vi 0, 2)] (by decide +kernel) rfl rfl ?_
  refine sm_bind1 (fun (v1 : Int64 × TT) => V g mX4_putVarint d 38 [(0, vr (some (gw g))), (3, vl v1.1)] [] σ v1.2 Q) (fun v1 => ?_) (fun K2 j3 => ?_)
  · refine sm_b (l' := [(0, vr (some (gw g))), (3, vl v1.1)]) (st' := [vi (lI v1.1), vr (some (gw g))]) (pc' := 41) [(.aload_n 0, vi 0, 39), (.lload_n 3, vi 0, 40), (.l2i, vi 0, 41)] (by decide +kernel) rfl rfl ?_
    refine sm_cv (N := mX4_put) (d' := d - 1) (fun r => none) (fun _ => σ) (fun r => r) [vi (lI v1.1)] [] rfl (by decide +kernel) q1817 q1819 qs86 (Or.inl ⟨rfl, q1820⟩) (show okN yX4_put 1 = true by decide +kernel) (fun H hR => hR.rvw G.1 G.2.1) rfl rfl (by omega) rfl (fun Q' => m_put_ok G (d - 1) (by omega) (lI v1.1) v1.2 Q') (fun y5 => ?_)
    exact sm_vret rfl (by decide +kernel) (fun h => hRET _ h)
  · refine sm_pick [0, 2] (l' := [(0, vr (some (gw g))), (3, vl a1)]) rfl ?_
    exact m_putVarint_L2_ok G d hd1   (fun _ h => j3 _ h) FU a1 τ
def m_putTag (a1 : Int) (a2 : Int) (τ : TT) : Option (TT) := gd (ib a1 50) (Option.bind (m_putVarint ((8 * (iL (tA τ 24 a1.toNat))) + (iL a2)) τ) fun y2 => some y2)
set_option maxHeartbeats 4000000 in
theorem m_putTag_ok {g : GE} (G : GG g) {σ : ST} (d : Nat) (hd1 : 2 ≤ d) (a1 : Int) (a2 : Int)  (τ : TT) (Q : VQ) : Sm (V g mX4_putTag d 0 [(0, vr (some (gw g))), (1, vi a1), (2, vi a2)] [] σ τ Q) (m_putTag a1 a2 τ) (fun r => Q.1 none σ r) := by
  unfold m_putTag
  refine sm_top (fun K hRET => ?_)
  refine sm_b (l' := [(0, vr (some (gw g))), (1, vi a1), (2, vi a2)]) (st' := [vr (some (gw g))]) (pc' := 1) [(.aload_n 0, vi 0, 1)] (by decide +kernel) rfl rfl ?_
  refine sm_ldc2 (by decide +kernel) q2001 ?_
  refine sm_b (l' := [(0, vr (some (gw g))), (1, vi a1), (2, vi a2)]) (st' := [vr (some (gw g)), vl 8, vr (some (gw g))]) (pc' := 5) [(.aload_n 0, vi 0, 5)] (by decide +kernel) rfl rfl ?_
  refine sm_tg (k := 24) (x := vr (some (gT g 24))) G.2.1 q1442 rfl rfl (by decide +kernel) ?_
  refine sm_b (l' := [(0, vr (some (gw g))), (1, vi a1), (2, vi a2)]) (st' := [vi a1, vr (some (gT g 24)), vl 8, vr (some (gw g))]) (pc' := 9) [(.iload_n 1, vi 0, 9)] (by decide +kernel) rfl rfl ?_
  refine sm_gd (fun h1 => ?_)
  refine sm_ial (k := 24) G.2.1 (by decide) rfl (ibt (k := 24) h1) h1 (by decide +kernel) ?_
  refine sm_b (l' := [(0, vr (some (gw g))), (1, vi a1), (2, vi a2)]) (st' := [vl ((8 * (iL (tA τ 24 a1.toNat))) + (iL a2)), vr (some (gw g))]) (pc' := 15) [(.i2l, vi 0, 11), (.lmul, vi 0, 12), (.iload_n 2, vi 0, 13), (.i2l, vi 0, 14), (.ladd, vi 0, 15)] (by decide +kernel) rfl rfl ?_
  refine sm_cv (N := mX4_putVarint) (d' := d - 1) (fun r => none) (fun _ => σ) (fun r => r) [vl ((8 * (iL (tA τ 24 a1.toNat))) + (iL a2))] [] rfl (by decide +kernel) q2002 q2004 qs125 (Or.inl ⟨rfl, q2005⟩) (show okN yX4_putVarint 1 = true by decide +kernel) (fun H hR => hR.rvw G.1 G.2.1) rfl rfl (by omega) rfl (fun Q' => m_putVarint_ok G (d - 1) (by omega) ((8 * (iL (tA τ 24 a1.toNat))) + (iL a2)) τ Q') (fun y2 => ?_)
  exact sm_vret rfl (by decide +kernel) (fun h => hRET _ h)
def m_putWhole_L61 (u2 : Int64) (u4 : Int) (u5 : Int) : Nat → Int → TT → Option (TT)
  | 0, _, _ => none
  | n + 1, w6, τ => gd (rg w6) (gd (rg u5) (if u5 ≤ w6 then (some τ) else (Option.bind (m_put (iAnd (lI (lShr u2 (8 * w6))) 255) τ) fun y53 => m_putWhole_L61 u2 u4 u5 n (w6 + 1) y53)))
def m_putWhole (a1 : Int) (τ : TT) : Option (TT) := Option.bind (gd (rg (tI τ 60)) (if (tI τ 60) = 0 then (some ((tJ τ 59))) else (some ((-(tJ τ 59)))))) fun (v4 : Int64) => gd (ib a1 50) (nm (tA τ 28 a1.toNat) fun x9 => Option.bind (m_ownKind a1 τ) fun y10 => Option.bind (gd (rg y10) (if y10 = 1 then (some 8) else (Option.bind (m_ownKind a1 τ) fun y58 => gd (rg y58) (if y58 = 5 then (some 4) else (some 0))))) fun (v16 : Int) => Option.bind (m_putWhole_L61 v4 x9 v16 FU 0 τ) fun (v20 : TT) => gd (rg v16) (if v16 = 0 then (Option.bind (gd (rg x9) (if x9 = 4 then (some ((((lShl v4 1) ^^^ (lShr v4 63)) &&& 4294967295))) else (if x9 = 5 then (some (((lShl v4 1) ^^^ (lShr v4 63)))) else (some v4)))) fun (v30 : Int64) => Option.bind (m_putVarint v30 v20) fun y34 => some y34) else (some v20)))
set_option maxHeartbeats 4000000 in
theorem m_putWhole_L61_ok {g : GE} (G : GG g) {σ : ST} {Q : VQ} (d : Nat) (hd1 : 2 ≤ d) (u2 : Int64) (u4 : Int) (u5 : Int)  {K : TT → Prop} (hE90 : ∀ v49 : TT, K (v49) → V g mX4_putWhole d 90 [(0, vr (some (gw g))), (2, vl u2), (4, vi u4), (5, vi u5)] [] σ v49 Q) : ∀ (n : Nat) (w6 : Int) (τ : TT), Sm (V g mX4_putWhole d 61 [(0, vr (some (gw g))), (2, vl u2), (4, vi u4), (5, vi u5), (6, vi w6)] [] σ τ Q) (m_putWhole_L61 u2 u4 u5 n w6 τ) K := by
  intro n
  induction n with
  | zero => intro w6 τ; exact sm_none
  | succ n ih =>
    intro w6 τ
    rw [m_putWhole_L61.eq_2]
    refine sm_b (l' := [(0, vr (some (gw g))), (2, vl u2), (4, vi u4), (5, vi u5), (6, vi w6)]) (st' := [vi u5, vi w6]) (pc' := 65) [(.iload 6, vi 0, 63), (.iload 5, vi 0, 65)] (by decide +kernel) rfl rfl ?_
    refine sm_gd (fun h50 => ?_)
    refine sm_gd (fun h51 => ?_)
    refine sm_case (V g mX4_putWhole d 90 [(0, vr (some (gw g))), (2, vl u2), (4, vi u4), (5, vi u5), (6, vi w6)] [] σ τ Q) (V g mX4_putWhole d 68 [(0, vr (some (gw g))), (2, vl u2), (4, vi u4), (5, vi u5), (6, vi w6)] [] σ τ Q) ?_ ?_ (fun f54 p55 n56 => ?_)
    · refine sm_pick [0, 1, 2, 3] (l' := [(0, vr (some (gw g))), (2, vl u2), (4, vi u4), (5, vi u5)]) rfl ?_
      exact sm_leaf (fun h => hE90 _ h)
    · refine sm_b (l' := [(0, vr (some (gw g))), (2, vl u2), (4, vi u4), (5, vi u5), (6, vi w6)]) (st' := [vi (iAnd (lI (lShr u2 (8 * w6))) 255), vr (some (gw g))]) (pc' := 81) [(.aload_n 0, vi 0, 69), (.lload_n 2, vi 0, 70), (.bipush 8, vi 8, 72), (.iload 6, vi 0, 74), (.imul, vi 0, 75), (.lshr, vi 0, 76), (.l2i, vi 0, 77), (.sipush 255, vi 255, 80), (.iand, vi 0, 81)] (by decide +kernel) rfl rfl ?_
      refine sm_cv (N := mX4_put) (d' := d - 1) (fun r => none) (fun _ => σ) (fun r => r) [vi (iAnd (lI (lShr u2 (8 * w6))) 255)] [] rfl (by decide +kernel) q1817 q1819 qs86 (Or.inl ⟨rfl, q1820⟩) (show okN yX4_put 1 = true by decide +kernel) (fun H hR => hR.rvw G.1 G.2.1) rfl rfl (by omega) rfl (fun Q' => m_put_ok G (d - 1) (by omega) (iAnd (lI (lShr u2 (8 * w6))) 255) τ Q') (fun y53 => ?_)
      refine sm_b (l' := [(0, vr (some (gw g))), (2, vl u2), (4, vi u4), (5, vi u5), (6, vi (w6 + 1))]) (st' := []) (pc' := 61) [(.iinc 6 1, vi 1, 87), (.goto (-26), vi 0, 61)] (by decide +kernel) rfl rfl ?_
      exact ih (w6 + 1) y53
    refine sm_icmp_ge (off := 25) (tgt := 90) h50 h51 (by decide +kernel) (fun c57 => ?_) (fun c57 => ?_)
    · exact p55 c57
    · exact n56 c57
set_option maxHeartbeats 4000000 in
theorem m_putWhole_ok {g : GE} (G : GG g) {σ : ST} (d : Nat) (hd1 : 2 ≤ d) (a1 : Int)  (τ : TT) (Q : VQ) : Sm (V g mX4_putWhole d 0 [(0, vr (some (gw g))), (1, vi a1)] [] σ τ Q) (m_putWhole a1 τ) (fun r => Q.1 none σ r) := by
  unfold m_putWhole
  refine sm_top (fun K hRET => ?_)
  refine sm_b (l' := [(0, vr (some (gw g))), (1, vi a1)]) (st' := [vr (some (gw g))]) (pc' := 1) [(.aload_n 0, vi 0, 1)] (by decide +kernel) rfl rfl ?_
  refine sm_tg (k := 60) (x := vi (tI τ 60)) G.2.1 q1478 rfl rfl (by decide +kernel) ?_
  refine sm_bind1 (fun (v4 : Int64) => V g mX4_putWhole d 19 [(0, vr (some (gw g))), (1, vi a1)] [vl v4] σ τ Q) (fun v4 => ?_) (fun K5 j6 => ?_)
  · refine sm_b (l' := [(0, vr (some (gw g))), (1, vi a1), (2, vl v4)]) (st' := [vr (some (gw g))]) (pc' := 21) [(.lstore_n 2, vi 0, 20), (.aload_n 0, vi 0, 21)] (by decide +kernel) rfl rfl ?_
    refine sm_tg (k := 28) (x := vr (some (gT g 28))) G.2.1 q1446 rfl rfl (by decide +kernel) ?_
    refine sm_b (l' := [(0, vr (some (gw g))), (1, vi a1), (2, vl v4)]) (st' := [vi a1, vr (some (gT g 28))]) (pc' := 25) [(.iload_n 1, vi 0, 25)] (by decide +kernel) rfl rfl ?_
    refine sm_gd (fun h8 => ?_)
    refine sm_ial (k := 28) G.2.1 (by decide) rfl (ibt (k := 28) h8) h8 (by decide +kernel) ?_
    refine sm_nmi (fun x9 => ?_)
    refine sm_b (l' := [(0, vr (some (gw g))), (1, vi a1), (2, vl v4), (4, vi x9)]) (st' := [vi a1, vr (some (gw g))]) (pc' := 30) [(.istore 4, vi 0, 28), (.aload_n 0, vi 0, 29), (.iload_n 1, vi 0, 30)] (by decide +kernel) rfl rfl ?_
    refine sm_cv (N := mX4_ownKind) (d' := d - 1) (fun r => (some (vi r))) (fun _ => σ) (fun _ => τ) [vi a1] [] rfl (by decide +kernel) q1782 q1784 qs79 (Or.inl ⟨rfl, q1785⟩) (show okN yX4_ownKind 1 = true by decide +kernel) (fun H hR => hR.rvw G.1 G.2.1) rfl rfl (by omega) rfl (fun Q' => m_ownKind_ok G (d - 1) (by omega) a1 τ Q') (fun y10 => ?_)
    refine sm_b (l' := [(0, vr (some (gw g))), (1, vi a1), (2, vl v4), (4, vi x9)]) (st' := [vi 1, vi y10]) (pc' := 34) [(.iconst 1, vi 1, 34)] (by decide +kernel) rfl rfl ?_
    refine sm_bind1 (fun (v16 : Int) => V g mX4_putWhole d 56 [(0, vr (some (gw g))), (2, vl v4), (4, vi x9)] [vi v16] σ τ Q) (fun v16 => ?_) (fun K17 j18 => ?_)
    · refine sm_b (l' := [(0, vr (some (gw g))), (2, vl v4), (4, vi x9), (5, vi v16), (6, vi 0)]) (st' := []) (pc' := 61) [(.istore 5, vi 0, 58), (.iconst 0, vi 0, 59), (.istore 6, vi 0, 61)] (by decide +kernel) rfl rfl ?_
      refine sm_bind1 (fun (v20 : TT) => V g mX4_putWhole d 90 [(0, vr (some (gw g))), (2, vl v4), (4, vi x9), (5, vi v16)] [] σ v20 Q) (fun v20 => ?_) (fun K21 j22 => ?_)
      · refine sm_b (l' := [(0, vr (some (gw g))), (2, vl v4), (4, vi x9), (5, vi v16)]) (st' := [vi v16]) (pc' := 92) [(.iload 5, vi 0, 92)] (by decide +kernel) rfl rfl ?_
        refine sm_gd (fun h24 => ?_)
        refine sm_case (V g mX4_putWhole d 95 [(0, vr (some (gw g))), (2, vl v4), (4, vi x9), (5, vi v16)] [] σ v20 Q) (V g mX4_putWhole d 138 [(0, vr (some (gw g))), (2, vl v4), (4, vi x9), (5, vi v16)] [] σ v20 Q) ?_ ?_ (fun f45 p46 n47 => ?_)
        · refine sm_b (l' := [(0, vr (some (gw g))), (2, vl v4), (4, vi x9), (5, vi v16)]) (st' := [vi 4, vi x9, vr (some (gw g))]) (pc' := 99) [(.aload_n 0, vi 0, 96), (.iload 4, vi 0, 98), (.iconst 4, vi 4, 99)] (by decide +kernel) rfl rfl ?_
          refine sm_bind1 (fun (v30 : Int64) => V g mX4_putWhole d 135 [] [vl v30, vr (some (gw g))] σ v20 Q) (fun v30 => ?_) (fun K31 j32 => ?_)
          · refine sm_cv (N := mX4_putVarint) (d' := d - 1) (fun r => none) (fun _ => σ) (fun r => r) [vl v30] [] rfl (by decide +kernel) q2002 q2004 qs125 (Or.inl ⟨rfl, q2005⟩) (show okN yX4_putVarint 1 = true by decide +kernel) (fun H hR => hR.rvw G.1 G.2.1) rfl rfl (by omega) rfl (fun Q' => m_putVarint_ok G (d - 1) (by omega) v30 v20 Q') (fun y34 => ?_)
            exact sm_vret rfl (by decide +kernel) (fun h => hRET _ h)
          · refine sm_gd (fun h27 => ?_)
            refine sm_case (V g mX4_putWhole d 102 [(0, vr (some (gw g))), (2, vl v4), (4, vi x9), (5, vi v16)] [vr (some (gw g))] σ v20 Q) (V g mX4_putWhole d 117 [(0, vr (some (gw g))), (2, vl v4), (4, vi x9), (5, vi v16)] [vr (some (gw g))] σ v20 Q) ?_ ?_ (fun f41 p42 n43 => ?_)
            · refine sm_b (l' := [(0, vr (some (gw g))), (2, vl v4), (4, vi x9), (5, vi v16)]) (st' := [vl ((lShl v4 1) ^^^ (lShr v4 63)), vr (some (gw g))]) (pc' := 110) [(.lload_n 2, vi 0, 103), (.iconst 1, vi 1, 104), (.lshl, vi 0, 105), (.lload_n 2, vi 0, 106), (.bipush 63, vi 63, 108), (.lshr, vi 0, 109), (.lxor, vi 0, 110)] (by decide +kernel) rfl rfl ?_
              refine sm_ldc2 (by decide +kernel) q1861 ?_
              refine sm_b (l' := [(0, vr (some (gw g))), (2, vl v4), (4, vi x9), (5, vi v16)]) (st' := [vl (((lShl v4 1) ^^^ (lShr v4 63)) &&& 4294967295), vr (some (gw g))]) (pc' := 135) [(.land, vi 0, 114), (.goto 21, vi 0, 135)] (by decide +kernel) rfl rfl ?_
              refine sm_pick [] (l' := []) rfl ?_
              exact sm_leaf (fun h => j32 _ h)
            · refine sm_b (l' := [(0, vr (some (gw g))), (2, vl v4), (4, vi x9), (5, vi v16)]) (st' := [vi 5, vi x9, vr (some (gw g))]) (pc' := 120) [(.iload 4, vi 0, 119), (.iconst 5, vi 5, 120)] (by decide +kernel) rfl rfl ?_
              refine sm_case (V g mX4_putWhole d 123 [(0, vr (some (gw g))), (2, vl v4), (4, vi x9), (5, vi v16)] [vr (some (gw g))] σ v20 Q) (V g mX4_putWhole d 134 [(0, vr (some (gw g))), (2, vl v4), (4, vi x9), (5, vi v16)] [vr (some (gw g))] σ v20 Q) ?_ ?_ (fun f37 p38 n39 => ?_)
              · refine sm_b (l' := [(0, vr (some (gw g))), (2, vl v4), (4, vi x9), (5, vi v16)]) (st' := [vl ((lShl v4 1) ^^^ (lShr v4 63)), vr (some (gw g))]) (pc' := 135) [(.lload_n 2, vi 0, 124), (.iconst 1, vi 1, 125), (.lshl, vi 0, 126), (.lload_n 2, vi 0, 127), (.bipush 63, vi 63, 129), (.lshr, vi 0, 130), (.lxor, vi 0, 131), (.goto 4, vi 0, 135)] (by decide +kernel) rfl rfl ?_
                refine sm_pick [] (l' := []) rfl ?_
                exact sm_leaf (fun h => j32 _ h)
              · refine sm_b (l' := [(0, vr (some (gw g))), (2, vl v4), (4, vi x9), (5, vi v16)]) (st' := [vl v4, vr (some (gw g))]) (pc' := 135) [(.lload_n 2, vi 0, 135)] (by decide +kernel) rfl rfl ?_
                refine sm_pick [] (l' := []) rfl ?_
                exact sm_leaf (fun h => j32 _ h)
              refine sm_icmp_ne (off := 14) (tgt := 134) h27 (by decide) (by decide +kernel) (fun c40 => ?_) (fun c40 => ?_)
              · exact n39 c40
              · exact p38 c40
            refine sm_icmp_ne (off := 18) (tgt := 117) h27 (by decide) (by decide +kernel) (fun c44 => ?_) (fun c44 => ?_)
            · exact n43 c44
            · exact p42 c44
        · exact sm_vret rfl (by decide +kernel) (fun h => hRET _ h)
        refine sm_if_ne (off := 46) (tgt := 138) h24 (by decide +kernel) (fun c48 => ?_) (fun c48 => ?_)
        · exact n47 c48
        · exact p46 c48
      · exact m_putWhole_L61_ok G d hd1 v4 x9 v16  (fun _ h => j22 _ h) FU 0 τ
    · refine sm_gd (fun h11 => ?_)
      refine sm_case (V g mX4_putWhole d 37 [(0, vr (some (gw g))), (1, vi a1), (2, vl v4), (4, vi x9)] [] σ τ Q) (V g mX4_putWhole d 42 [(0, vr (some (gw g))), (1, vi a1), (2, vl v4), (4, vi x9)] [] σ τ Q) ?_ ?_ (fun f66 p67 n68 => ?_)
      · refine sm_b (l' := [(0, vr (some (gw g))), (1, vi a1), (2, vl v4), (4, vi x9)]) (st' := [vi 8]) (pc' := 56) [(.bipush 8, vi 8, 39), (.goto 17, vi 0, 56)] (by decide +kernel) rfl rfl ?_
        refine sm_pick [0, 2, 3] (l' := [(0, vr (some (gw g))), (2, vl v4), (4, vi x9)]) rfl ?_
        exact sm_leaf (fun h => j18 _ h)
      · refine sm_b (l' := [(0, vr (some (gw g))), (1, vi a1), (2, vl v4), (4, vi x9)]) (st' := [vi a1, vr (some (gw g))]) (pc' := 44) [(.aload_n 0, vi 0, 43), (.iload_n 1, vi 0, 44)] (by decide +kernel) rfl rfl ?_
        refine sm_cv (N := mX4_ownKind) (d' := d - 1) (fun r => (some (vi r))) (fun _ => σ) (fun _ => τ) [vi a1] [] rfl (by decide +kernel) q1782 q1784 qs79 (Or.inl ⟨rfl, q1785⟩) (show okN yX4_ownKind 1 = true by decide +kernel) (fun H hR => hR.rvw G.1 G.2.1) rfl rfl (by omega) rfl (fun Q' => m_ownKind_ok G (d - 1) (by omega) a1 τ Q') (fun y58 => ?_)
        refine sm_b (l' := [(0, vr (some (gw g))), (1, vi a1), (2, vl v4), (4, vi x9)]) (st' := [vi 5, vi y58]) (pc' := 48) [(.iconst 5, vi 5, 48)] (by decide +kernel) rfl rfl ?_
        refine sm_gd (fun h59 => ?_)
        refine sm_case (V g mX4_putWhole d 51 [(0, vr (some (gw g))), (1, vi a1), (2, vl v4), (4, vi x9)] [] σ τ Q) (V g mX4_putWhole d 55 [(0, vr (some (gw g))), (1, vi a1), (2, vl v4), (4, vi x9)] [] σ τ Q) ?_ ?_ (fun f62 p63 n64 => ?_)
        · refine sm_b (l' := [(0, vr (some (gw g))), (1, vi a1), (2, vl v4), (4, vi x9)]) (st' := [vi 4]) (pc' := 56) [(.iconst 4, vi 4, 52), (.goto 4, vi 0, 56)] (by decide +kernel) rfl rfl ?_
          refine sm_pick [0, 2, 3] (l' := [(0, vr (some (gw g))), (2, vl v4), (4, vi x9)]) rfl ?_
          exact sm_leaf (fun h => j18 _ h)
        · refine sm_b (l' := [(0, vr (some (gw g))), (1, vi a1), (2, vl v4), (4, vi x9)]) (st' := [vi 0]) (pc' := 56) [(.iconst 0, vi 0, 56)] (by decide +kernel) rfl rfl ?_
          refine sm_pick [0, 2, 3] (l' := [(0, vr (some (gw g))), (2, vl v4), (4, vi x9)]) rfl ?_
          exact sm_leaf (fun h => j18 _ h)
        refine sm_icmp_ne (off := 7) (tgt := 55) h59 (by decide) (by decide +kernel) (fun c65 => ?_) (fun c65 => ?_)
        · exact n64 c65
        · exact p63 c65
      refine sm_icmp_ne (off := 8) (tgt := 42) h11 (by decide) (by decide +kernel) (fun c69 => ?_) (fun c69 => ?_)
      · exact n68 c69
      · exact p67 c69
  · refine sm_gd (fun h1 => ?_)
    refine sm_case (V g mX4_putWhole d 15 [(0, vr (some (gw g))), (1, vi a1)] [] σ τ Q) (V g mX4_putWhole d 7 [(0, vr (some (gw g))), (1, vi a1)] [] σ τ Q) ?_ ?_ (fun f70 p71 n72 => ?_)
    · refine sm_b (l' := [(0, vr (some (gw g))), (1, vi a1)]) (st' := [vr (some (gw g))]) (pc' := 16) [(.aload_n 0, vi 0, 16)] (by decide +kernel) rfl rfl ?_
      refine sm_tg (k := 59) (x := vl (tJ τ 59)) G.2.1 q1477 rfl rfl (by decide +kernel) ?_
      exact sm_leaf (fun h => j6 _ h)
    · refine sm_b (l' := [(0, vr (some (gw g))), (1, vi a1)]) (st' := [vr (some (gw g))]) (pc' := 8) [(.aload_n 0, vi 0, 8)] (by decide +kernel) rfl rfl ?_
      refine sm_tg (k := 59) (x := vl (tJ τ 59)) G.2.1 q1477 rfl rfl (by decide +kernel) ?_
      refine sm_b (l' := [(0, vr (some (gw g))), (1, vi a1)]) (st' := [vl (-(tJ τ 59))]) (pc' := 19) [(.lneg, vi 0, 12), (.goto 7, vi 0, 19)] (by decide +kernel) rfl rfl ?_
      exact sm_leaf (fun h => j6 _ h)
    refine sm_if_eq (off := 11) (tgt := 15) h1 (by decide +kernel) (fun c73 => ?_) (fun c73 => ?_)
    · exact p71 c73
    · exact n72 c73
