set_option maxRecDepth 100000
/-! the reference: X4_isWhole, X4_fits -/
def m_isWhole_L380 (u11 : Int) : Nat → Int → TT → Option (Int × TT)
  | 0, _, _ => none
  | n + 1, w12, τ => gd (rg w12) (gd (rg u11) (if u11 ≤ w12 then (some ((1, τ))) else (Option.bind (m_grows 0 τ) fun y69 => gd (rg y69.1) (if y69.1 = 0 then (some ((0, y69.2))) else (m_isWhole_L380 u11 n (w12 + 1) y69.2)))))
def m_isWhole_L334 (u8 : Int) (u11 : Int) : Nat → Int → TT → Option ((Int × TT) ⊕ (TT))
  | 0, _, _ => none
  | n + 1, w12, τ => gd (rg w12) (gd (rg u8) (if u8 < w12 then (some (Sum.inr τ)) else (Option.bind (m_symbol w12 τ) fun y88 => Option.bind (m_isDigit y88) fun y89 => Option.bind (gd (rg y89) (if y89 = 0 then (some (Sum.inr τ)) else (Option.bind (m_symbol w12 τ) fun y97 => Option.bind (m_grows (y97 - 48) τ) fun y98 => gd (rg y98.1) (if y98.1 = 0 then (some (Sum.inl (Sum.inl ((0, y98.2))))) else (some (Sum.inr y98.2)))))) (Sum.elim some fun (v93 : TT) => m_isWhole_L334 u8 u11 n (w12 + 1) v93))))
def m_isWhole_L273 (u3 : Int) (u8 : Int) (τ : TT) : Nat → Int → Int → Int → Int → Option (Int × Int)
  | 0, _, _, _, _ => none
  | n + 1, w5, w7, w9, w11 => gd (rg w11) (gd (rg u8) (if w11 ≤ u8 then (some ((w5, w7))) else (Option.bind (m_symbol w11 τ) fun y123 => Option.bind (gd (rg y123) (if y123 = 46 then (some ((w5, w7, 0))) else (gd (rg w9) (if w9 = 0 then (some ((w5 + 1, w7, w9))) else (some ((w5, w7 + (-1), w9))))))) fun (v128 : Int × Int × Int) => m_isWhole_L273 u3 u8 τ n v128.1 v128.2.1 v128.2.2 (w11 + (-1)))))
def m_isWhole_L184 (u3 : Int) (u4 : Int) (u5 : Int) (τ : TT) : Nat → Int → Int → Int → Int → Int → Option (Int × Int × Int × Int)
  | 0, _, _, _, _, _ => none
  | n + 1, w7, w8, w9, w10, w11 => gd (rg w11) (gd (rg u4) (if u4 ≤ w11 then (some ((w7, w8, w9, w10))) else (Option.bind (m_symbol w11 τ) fun y157 => Option.bind (gd (rg y157) (if y157 = 46 then (some ((w7, w8, 1, w10))) else (Option.bind (gd (rg w9) (if w9 = 0 then (some 0) else (some 1))) fun (v169 : Int) => nm (w7 + v169) fun x173 => Option.bind (m_symbol w11 τ) fun y174 => gd (rg y174) (if y174 = 48 then (some ((x173, w8, w9, w10))) else (some ((x173, w11, w9, 1))))))) fun (v162 : Int × Int × Int × Int) => m_isWhole_L184 u3 u4 u5 τ n v162.1 v162.2.1 v162.2.2.1 v162.2.2.2 (w11 + 1))))
def m_isWhole_L105 (u2 : Int) (u3 : Int) (u4 : Int) (u6 : Int) (τ : TT) : Nat → Int → Int → Option (Int)
  | 0, _, _ => none
  | n + 1, w5, w7 => gd (rg w7) (gd (rg u2) (if u2 ≤ w7 then (some w5) else (Option.bind (m_symbol w7 τ) fun y206 => Option.bind (m_isDigit y206) fun y207 => Option.bind (gd (rg y207) (if y207 = 0 then (some w5) else (Option.bind (gd (rg w5) (if w5 ≤ 100000 then (Option.bind (m_symbol w7 τ) fun y223 => some ((((10 * w5) + y223) - 48))) else (some w5))) fun (v219 : Int) => some v219))) fun (v211 : Int) => m_isWhole_L105 u2 u3 u4 u6 τ n v211 (w7 + 1))))
def m_isWhole_L34 (u2 : Int) (u3 : Int) (τ : TT) : Nat → Int → Option (Int)
  | 0, _ => none
  | n + 1, w4 => gd (rg w4) (gd (rg u2) (gd (¬ (u2 ≤ w4) → ok (m_symbol w4 τ)) (gd (¬ (u2 ≤ w4) → rg (vv (m_symbol w4 τ))) (gd (¬ ((u2 ≤ w4) ∨ ((vv (m_symbol w4 τ)) = 101)) → ok (m_symbol w4 τ)) (gd (¬ ((u2 ≤ w4) ∨ ((vv (m_symbol w4 τ)) = 101)) → rg (vv (m_symbol w4 τ))) (if ((u2 ≤ w4) ∨ ((vv (m_symbol w4 τ)) = 101)) ∨ ((vv (m_symbol w4 τ)) = 69) then (some w4) else (m_isWhole_L34 u2 u3 τ n (w4 + 1))))))))
def m_isWhole (a1 : Int) (a2 : Int) (τ : TT) : Option (Int × TT) := Option.bind (m_symbol a1 τ) fun y1 => Option.bind (gd (rg y1) (if y1 = 45 then (some 1) else (some 0))) fun (v5 : Int) => gd (zb v5) (nm (uI τ 60 v5) fun τ10 => Option.bind (gd (rg (tI τ10 60)) (if (tI τ10 60) = 0 then (some a1) else (some ((a1 + 1))))) fun (v13 : Int) => Option.bind (m_isWhole_L34 a2 v13 τ10 FU v13) fun (v17 : Int) => Option.bind (gd (rg (v17 + 1)) (gd (rg a2) (gd (¬ (a2 ≤ (v17 + 1)) → ok (m_symbol (v17 + 1) τ10)) (gd (¬ (a2 ≤ (v17 + 1)) → rg (vv (m_symbol (v17 + 1) τ10))) (if (a2 ≤ (v17 + 1)) ∨ (¬ ((vv (m_symbol (v17 + 1) τ10)) = 45)) then (some 0) else (some 1)))))) fun (v28 : Int) => nm (v17 + 1) fun x32 => Option.bind (m_isWhole_L105 a2 v13 v17 v28 τ10 FU 0 x32) fun (v33 : Int) => Option.bind (gd (rg v28) (if v28 = 0 then (some v33) else (nm (-v33) fun x194 => some x194))) fun (v39 : Int) => Option.bind (m_isWhole_L184 v13 v17 v39 τ10 FU 0 0 0 0 v13) fun (v43 : Int × Int × Int × Int) => nm (uJ τ10 59 0) fun τ47 => gd (rg v43.2.2.2) (if v43.2.2.2 = 0 then (nm (uI τ47 60 0) fun τ51 => some ((1, τ51))) else (nm (v17 - 1) fun x52 => Option.bind (m_isWhole_L273 v13 v43.2.1 τ47 FU v39 v43.1 v43.2.2.1 x52) fun (v53 : Int × Int) => nm (v53.1 - v53.2) fun x57 => gd (rg x57) (if 0 ≤ x57 then (Option.bind (m_isWhole_L334 v43.2.1 x57 FU v13 τ47) (Sum.elim some fun (v61 : TT) => m_isWhole_L380 x57 FU 0 v61)) else (some ((0, τ47)))))))
set_option maxHeartbeats 4000000 in
theorem m_isWhole_L380_ok {g : GE} (G : GG g) {σ : ST} {Q : VQ} (d : Nat) (hd1 : 3 ≤ d) (u11 : Int)  {K : Int × TT → Prop} (hRET : ∀ r : Int × TT, K (r) → Q.1 (some (vi r.1)) σ r.2) : ∀ (n : Nat) (w12 : Int) (τ : TT), Sm (V g mX4_isWhole d 380 [(0, vr (some (gw g))), (11, vi u11), (12, vi w12)] [] σ τ Q) (m_isWhole_L380 u11 n w12 τ) K := by
  intro n
  induction n with
  | zero => intro w12 τ; exact sm_none
  | succ n ih =>
    intro w12 τ
    rw [m_isWhole_L380.eq_2]
    refine sm_b (l' := [(0, vr (some (gw g))), (11, vi u11), (12, vi w12)]) (st' := [vi u11, vi w12]) (pc' := 384) [(.iload 12, vi 0, 382), (.iload 11, vi 0, 384)] (by decide +kernel) rfl rfl ?_
    refine sm_gd (fun h65 => ?_)
    refine sm_gd (fun h66 => ?_)
    refine sm_case (V g mX4_isWhole d 403 [(0, vr (some (gw g))), (11, vi u11), (12, vi w12)] [] σ τ Q) (V g mX4_isWhole d 387 [(0, vr (some (gw g))), (11, vi u11), (12, vi w12)] [] σ τ Q) ?_ ?_ (fun f77 p78 n79 => ?_)
    · refine sm_b (l' := [(0, vr (some (gw g))), (11, vi u11), (12, vi w12)]) (st' := [vi 1]) (pc' := 404) [(.iconst 1, vi 1, 404)] (by decide +kernel) rfl rfl ?_
      exact sm_zret rfl (by decide +kernel) (by decide) (fun h => hRET _ h)
    · refine sm_b (l' := [(0, vr (some (gw g))), (11, vi u11), (12, vi w12)]) (st' := [vi 0, vr (some (gw g))]) (pc' := 389) [(.aload_n 0, vi 0, 388), (.iconst 0, vi 0, 389)] (by decide +kernel) rfl rfl ?_
      refine sm_cv (N := mX4_grows) (d' := d - 1) (fun r => (some (vi r.1))) (fun _ => σ) (fun r => r.2) [vi 0] [] rfl (by decide +kernel) q1973 q1975 qs119 (Or.inl ⟨rfl, q1976⟩) (show okN yX4_grows 1 = true by decide +kernel) (fun H hR => hR.rvw G.1 G.2.1) rfl rfl (by omega) rfl (fun Q' => m_grows_ok G (d - 1) (by omega) 0 τ Q') (fun y69 => ?_)
      refine sm_gd (fun h70 => ?_)
      refine sm_case (V g mX4_isWhole d 395 [(0, vr (some (gw g))), (11, vi u11), (12, vi w12)] [] σ y69.2 Q) (V g mX4_isWhole d 397 [(0, vr (some (gw g))), (11, vi u11), (12, vi w12)] [] σ y69.2 Q) ?_ ?_ (fun f73 p74 n75 => ?_)
      · refine sm_b (l' := [(0, vr (some (gw g))), (11, vi u11), (12, vi w12)]) (st' := [vi 0]) (pc' := 396) [(.iconst 0, vi 0, 396)] (by decide +kernel) rfl rfl ?_
        exact sm_zret rfl (by decide +kernel) (by decide) (fun h => hRET _ h)
      · refine sm_b (l' := [(0, vr (some (gw g))), (11, vi u11), (12, vi (w12 + 1))]) (st' := []) (pc' := 380) [(.iinc 12 1, vi 1, 400), (.goto (-20), vi 0, 380)] (by decide +kernel) rfl rfl ?_
        exact ih (w12 + 1) y69.2
      refine sm_if_ne (off := 5) (tgt := 397) h70 (by decide +kernel) (fun c76 => ?_) (fun c76 => ?_)
      · exact n75 c76
      · exact p74 c76
    refine sm_icmp_ge (off := 19) (tgt := 403) h65 h66 (by decide +kernel) (fun c80 => ?_) (fun c80 => ?_)
    · exact p78 c80
    · exact n79 c80
set_option maxHeartbeats 4000000 in
theorem m_isWhole_L334_ok {g : GE} (G : GG g) {σ : ST} {Q : VQ} (d : Nat) (hd1 : 3 ≤ d) (u8 : Int) (u11 : Int)  {K : (Int × TT) ⊕ (TT) → Prop} (hRET : ∀ r : Int × TT, K (Sum.inl r) → Q.1 (some (vi r.1)) σ r.2) (hE377 : ∀ v81 : TT, K (Sum.inr v81) → V g mX4_isWhole d 377 [(0, vr (some (gw g))), (11, vi u11)] [] σ v81 Q) : ∀ (n : Nat) (w12 : Int) (τ : TT), Sm (V g mX4_isWhole d 334 [(0, vr (some (gw g))), (8, vi u8), (11, vi u11), (12, vi w12)] [] σ τ Q) (m_isWhole_L334 u8 u11 n w12 τ) K := by
  intro n
  induction n with
  | zero => intro w12 τ; exact sm_none
  | succ n ih =>
    intro w12 τ
    rw [m_isWhole_L334.eq_2]
    refine sm_b (l' := [(0, vr (some (gw g))), (8, vi u8), (11, vi u11), (12, vi w12)]) (st' := [vi u8, vi w12]) (pc' := 338) [(.iload 12, vi 0, 336), (.iload 8, vi 0, 338)] (by decide +kernel) rfl rfl ?_
    refine sm_gd (fun h82 => ?_)
    refine sm_gd (fun h83 => ?_)
    refine sm_case (V g mX4_isWhole d 377 [(0, vr (some (gw g))), (8, vi u8), (11, vi u11), (12, vi w12)] [] σ τ Q) (V g mX4_isWhole d 341 [(0, vr (some (gw g))), (8, vi u8), (11, vi u11), (12, vi w12)] [] σ τ Q) ?_ ?_ (fun f109 p110 n111 => ?_)
    · refine sm_pick [0, 2] (l' := [(0, vr (some (gw g))), (11, vi u11)]) rfl ?_
      exact sm_leaf (fun h => hE377 _ h)
    · refine sm_b (l' := [(0, vr (some (gw g))), (8, vi u8), (11, vi u11), (12, vi w12)]) (st' := [vi w12, vr (some (gw g))]) (pc' := 344) [(.aload_n 0, vi 0, 342), (.iload 12, vi 0, 344)] (by decide +kernel) rfl rfl ?_
      refine sm_cv (N := mX4_symbol) (d' := d - 1) (fun r => (some (vi r))) (fun _ => σ) (fun _ => τ) [vi w12] [] rfl (by decide +kernel) q1960 q1962 qs116 (Or.inl ⟨rfl, q1963⟩) (show okN yX4_symbol 1 = true by decide +kernel) (fun H hR => hR.rvw G.1 G.2.1) rfl rfl (by omega) rfl (fun Q' => m_symbol_ok G (d - 1) (by omega) w12 τ Q') (fun y88 => ?_)
      refine sm_cs (N := mX4_isDigit) (d' := d - 1) (fun r => (some (vi r))) (fun _ => σ) (fun _ => τ) [vi y88] [] rfl (by decide +kernel) q1626 q1627 q138 (Or.inl ⟨rfl, q1628⟩) (show okN yX4_isDigit 1 = true by decide +kernel) rfl rfl (by omega) rfl (fun Q' => m_isDigit_ok G (d - 1) (by omega) y88 τ Q') (fun y89 => ?_)
      refine sm_bindS (fun (v93 : TT) => V g mX4_isWhole d 371 [(0, vr (some (gw g))), (8, vi u8), (11, vi u11), (12, vi w12)] [] σ v93 Q) (fun v93 => ?_) (fun K94 o96 j95 => ?_)
      · refine sm_b (l' := [(0, vr (some (gw g))), (8, vi u8), (11, vi u11), (12, vi (w12 + 1))]) (st' := []) (pc' := 334) [(.iinc 12 1, vi 1, 374), (.goto (-40), vi 0, 334)] (by decide +kernel) rfl rfl ?_
        exact ih (w12 + 1) v93
      · refine sm_gd (fun h90 => ?_)
        refine sm_case (V g mX4_isWhole d 371 [(0, vr (some (gw g))), (8, vi u8), (11, vi u11), (12, vi w12)] [] σ τ Q) (V g mX4_isWhole d 353 [(0, vr (some (gw g))), (8, vi u8), (11, vi u11), (12, vi w12)] [] σ τ Q) ?_ ?_ (fun f105 p106 n107 => ?_)
        · exact sm_leaf (fun h => j95 _ h)
        · refine sm_b (l' := [(0, vr (some (gw g))), (8, vi u8), (11, vi u11), (12, vi w12)]) (st' := [vi w12, vr (some (gw g)), vr (some (gw g))]) (pc' := 357) [(.aload_n 0, vi 0, 354), (.aload_n 0, vi 0, 355), (.iload 12, vi 0, 357)] (by decide +kernel) rfl rfl ?_
          refine sm_cv (N := mX4_symbol) (d' := d - 1) (fun r => (some (vi r))) (fun _ => σ) (fun _ => τ) [vi w12] [vr (some (gw g))] rfl (by decide +kernel) q1960 q1962 qs116 (Or.inl ⟨rfl, q1963⟩) (show okN yX4_symbol 1 = true by decide +kernel) (fun H hR => hR.rvw G.1 G.2.1) rfl rfl (by omega) rfl (fun Q' => m_symbol_ok G (d - 1) (by omega) w12 τ Q') (fun y97 => ?_)
          refine sm_b (l' := [(0, vr (some (gw g))), (8, vi u8), (11, vi u11), (12, vi w12)]) (st' := [vi (y97 - 48), vr (some (gw g))]) (pc' := 363) [(.bipush 48, vi 48, 362), (.isub, vi 0, 363)] (by decide +kernel) rfl rfl ?_
          refine sm_cv (N := mX4_grows) (d' := d - 1) (fun r => (some (vi r.1))) (fun _ => σ) (fun r => r.2) [vi (y97 - 48)] [] rfl (by decide +kernel) q1973 q1975 qs119 (Or.inl ⟨rfl, q1976⟩) (show okN yX4_grows 1 = true by decide +kernel) (fun H hR => hR.rvw G.1 G.2.1) rfl rfl (by omega) rfl (fun Q' => m_grows_ok G (d - 1) (by omega) (y97 - 48) τ Q') (fun y98 => ?_)
          refine sm_gd (fun h99 => ?_)
          refine sm_case (V g mX4_isWhole d 369 [(0, vr (some (gw g))), (8, vi u8), (11, vi u11), (12, vi w12)] [] σ y98.2 Q) (V g mX4_isWhole d 371 [(0, vr (some (gw g))), (8, vi u8), (11, vi u11), (12, vi w12)] [] σ y98.2 Q) ?_ ?_ (fun f101 p102 n103 => ?_)
          · refine sm_b (l' := [(0, vr (some (gw g))), (8, vi u8), (11, vi u11), (12, vi w12)]) (st' := [vi 0]) (pc' := 370) [(.iconst 0, vi 0, 370)] (by decide +kernel) rfl rfl ?_
            exact sm_zret rfl (by decide +kernel) (by decide) (fun h => hRET _ (o96 _ h))
          · exact sm_leaf (fun h => j95 _ h)
          refine sm_if_ne (off := 5) (tgt := 371) h99 (by decide +kernel) (fun c104 => ?_) (fun c104 => ?_)
          · exact n103 c104
          · exact p102 c104
        refine sm_if_eq (off := 21) (tgt := 371) h90 (by decide +kernel) (fun c108 => ?_) (fun c108 => ?_)
        · exact p106 c108
        · exact n107 c108
    refine sm_icmp_gt (off := 39) (tgt := 377) h82 h83 (by decide +kernel) (fun c112 => ?_) (fun c112 => ?_)
    · exact p110 c112
    · exact n111 c112
set_option maxHeartbeats 4000000 in
theorem m_isWhole_L273_ok {g : GE} (G : GG g) {σ : ST} {Q : VQ} (d : Nat) (hd1 : 3 ≤ d) (u3 : Int) (u8 : Int) (τ : TT)  {K : Int × Int → Prop} (hE317 : ∀ v117 : Int × Int, K (v117) → V g mX4_isWhole d 317 [(0, vr (some (gw g))), (3, vi u3), (5, vi v117.1), (7, vi v117.2), (8, vi u8)] [] σ τ Q) : ∀ (n : Nat) (w5 : Int) (w7 : Int) (w9 : Int) (w11 : Int), Sm (V g mX4_isWhole d 273 [(0, vr (some (gw g))), (3, vi u3), (5, vi w5), (7, vi w7), (8, vi u8), (9, vi w9), (11, vi w11)] [] σ τ Q) (m_isWhole_L273 u3 u8 τ n w5 w7 w9 w11) K := by
  intro n
  induction n with
  | zero => intro w5 w7 w9 w11; exact sm_none
  | succ n ih =>
    intro w5 w7 w9 w11
    rw [m_isWhole_L273.eq_2]
    refine sm_b (l' := [(0, vr (some (gw g))), (3, vi u3), (5, vi w5), (7, vi w7), (8, vi u8), (9, vi w9), (11, vi w11)]) (st' := [vi u8, vi w11]) (pc' := 277) [(.iload 11, vi 0, 275), (.iload 8, vi 0, 277)] (by decide +kernel) rfl rfl ?_
    refine sm_gd (fun h118 => ?_)
    refine sm_gd (fun h119 => ?_)
    refine sm_case (V g mX4_isWhole d 317 [(0, vr (some (gw g))), (3, vi u3), (5, vi w5), (7, vi w7), (8, vi u8), (9, vi w9), (11, vi w11)] [] σ τ Q) (V g mX4_isWhole d 280 [(0, vr (some (gw g))), (3, vi u3), (5, vi w5), (7, vi w7), (8, vi u8), (9, vi w9), (11, vi w11)] [] σ τ Q) ?_ ?_ (fun f143 p144 n145 => ?_)
    · refine sm_pick [0, 1, 2, 3, 4] (l' := [(0, vr (some (gw g))), (3, vi u3), (5, vi w5), (7, vi w7), (8, vi u8)]) rfl ?_
      exact sm_leaf (fun h => hE317 _ h)
    · refine sm_b (l' := [(0, vr (some (gw g))), (3, vi u3), (5, vi w5), (7, vi w7), (8, vi u8), (9, vi w9), (11, vi w11)]) (st' := [vi w11, vr (some (gw g))]) (pc' := 283) [(.aload_n 0, vi 0, 281), (.iload 11, vi 0, 283)] (by decide +kernel) rfl rfl ?_
      refine sm_cv (N := mX4_symbol) (d' := d - 1) (fun r => (some (vi r))) (fun _ => σ) (fun _ => τ) [vi w11] [] rfl (by decide +kernel) q1960 q1962 qs116 (Or.inl ⟨rfl, q1963⟩) (show okN yX4_symbol 1 = true by decide +kernel) (fun H hR => hR.rvw G.1 G.2.1) rfl rfl (by omega) rfl (fun Q' => m_symbol_ok G (d - 1) (by omega) w11 τ Q') (fun y123 => ?_)
      refine sm_b (l' := [(0, vr (some (gw g))), (3, vi u3), (5, vi w5), (7, vi w7), (8, vi u8), (9, vi w9), (11, vi w11)]) (st' := [vi 46, vi y123]) (pc' := 288) [(.bipush 46, vi 46, 288)] (by decide +kernel) rfl rfl ?_
      refine sm_bind1 (fun (v128 : Int × Int × Int) => V g mX4_isWhole d 311 [(0, vr (some (gw g))), (3, vi u3), (5, vi v128.1), (7, vi v128.2.1), (8, vi u8), (9, vi v128.2.2), (11, vi w11)] [] σ τ Q) (fun v128 => ?_) (fun K129 j130 => ?_)
      · refine sm_b (l' := [(0, vr (some (gw g))), (3, vi u3), (5, vi v128.1), (7, vi v128.2.1), (8, vi u8), (9, vi v128.2.2), (11, vi (w11 + (-1)))]) (st' := []) (pc' := 273) [(.iinc 11 (-1), vi (-1), 314), (.goto (-41), vi 0, 273)] (by decide +kernel) rfl rfl ?_
        exact ih v128.1 v128.2.1 v128.2.2 (w11 + (-1))
      · refine sm_gd (fun h124 => ?_)
        refine sm_case (V g mX4_isWhole d 291 [(0, vr (some (gw g))), (3, vi u3), (5, vi w5), (7, vi w7), (8, vi u8), (9, vi w9), (11, vi w11)] [] σ τ Q) (V g mX4_isWhole d 297 [(0, vr (some (gw g))), (3, vi u3), (5, vi w5), (7, vi w7), (8, vi u8), (9, vi w9), (11, vi w11)] [] σ τ Q) ?_ ?_ (fun f139 p140 n141 => ?_)
        · refine sm_b (l' := [(0, vr (some (gw g))), (3, vi u3), (5, vi w5), (7, vi w7), (8, vi u8), (9, vi 0), (11, vi w11)]) (st' := []) (pc' := 311) [(.iconst 0, vi 0, 292), (.istore 9, vi 0, 294), (.goto 17, vi 0, 311)] (by decide +kernel) rfl rfl ?_
          exact sm_leaf (fun h => j130 _ h)
        · refine sm_b (l' := [(0, vr (some (gw g))), (3, vi u3), (5, vi w5), (7, vi w7), (8, vi u8), (9, vi w9), (11, vi w11)]) (st' := [vi w9]) (pc' := 299) [(.iload 9, vi 0, 299)] (by decide +kernel) rfl rfl ?_
          refine sm_gd (fun h132 => ?_)
          refine sm_case (V g mX4_isWhole d 308 [(0, vr (some (gw g))), (3, vi u3), (5, vi w5), (7, vi w7), (8, vi u8), (9, vi w9), (11, vi w11)] [] σ τ Q) (V g mX4_isWhole d 302 [(0, vr (some (gw g))), (3, vi u3), (5, vi w5), (7, vi w7), (8, vi u8), (9, vi w9), (11, vi w11)] [] σ τ Q) ?_ ?_ (fun f135 p136 n137 => ?_)
          · refine sm_b (l' := [(0, vr (some (gw g))), (3, vi u3), (5, vi (w5 + 1)), (7, vi w7), (8, vi u8), (9, vi w9), (11, vi w11)]) (st' := []) (pc' := 311) [(.iinc 5 1, vi 1, 311)] (by decide +kernel) rfl rfl ?_
            exact sm_leaf (fun h => j130 _ h)
          · refine sm_b (l' := [(0, vr (some (gw g))), (3, vi u3), (5, vi w5), (7, vi (w7 + (-1))), (8, vi u8), (9, vi w9), (11, vi w11)]) (st' := []) (pc' := 311) [(.iinc 7 (-1), vi (-1), 305), (.goto 6, vi 0, 311)] (by decide +kernel) rfl rfl ?_
            exact sm_leaf (fun h => j130 _ h)
          refine sm_if_eq (off := 9) (tgt := 308) h132 (by decide +kernel) (fun c138 => ?_) (fun c138 => ?_)
          · exact p136 c138
          · exact n137 c138
        refine sm_icmp_ne (off := 9) (tgt := 297) h124 (by decide) (by decide +kernel) (fun c142 => ?_) (fun c142 => ?_)
        · exact n141 c142
        · exact p140 c142
    refine sm_icmp_le (off := 40) (tgt := 317) h118 h119 (by decide +kernel) (fun c146 => ?_) (fun c146 => ?_)
    · exact p144 c146
    · exact n145 c146
set_option maxHeartbeats 4000000 in
theorem m_isWhole_L184_ok {g : GE} (G : GG g) {σ : ST} {Q : VQ} (d : Nat) (hd1 : 3 ≤ d) (u3 : Int) (u4 : Int) (u5 : Int) (τ : TT)  {K : Int × Int × Int × Int → Prop} (hE250 : ∀ v151 : Int × Int × Int × Int, K (v151) → V g mX4_isWhole d 250 [(0, vr (some (gw g))), (3, vi u3), (4, vi u4), (5, vi u5), (7, vi v151.1), (8, vi v151.2.1), (9, vi v151.2.2.1), (10, vi v151.2.2.2)] [] σ τ Q) : ∀ (n : Nat) (w7 : Int) (w8 : Int) (w9 : Int) (w10 : Int) (w11 : Int), Sm (V g mX4_isWhole d 184 [(0, vr (some (gw g))), (3, vi u3), (4, vi u4), (5, vi u5), (7, vi w7), (8, vi w8), (9, vi w9), (10, vi w10), (11, vi w11)] [] σ τ Q) (m_isWhole_L184 u3 u4 u5 τ n w7 w8 w9 w10 w11) K := by
  intro n
  induction n with
  | zero => intro w7 w8 w9 w10 w11; exact sm_none
  | succ n ih =>
    intro w7 w8 w9 w10 w11
    rw [m_isWhole_L184.eq_2]
    refine sm_b (l' := [(0, vr (some (gw g))), (3, vi u3), (4, vi u4), (5, vi u5), (7, vi w7), (8, vi w8), (9, vi w9), (10, vi w10), (11, vi w11)]) (st' := [vi u4, vi w11]) (pc' := 188) [(.iload 11, vi 0, 186), (.iload 4, vi 0, 188)] (by decide +kernel) rfl rfl ?_
    refine sm_gd (fun h152 => ?_)
    refine sm_gd (fun h153 => ?_)
    refine sm_case (V g mX4_isWhole d 250 [(0, vr (some (gw g))), (3, vi u3), (4, vi u4), (5, vi u5), (7, vi w7), (8, vi w8), (9, vi w9), (10, vi w10), (11, vi w11)] [] σ τ Q) (V g mX4_isWhole d 191 [(0, vr (some (gw g))), (3, vi u3), (4, vi u4), (5, vi u5), (7, vi w7), (8, vi w8), (9, vi w9), (10, vi w10), (11, vi w11)] [] σ τ Q) ?_ ?_ (fun f190 p191 n192 => ?_)
    · refine sm_pick [0, 1, 2, 3, 4, 5, 6, 7] (l' := [(0, vr (some (gw g))), (3, vi u3), (4, vi u4), (5, vi u5), (7, vi w7), (8, vi w8), (9, vi w9), (10, vi w10)]) rfl ?_
      exact sm_leaf (fun h => hE250 _ h)
    · refine sm_b (l' := [(0, vr (some (gw g))), (3, vi u3), (4, vi u4), (5, vi u5), (7, vi w7), (8, vi w8), (9, vi w9), (10, vi w10), (11, vi w11)]) (st' := [vi w11, vr (some (gw g))]) (pc' := 194) [(.aload_n 0, vi 0, 192), (.iload 11, vi 0, 194)] (by decide +kernel) rfl rfl ?_
      refine sm_cv (N := mX4_symbol) (d' := d - 1) (fun r => (some (vi r))) (fun _ => σ) (fun _ => τ) [vi w11] [] rfl (by decide +kernel) q1960 q1962 qs116 (Or.inl ⟨rfl, q1963⟩) (show okN yX4_symbol 1 = true by decide +kernel) (fun H hR => hR.rvw G.1 G.2.1) rfl rfl (by omega) rfl (fun Q' => m_symbol_ok G (d - 1) (by omega) w11 τ Q') (fun y157 => ?_)
      refine sm_b (l' := [(0, vr (some (gw g))), (3, vi u3), (4, vi u4), (5, vi u5), (7, vi w7), (8, vi w8), (9, vi w9), (10, vi w10), (11, vi w11)]) (st' := [vi 46, vi y157]) (pc' := 199) [(.bipush 46, vi 46, 199)] (by decide +kernel) rfl rfl ?_
      refine sm_bind1 (fun (v162 : Int × Int × Int × Int) => V g mX4_isWhole d 244 [(0, vr (some (gw g))), (3, vi u3), (4, vi u4), (5, vi u5), (7, vi v162.1), (8, vi v162.2.1), (9, vi v162.2.2.1), (10, vi v162.2.2.2), (11, vi w11)] [] σ τ Q) (fun v162 => ?_) (fun K163 j164 => ?_)
      · refine sm_b (l' := [(0, vr (some (gw g))), (3, vi u3), (4, vi u4), (5, vi u5), (7, vi v162.1), (8, vi v162.2.1), (9, vi v162.2.2.1), (10, vi v162.2.2.2), (11, vi (w11 + 1))]) (st' := []) (pc' := 184) [(.iinc 11 1, vi 1, 247), (.goto (-63), vi 0, 184)] (by decide +kernel) rfl rfl ?_
        exact ih v162.1 v162.2.1 v162.2.2.1 v162.2.2.2 (w11 + 1)
      · refine sm_gd (fun h158 => ?_)
        refine sm_case (V g mX4_isWhole d 202 [(0, vr (some (gw g))), (3, vi u3), (4, vi u4), (5, vi u5), (7, vi w7), (8, vi w8), (9, vi w9), (10, vi w10), (11, vi w11)] [] σ τ Q) (V g mX4_isWhole d 208 [(0, vr (some (gw g))), (3, vi u3), (4, vi u4), (5, vi u5), (7, vi w7), (8, vi w8), (9, vi w9), (10, vi w10), (11, vi w11)] [] σ τ Q) ?_ ?_ (fun f186 p187 n188 => ?_)
        · refine sm_b (l' := [(0, vr (some (gw g))), (3, vi u3), (4, vi u4), (5, vi u5), (7, vi w7), (8, vi w8), (9, vi 1), (10, vi w10), (11, vi w11)]) (st' := []) (pc' := 244) [(.iconst 1, vi 1, 203), (.istore 9, vi 0, 205), (.goto 39, vi 0, 244)] (by decide +kernel) rfl rfl ?_
          exact sm_leaf (fun h => j164 _ h)
        · refine sm_b (l' := [(0, vr (some (gw g))), (3, vi u3), (4, vi u4), (5, vi u5), (7, vi w7), (8, vi w8), (9, vi w9), (10, vi w10), (11, vi w11)]) (st' := [vi w9, vi w7]) (pc' := 212) [(.iload 7, vi 0, 210), (.iload 9, vi 0, 212)] (by decide +kernel) rfl rfl ?_
          refine sm_bind1 (fun (v169 : Int) => V g mX4_isWhole d 220 [(0, vr (some (gw g))), (3, vi u3), (4, vi u4), (5, vi u5), (8, vi w8), (9, vi w9), (10, vi w10), (11, vi w11)] [vi v169, vi w7] σ τ Q) (fun v169 => ?_) (fun K170 j171 => ?_)
          · refine sm_b (l' := [(0, vr (some (gw g))), (3, vi u3), (4, vi u4), (5, vi u5), (8, vi w8), (9, vi w9), (10, vi w10), (11, vi w11)]) (st' := [vi (w7 + v169)]) (pc' := 221) [(.iadd, vi 0, 221)] (by decide +kernel) rfl rfl ?_
            refine sm_nmi (fun x173 => ?_)
            refine sm_b (l' := [(0, vr (some (gw g))), (3, vi u3), (4, vi u4), (5, vi u5), (8, vi w8), (9, vi w9), (10, vi w10), (11, vi w11), (7, vi x173)]) (st' := [vi w11, vr (some (gw g))]) (pc' := 226) [(.istore 7, vi 0, 223), (.aload_n 0, vi 0, 224), (.iload 11, vi 0, 226)] (by decide +kernel) rfl rfl ?_
            refine sm_cv (N := mX4_symbol) (d' := d - 1) (fun r => (some (vi r))) (fun _ => σ) (fun _ => τ) [vi w11] [] rfl (by decide +kernel) q1960 q1962 qs116 (Or.inl ⟨rfl, q1963⟩) (show okN yX4_symbol 1 = true by decide +kernel) (fun H hR => hR.rvw G.1 G.2.1) rfl rfl (by omega) rfl (fun Q' => m_symbol_ok G (d - 1) (by omega) w11 τ Q') (fun y174 => ?_)
            refine sm_b (l' := [(0, vr (some (gw g))), (3, vi u3), (4, vi u4), (5, vi u5), (8, vi w8), (9, vi w9), (10, vi w10), (11, vi w11), (7, vi x173)]) (st' := [vi 48, vi y174]) (pc' := 231) [(.bipush 48, vi 48, 231)] (by decide +kernel) rfl rfl ?_
            refine sm_gd (fun h175 => ?_)
            refine sm_case (V g mX4_isWhole d 234 [(0, vr (some (gw g))), (3, vi u3), (4, vi u4), (5, vi u5), (8, vi w8), (9, vi w9), (10, vi w10), (11, vi w11), (7, vi x173)] [] σ τ Q) (V g mX4_isWhole d 237 [(0, vr (some (gw g))), (3, vi u3), (4, vi u4), (5, vi u5), (8, vi w8), (9, vi w9), (10, vi w10), (11, vi w11), (7, vi x173)] [] σ τ Q) ?_ ?_ (fun f178 p179 n180 => ?_)
            · refine sm_b (l' := [(0, vr (some (gw g))), (3, vi u3), (4, vi u4), (5, vi u5), (8, vi w8), (9, vi w9), (10, vi w10), (11, vi w11), (7, vi x173)]) (st' := []) (pc' := 244) [(.goto 10, vi 0, 244)] (by decide +kernel) rfl rfl ?_
              refine sm_pick [0, 1, 2, 3, 8, 4, 5, 6, 7] (l' := [(0, vr (some (gw g))), (3, vi u3), (4, vi u4), (5, vi u5), (7, vi x173), (8, vi w8), (9, vi w9), (10, vi w10), (11, vi w11)]) rfl ?_
              exact sm_leaf (fun h => j164 _ h)
            · refine sm_b (l' := [(0, vr (some (gw g))), (3, vi u3), (4, vi u4), (5, vi u5), (8, vi w11), (9, vi w9), (10, vi 1), (11, vi w11), (7, vi x173)]) (st' := []) (pc' := 244) [(.iconst 1, vi 1, 238), (.istore 10, vi 0, 240), (.iload 11, vi 0, 242), (.istore 8, vi 0, 244)] (by decide +kernel) rfl rfl ?_
              refine sm_pick [0, 1, 2, 3, 8, 4, 5, 6, 7] (l' := [(0, vr (some (gw g))), (3, vi u3), (4, vi u4), (5, vi u5), (7, vi x173), (8, vi w11), (9, vi w9), (10, vi 1), (11, vi w11)]) rfl ?_
              exact sm_leaf (fun h => j164 _ h)
            refine sm_icmp_ne (off := 6) (tgt := 237) h175 (by decide) (by decide +kernel) (fun c181 => ?_) (fun c181 => ?_)
            · exact n180 c181
            · exact p179 c181
          · refine sm_gd (fun h166 => ?_)
            refine sm_case (V g mX4_isWhole d 219 [(0, vr (some (gw g))), (3, vi u3), (4, vi u4), (5, vi u5), (7, vi w7), (8, vi w8), (9, vi w9), (10, vi w10), (11, vi w11)] [vi w7] σ τ Q) (V g mX4_isWhole d 215 [(0, vr (some (gw g))), (3, vi u3), (4, vi u4), (5, vi u5), (7, vi w7), (8, vi w8), (9, vi w9), (10, vi w10), (11, vi w11)] [vi w7] σ τ Q) ?_ ?_ (fun f182 p183 n184 => ?_)
            · refine sm_b (l' := [(0, vr (some (gw g))), (3, vi u3), (4, vi u4), (5, vi u5), (7, vi w7), (8, vi w8), (9, vi w9), (10, vi w10), (11, vi w11)]) (st' := [vi 0, vi w7]) (pc' := 220) [(.iconst 0, vi 0, 220)] (by decide +kernel) rfl rfl ?_
              refine sm_pick [0, 1, 2, 3, 5, 6, 7, 8] (l' := [(0, vr (some (gw g))), (3, vi u3), (4, vi u4), (5, vi u5), (8, vi w8), (9, vi w9), (10, vi w10), (11, vi w11)]) rfl ?_
              exact sm_leaf (fun h => j171 _ h)
            · refine sm_b (l' := [(0, vr (some (gw g))), (3, vi u3), (4, vi u4), (5, vi u5), (7, vi w7), (8, vi w8), (9, vi w9), (10, vi w10), (11, vi w11)]) (st' := [vi 1, vi w7]) (pc' := 220) [(.iconst 1, vi 1, 216), (.goto 4, vi 0, 220)] (by decide +kernel) rfl rfl ?_
              refine sm_pick [0, 1, 2, 3, 5, 6, 7, 8] (l' := [(0, vr (some (gw g))), (3, vi u3), (4, vi u4), (5, vi u5), (8, vi w8), (9, vi w9), (10, vi w10), (11, vi w11)]) rfl ?_
              exact sm_leaf (fun h => j171 _ h)
            refine sm_if_eq (off := 7) (tgt := 219) h166 (by decide +kernel) (fun c185 => ?_) (fun c185 => ?_)
            · exact p183 c185
            · exact n184 c185
        refine sm_icmp_ne (off := 9) (tgt := 208) h158 (by decide) (by decide +kernel) (fun c189 => ?_) (fun c189 => ?_)
        · exact n188 c189
        · exact p187 c189
    refine sm_icmp_ge (off := 62) (tgt := 250) h152 h153 (by decide +kernel) (fun c193 => ?_) (fun c193 => ?_)
    · exact p191 c193
    · exact n192 c193
set_option maxHeartbeats 4000000 in
theorem m_isWhole_L105_ok {g : GE} (G : GG g) {σ : ST} {Q : VQ} (d : Nat) (hd1 : 3 ≤ d) (u2 : Int) (u3 : Int) (u4 : Int) (u6 : Int) (τ : TT)  {K : Int → Prop} (hE159 : ∀ v199 : Int, K (v199) → V g mX4_isWhole d 159 [(0, vr (some (gw g))), (3, vi u3), (4, vi u4), (5, vi v199), (6, vi u6)] [] σ τ Q) : ∀ (n : Nat) (w5 : Int) (w7 : Int), Sm (V g mX4_isWhole d 105 [(0, vr (some (gw g))), (2, vi u2), (3, vi u3), (4, vi u4), (5, vi w5), (6, vi u6), (7, vi w7)] [] σ τ Q) (m_isWhole_L105 u2 u3 u4 u6 τ n w5 w7) K := by
  intro n
  induction n with
  | zero => intro w5 w7; exact sm_none
  | succ n ih =>
    intro w5 w7
    rw [m_isWhole_L105.eq_2]
    refine sm_b (l' := [(0, vr (some (gw g))), (2, vi u2), (3, vi u3), (4, vi u4), (5, vi w5), (6, vi u6), (7, vi w7)]) (st' := [vi u2, vi w7]) (pc' := 108) [(.iload 7, vi 0, 107), (.iload_n 2, vi 0, 108)] (by decide +kernel) rfl rfl ?_
    refine sm_gd (fun h200 => ?_)
    refine sm_gd (fun h201 => ?_)
    refine sm_case (V g mX4_isWhole d 159 [(0, vr (some (gw g))), (2, vi u2), (3, vi u3), (4, vi u4), (5, vi w5), (6, vi u6), (7, vi w7)] [] σ τ Q) (V g mX4_isWhole d 111 [(0, vr (some (gw g))), (2, vi u2), (3, vi u3), (4, vi u4), (5, vi w5), (6, vi u6), (7, vi w7)] [] σ τ Q) ?_ ?_ (fun f232 p233 n234 => ?_)
    · refine sm_pick [0, 2, 3, 4, 5] (l' := [(0, vr (some (gw g))), (3, vi u3), (4, vi u4), (5, vi w5), (6, vi u6)]) rfl ?_
      exact sm_leaf (fun h => hE159 _ h)
    · refine sm_b (l' := [(0, vr (some (gw g))), (2, vi u2), (3, vi u3), (4, vi u4), (5, vi w5), (6, vi u6), (7, vi w7)]) (st' := [vi w7, vr (some (gw g))]) (pc' := 114) [(.aload_n 0, vi 0, 112), (.iload 7, vi 0, 114)] (by decide +kernel) rfl rfl ?_
      refine sm_cv (N := mX4_symbol) (d' := d - 1) (fun r => (some (vi r))) (fun _ => σ) (fun _ => τ) [vi w7] [] rfl (by decide +kernel) q1960 q1962 qs116 (Or.inl ⟨rfl, q1963⟩) (show okN yX4_symbol 1 = true by decide +kernel) (fun H hR => hR.rvw G.1 G.2.1) rfl rfl (by omega) rfl (fun Q' => m_symbol_ok G (d - 1) (by omega) w7 τ Q') (fun y206 => ?_)
      refine sm_cs (N := mX4_isDigit) (d' := d - 1) (fun r => (some (vi r))) (fun _ => σ) (fun _ => τ) [vi y206] [] rfl (by decide +kernel) q1626 q1627 q138 (Or.inl ⟨rfl, q1628⟩) (show okN yX4_isDigit 1 = true by decide +kernel) rfl rfl (by omega) rfl (fun Q' => m_isDigit_ok G (d - 1) (by omega) y206 τ Q') (fun y207 => ?_)
      refine sm_bind1 (fun (v211 : Int) => V g mX4_isWhole d 153 [(0, vr (some (gw g))), (2, vi u2), (3, vi u3), (4, vi u4), (5, vi v211), (6, vi u6), (7, vi w7)] [] σ τ Q) (fun v211 => ?_) (fun K212 j213 => ?_)
      · refine sm_b (l' := [(0, vr (some (gw g))), (2, vi u2), (3, vi u3), (4, vi u4), (5, vi v211), (6, vi u6), (7, vi (w7 + 1))]) (st' := []) (pc' := 105) [(.iinc 7 1, vi 1, 156), (.goto (-51), vi 0, 105)] (by decide +kernel) rfl rfl ?_
        exact ih v211 (w7 + 1)
      · refine sm_gd (fun h208 => ?_)
        refine sm_case (V g mX4_isWhole d 153 [(0, vr (some (gw g))), (2, vi u2), (3, vi u3), (4, vi u4), (5, vi w5), (6, vi u6), (7, vi w7)] [] σ τ Q) (V g mX4_isWhole d 123 [(0, vr (some (gw g))), (2, vi u2), (3, vi u3), (4, vi u4), (5, vi w5), (6, vi u6), (7, vi w7)] [] σ τ Q) ?_ ?_ (fun f228 p229 n230 => ?_)
        · exact sm_leaf (fun h => j213 _ h)
        · refine sm_b (l' := [(0, vr (some (gw g))), (2, vi u2), (3, vi u3), (4, vi u4), (5, vi w5), (6, vi u6), (7, vi w7)]) (st' := [vi w5]) (pc' := 125) [(.iload 5, vi 0, 125)] (by decide +kernel) rfl rfl ?_
          refine sm_ldcw (x := 100000) (by decide) (by decide +kernel) q1972 ?_
          refine sm_bind1 (fun (v219 : Int) => V g mX4_isWhole d 151 [(0, vr (some (gw g))), (2, vi u2), (3, vi u3), (4, vi u4), (6, vi u6), (7, vi w7)] [vi v219] σ τ Q) (fun v219 => ?_) (fun K220 j221 => ?_)
          · refine sm_b (l' := [(0, vr (some (gw g))), (2, vi u2), (3, vi u3), (4, vi u4), (6, vi u6), (7, vi w7), (5, vi v219)]) (st' := []) (pc' := 153) [(.istore 5, vi 0, 153)] (by decide +kernel) rfl rfl ?_
            refine sm_pick [0, 1, 2, 3, 6, 4, 5] (l' := [(0, vr (some (gw g))), (2, vi u2), (3, vi u3), (4, vi u4), (5, vi v219), (6, vi u6), (7, vi w7)]) rfl ?_
            exact sm_leaf (fun h => j213 _ h)
          · refine sm_gd (fun h215 => ?_)
            refine sm_case (V g mX4_isWhole d 136 [(0, vr (some (gw g))), (2, vi u2), (3, vi u3), (4, vi u4), (5, vi w5), (6, vi u6), (7, vi w7)] [] σ τ Q) (V g mX4_isWhole d 131 [(0, vr (some (gw g))), (2, vi u2), (3, vi u3), (4, vi u4), (5, vi w5), (6, vi u6), (7, vi w7)] [] σ τ Q) ?_ ?_ (fun f224 p225 n226 => ?_)
            · refine sm_b (l' := [(0, vr (some (gw g))), (2, vi u2), (3, vi u3), (4, vi u4), (5, vi w5), (6, vi u6), (7, vi w7)]) (st' := [vi w7, vr (some (gw g)), vi (10 * w5)]) (pc' := 144) [(.bipush 10, vi 10, 138), (.iload 5, vi 0, 140), (.imul, vi 0, 141), (.aload_n 0, vi 0, 142), (.iload 7, vi 0, 144)] (by decide +kernel) rfl rfl ?_
              refine sm_cv (N := mX4_symbol) (d' := d - 1) (fun r => (some (vi r))) (fun _ => σ) (fun _ => τ) [vi w7] [vi (10 * w5)] rfl (by decide +kernel) q1960 q1962 qs116 (Or.inl ⟨rfl, q1963⟩) (show okN yX4_symbol 1 = true by decide +kernel) (fun H hR => hR.rvw G.1 G.2.1) rfl rfl (by omega) rfl (fun Q' => m_symbol_ok G (d - 1) (by omega) w7 τ Q') (fun y223 => ?_)
              refine sm_b (l' := [(0, vr (some (gw g))), (2, vi u2), (3, vi u3), (4, vi u4), (5, vi w5), (6, vi u6), (7, vi w7)]) (st' := [vi (((10 * w5) + y223) - 48)]) (pc' := 151) [(.iadd, vi 0, 148), (.bipush 48, vi 48, 150), (.isub, vi 0, 151)] (by decide +kernel) rfl rfl ?_
              refine sm_pick [0, 1, 2, 3, 5, 6] (l' := [(0, vr (some (gw g))), (2, vi u2), (3, vi u3), (4, vi u4), (6, vi u6), (7, vi w7)]) rfl ?_
              exact sm_leaf (fun h => j221 _ h)
            · refine sm_b (l' := [(0, vr (some (gw g))), (2, vi u2), (3, vi u3), (4, vi u4), (5, vi w5), (6, vi u6), (7, vi w7)]) (st' := [vi w5]) (pc' := 151) [(.iload 5, vi 0, 133), (.goto 18, vi 0, 151)] (by decide +kernel) rfl rfl ?_
              refine sm_pick [0, 1, 2, 3, 5, 6] (l' := [(0, vr (some (gw g))), (2, vi u2), (3, vi u3), (4, vi u4), (6, vi u6), (7, vi w7)]) rfl ?_
              exact sm_leaf (fun h => j221 _ h)
            refine sm_icmp_le (off := 8) (tgt := 136) h215 (by decide) (by decide +kernel) (fun c227 => ?_) (fun c227 => ?_)
            · exact p225 c227
            · exact n226 c227
        refine sm_if_eq (off := 33) (tgt := 153) h208 (by decide +kernel) (fun c231 => ?_) (fun c231 => ?_)
        · exact p229 c231
        · exact n230 c231
    refine sm_icmp_ge (off := 51) (tgt := 159) h200 h201 (by decide +kernel) (fun c235 => ?_) (fun c235 => ?_)
    · exact p233 c235
    · exact n234 c235
set_option maxHeartbeats 4000000 in
theorem m_isWhole_L34_ok {g : GE} (G : GG g) {σ : ST} {Q : VQ} (d : Nat) (hd1 : 3 ≤ d) (u2 : Int) (u3 : Int) (τ : TT)  {K : Int → Prop} (hE68 : ∀ v241 : Int, K (v241) → V g mX4_isWhole d 68 [(0, vr (some (gw g))), (2, vi u2), (3, vi u3), (4, vi v241)] [] σ τ Q) : ∀ (n : Nat) (w4 : Int), Sm (V g mX4_isWhole d 34 [(0, vr (some (gw g))), (2, vi u2), (3, vi u3), (4, vi w4)] [] σ τ Q) (m_isWhole_L34 u2 u3 τ n w4) K := by
  intro n
  induction n with
  | zero => intro w4; exact sm_none
  | succ n ih =>
    intro w4
    rw [m_isWhole_L34.eq_2]
    refine sm_b (l' := [(0, vr (some (gw g))), (2, vi u2), (3, vi u3), (4, vi w4)]) (st' := [vi u2, vi w4]) (pc' := 37) [(.iload 4, vi 0, 36), (.iload_n 2, vi 0, 37)] (by decide +kernel) rfl rfl ?_
    refine sm_gd (fun h242 => ?_)
    refine sm_gd (fun h243 => ?_)
    refine sm_gd (fun h245 => ?_)
    refine sm_gd (fun h246 => ?_)
    refine sm_gd (fun h248 => ?_)
    refine sm_gd (fun h249 => ?_)
    refine sm_case (V g mX4_isWhole d 68 [(0, vr (some (gw g))), (2, vi u2), (3, vi u3), (4, vi w4)] [] σ τ Q) (V g mX4_isWhole d 62 [(0, vr (some (gw g))), (2, vi u2), (3, vi u3), (4, vi w4)] [] σ τ Q) ?_ ?_ (fun f251 p252 n253 => ?_)
    · exact sm_leaf (fun h => hE68 _ h)
    · refine sm_b (l' := [(0, vr (some (gw g))), (2, vi u2), (3, vi u3), (4, vi (w4 + 1))]) (st' := []) (pc' := 34) [(.iinc 4 1, vi 1, 65), (.goto (-31), vi 0, 34)] (by decide +kernel) rfl rfl ?_
      exact ih (w4 + 1)
    refine sm_icmp_ge (off := 31) (tgt := 68) h242 h243 (by decide +kernel) (fun c254 => ?_) (fun c254 => ?_)
    · exact p252 (Or.inl (Or.inl c254))
    · have w244 : ¬ (u2 ≤ w4) := c254
      refine sm_b (l' := [(0, vr (some (gw g))), (2, vi u2), (3, vi u3), (4, vi w4)]) (st' := [vi w4, vr (some (gw g))]) (pc' := 43) [(.aload_n 0, vi 0, 41), (.iload 4, vi 0, 43)] (by decide +kernel) rfl rfl ?_
      refine sm_cvp (N := mX4_symbol) (d' := d - 1) (fun r => (some (vi r))) (some (vi (vv (m_symbol w4 τ)))) (h245 w244) (fun y h => by rw [vv_some h]) [vi w4] [] rfl (by decide +kernel) q1960 q1962 qs116 (Or.inl ⟨rfl, q1963⟩) (show okN yX4_symbol 1 = true by decide +kernel) (fun H hR => hR.rvw G.1 G.2.1) rfl rfl (by omega) rfl (fun Q' => m_symbol_ok G (d - 1) (by omega) w4 τ Q') ?_
      refine sm_b (l' := [(0, vr (some (gw g))), (2, vi u2), (3, vi u3), (4, vi w4)]) (st' := [vi 101, vi (vv (m_symbol w4 τ))]) (pc' := 48) [(.bipush 101, vi 101, 48)] (by decide +kernel) rfl rfl ?_
      refine sm_icmp_eq (off := 20) (tgt := 68) (h246 w244) (by decide) (by decide +kernel) (fun c255 => ?_) (fun c255 => ?_)
      · exact p252 (Or.inl (Or.inr c255))
      · have w247 : ¬ ((u2 ≤ w4) ∨ ((vv (m_symbol w4 τ)) = 101)) := (fun q => q.elim c254 c255)
        refine sm_b (l' := [(0, vr (some (gw g))), (2, vi u2), (3, vi u3), (4, vi w4)]) (st' := [vi w4, vr (some (gw g))]) (pc' := 54) [(.aload_n 0, vi 0, 52), (.iload 4, vi 0, 54)] (by decide +kernel) rfl rfl ?_
        refine sm_cvp (N := mX4_symbol) (d' := d - 1) (fun r => (some (vi r))) (some (vi (vv (m_symbol w4 τ)))) (h248 w247) (fun y h => by rw [vv_some h]) [vi w4] [] rfl (by decide +kernel) q1960 q1962 qs116 (Or.inl ⟨rfl, q1963⟩) (show okN yX4_symbol 1 = true by decide +kernel) (fun H hR => hR.rvw G.1 G.2.1) rfl rfl (by omega) rfl (fun Q' => m_symbol_ok G (d - 1) (by omega) w4 τ Q') ?_
        refine sm_b (l' := [(0, vr (some (gw g))), (2, vi u2), (3, vi u3), (4, vi w4)]) (st' := [vi 69, vi (vv (m_symbol w4 τ))]) (pc' := 59) [(.bipush 69, vi 69, 59)] (by decide +kernel) rfl rfl ?_
        refine sm_icmp_eq (off := 9) (tgt := 68) (h249 w247) (by decide) (by decide +kernel) (fun c256 => ?_) (fun c256 => ?_)
        · exact p252 (Or.inr c256)
        · exact n253 (fun q => q.elim (fun q => q.elim c254 c255) c256)
set_option maxHeartbeats 4000000 in
theorem m_isWhole_ok {g : GE} (G : GG g) {σ : ST} (d : Nat) (hd1 : 3 ≤ d) (a1 : Int) (a2 : Int)  (τ : TT) (Q : VQ) : Sm (V g mX4_isWhole d 0 [(0, vr (some (gw g))), (1, vi a1), (2, vi a2)] [] σ τ Q) (m_isWhole a1 a2 τ) (fun r => Q.1 (some (vi r.1)) σ r.2) := by
  unfold m_isWhole
  refine sm_top (fun K hRET => ?_)
  refine sm_b (l' := [(0, vr (some (gw g))), (1, vi a1), (2, vi a2), (3, vi a1)]) (st' := [vi a1, vr (some (gw g)), vr (some (gw g))]) (pc' := 5) [(.iload_n 1, vi 0, 1), (.istore_n 3, vi 0, 2), (.aload_n 0, vi 0, 3), (.aload_n 0, vi 0, 4), (.iload_n 3, vi 0, 5)] (by decide +kernel) rfl rfl ?_
  refine sm_cv (N := mX4_symbol) (d' := d - 1) (fun r => (some (vi r))) (fun _ => σ) (fun _ => τ) [vi a1] [vr (some (gw g))] rfl (by decide +kernel) q1960 q1962 qs116 (Or.inl ⟨rfl, q1963⟩) (show okN yX4_symbol 1 = true by decide +kernel) (fun H hR => hR.rvw G.1 G.2.1) rfl rfl (by omega) rfl (fun Q' => m_symbol_ok G (d - 1) (by omega) a1 τ Q') (fun y1 => ?_)
  refine sm_b (l' := [(0, vr (some (gw g))), (1, vi a1), (2, vi a2), (3, vi a1)]) (st' := [vi 45, vi y1, vr (some (gw g))]) (pc' := 10) [(.bipush 45, vi 45, 10)] (by decide +kernel) rfl rfl ?_
  refine sm_bind1 (fun (v5 : Int) => V g mX4_isWhole d 18 [(0, vr (some (gw g))), (2, vi a2), (3, vi a1)] [vi v5, vr (some (gw g))] σ τ Q) (fun v5 => ?_) (fun K6 j7 => ?_)
  · refine sm_gd (fun h9 => ?_)
    refine sm_tpz (k := 60) G.2.1 q1478 rfl rfl rfl (tp_60 g τ v5) h9 (by decide +kernel) ?_
    refine sm_nmt (fun τ10 => ?_)
    refine sm_b (l' := [(0, vr (some (gw g))), (2, vi a2), (3, vi a1)]) (st' := [vr (some (gw g))]) (pc' := 22) [(.aload_n 0, vi 0, 22)] (by decide +kernel) rfl rfl ?_
    refine sm_tg (k := 60) (x := vi (tI τ10 60)) G.2.1 q1478 rfl rfl (by decide +kernel) ?_
    refine sm_bind1 (fun (v13 : Int) => V g mX4_isWhole d 31 [(0, vr (some (gw g))), (2, vi a2), (3, vi v13)] [] σ τ10 Q) (fun v13 => ?_) (fun K14 j15 => ?_)
    · refine sm_b (l' := [(0, vr (some (gw g))), (2, vi a2), (3, vi v13), (4, vi v13)]) (st' := []) (pc' := 34) [(.iload_n 3, vi 0, 32), (.istore 4, vi 0, 34)] (by decide +kernel) rfl rfl ?_
      refine sm_bind1 (fun (v17 : Int) => V g mX4_isWhole d 68 [(0, vr (some (gw g))), (2, vi a2), (3, vi v13), (4, vi v17)] [] σ τ10 Q) (fun v17 => ?_) (fun K18 j19 => ?_)
      · refine sm_b (l' := [(0, vr (some (gw g))), (2, vi a2), (3, vi v13), (4, vi v17), (5, vi 0)]) (st' := [vi a2, vi (v17 + 1)]) (pc' := 76) [(.iconst 0, vi 0, 69), (.istore 5, vi 0, 71), (.iload 4, vi 0, 73), (.iconst 1, vi 1, 74), (.iadd, vi 0, 75), (.iload_n 2, vi 0, 76)] (by decide +kernel) rfl rfl ?_
        refine sm_bind1 (fun (v28 : Int) => V g mX4_isWhole d 97 [(0, vr (some (gw g))), (2, vi a2), (3, vi v13), (4, vi v17), (5, vi 0)] [vi v28] σ τ10 Q) (fun v28 => ?_) (fun K29 j30 => ?_)
        · refine sm_b (l' := [(0, vr (some (gw g))), (2, vi a2), (3, vi v13), (4, vi v17), (5, vi 0), (6, vi v28)]) (st' := [vi (v17 + 1)]) (pc' := 103) [(.istore 6, vi 0, 99), (.iload 4, vi 0, 101), (.iconst 1, vi 1, 102), (.iadd, vi 0, 103)] (by decide +kernel) rfl rfl ?_
          refine sm_nmi (fun x32 => ?_)
          refine sm_b (l' := [(0, vr (some (gw g))), (2, vi a2), (3, vi v13), (4, vi v17), (5, vi 0), (6, vi v28), (7, vi x32)]) (st' := []) (pc' := 105) [(.istore 7, vi 0, 105)] (by decide +kernel) rfl rfl ?_
          refine sm_bind1 (fun (v33 : Int) => V g mX4_isWhole d 159 [(0, vr (some (gw g))), (3, vi v13), (4, vi v17), (5, vi v33), (6, vi v28)] [] σ τ10 Q) (fun v33 => ?_) (fun K34 j35 => ?_)
          · refine sm_b (l' := [(0, vr (some (gw g))), (3, vi v13), (4, vi v17), (5, vi v33), (6, vi v28)]) (st' := [vi v28]) (pc' := 161) [(.iload 6, vi 0, 161)] (by decide +kernel) rfl rfl ?_
            refine sm_bind1 (fun (v39 : Int) => V g mX4_isWhole d 169 [(0, vr (some (gw g))), (3, vi v13), (4, vi v17), (5, vi v39)] [] σ τ10 Q) (fun v39 => ?_) (fun K40 j41 => ?_)
            · refine sm_b (l' := [(0, vr (some (gw g))), (3, vi v13), (4, vi v17), (5, vi v39), (7, vi 0), (8, vi 0), (9, vi 0), (10, vi 0), (11, vi v13)]) (st' := []) (pc' := 184) [(.iconst 0, vi 0, 170), (.istore 7, vi 0, 172), (.iconst 0, vi 0, 173), (.istore 8, vi 0, 175), (.iconst 0, vi 0, 176), (.istore 9, vi 0, 178), (.iconst 0, vi 0, 179), (.istore 10, vi 0, 181), (.iload_n 3, vi 0, 182), (.istore 11, vi 0, 184)] (by decide +kernel) rfl rfl ?_
              refine sm_bind1 (fun (v43 : Int × Int × Int × Int) => V g mX4_isWhole d 250 [(0, vr (some (gw g))), (3, vi v13), (4, vi v17), (5, vi v39), (7, vi v43.1), (8, vi v43.2.1), (9, vi v43.2.2.1), (10, vi v43.2.2.2)] [] σ τ10 Q) (fun v43 => ?_) (fun K44 j45 => ?_)
              · refine sm_b (l' := [(0, vr (some (gw g))), (3, vi v13), (4, vi v17), (5, vi v39), (7, vi v43.1), (8, vi v43.2.1), (9, vi v43.2.2.1), (10, vi v43.2.2.2)]) (st' := [vl 0, vr (some (gw g))]) (pc' := 252) [(.aload_n 0, vi 0, 251), (.lconst 0, vl 0, 252)] (by decide +kernel) rfl rfl ?_
                refine sm_tpj (k := 59) G.2.1 q1477 rfl rfl rfl (tp_59 g τ10 0) (by decide +kernel) ?_
                refine sm_nmt (fun τ47 => ?_)
                refine sm_b (l' := [(0, vr (some (gw g))), (3, vi v13), (4, vi v17), (5, vi v39), (7, vi v43.1), (8, vi v43.2.1), (9, vi v43.2.2.1), (10, vi v43.2.2.2)]) (st' := [vi v43.2.2.2]) (pc' := 257) [(.iload 10, vi 0, 257)] (by decide +kernel) rfl rfl ?_
                refine sm_gd (fun h48 => ?_)
                refine sm_case (V g mX4_isWhole d 260 [(0, vr (some (gw g))), (3, vi v13), (4, vi v17), (5, vi v39), (7, vi v43.1), (8, vi v43.2.1), (9, vi v43.2.2.1), (10, vi v43.2.2.2)] [] σ τ47 Q) (V g mX4_isWhole d 267 [(0, vr (some (gw g))), (3, vi v13), (4, vi v17), (5, vi v39), (7, vi v43.1), (8, vi v43.2.1), (9, vi v43.2.2.1), (10, vi v43.2.2.2)] [] σ τ47 Q) ?_ ?_ (fun f147 p148 n149 => ?_)
                · refine sm_b (l' := [(0, vr (some (gw g))), (3, vi v13), (4, vi v17), (5, vi v39), (7, vi v43.1), (8, vi v43.2.1), (9, vi v43.2.2.1), (10, vi v43.2.2.2)]) (st' := [vi 0, vr (some (gw g))]) (pc' := 262) [(.aload_n 0, vi 0, 261), (.iconst 0, vi 0, 262)] (by decide +kernel) rfl rfl ?_
                  refine sm_tpz (k := 60) G.2.1 q1478 rfl rfl rfl (tp_60 g τ47 0) (by decide) (by decide +kernel) ?_
                  refine sm_nmt (fun τ51 => ?_)
                  refine sm_b (l' := [(0, vr (some (gw g))), (3, vi v13), (4, vi v17), (5, vi v39), (7, vi v43.1), (8, vi v43.2.1), (9, vi v43.2.2.1), (10, vi v43.2.2.2)]) (st' := [vi 1]) (pc' := 266) [(.iconst 1, vi 1, 266)] (by decide +kernel) rfl rfl ?_
                  exact sm_zret rfl (by decide +kernel) (by decide) (fun h => hRET _ h)
                · refine sm_b (l' := [(0, vr (some (gw g))), (3, vi v13), (4, vi v17), (5, vi v39), (7, vi v43.1), (8, vi v43.2.1), (9, vi v43.2.2.1), (10, vi v43.2.2.2)]) (st' := [vi (v17 - 1)]) (pc' := 271) [(.iload 4, vi 0, 269), (.iconst 1, vi 1, 270), (.isub, vi 0, 271)] (by decide +kernel) rfl rfl ?_
                  refine sm_nmi (fun x52 => ?_)
                  refine sm_b (l' := [(0, vr (some (gw g))), (3, vi v13), (4, vi v17), (5, vi v39), (7, vi v43.1), (8, vi v43.2.1), (9, vi v43.2.2.1), (10, vi v43.2.2.2), (11, vi x52)]) (st' := []) (pc' := 273) [(.istore 11, vi 0, 273)] (by decide +kernel) rfl rfl ?_
                  refine sm_bind1 (fun (v53 : Int × Int) => V g mX4_isWhole d 317 [(0, vr (some (gw g))), (3, vi v13), (5, vi v53.1), (7, vi v53.2), (8, vi v43.2.1)] [] σ τ47 Q) (fun v53 => ?_) (fun K54 j55 => ?_)
                  · refine sm_b (l' := [(0, vr (some (gw g))), (3, vi v13), (5, vi v53.1), (7, vi v53.2), (8, vi v43.2.1)]) (st' := [vi (v53.1 - v53.2)]) (pc' := 322) [(.iload 5, vi 0, 319), (.iload 7, vi 0, 321), (.isub, vi 0, 322)] (by decide +kernel) rfl rfl ?_
                    refine sm_nmi (fun x57 => ?_)
                    refine sm_b (l' := [(0, vr (some (gw g))), (3, vi v13), (5, vi v53.1), (7, vi v53.2), (8, vi v43.2.1), (11, vi x57)]) (st' := [vi x57]) (pc' := 326) [(.istore 11, vi 0, 324), (.iload 11, vi 0, 326)] (by decide +kernel) rfl rfl ?_
                    refine sm_gd (fun h58 => ?_)
                    refine sm_case (V g mX4_isWhole d 331 [(0, vr (some (gw g))), (3, vi v13), (5, vi v53.1), (7, vi v53.2), (8, vi v43.2.1), (11, vi x57)] [] σ τ47 Q) (V g mX4_isWhole d 329 [(0, vr (some (gw g))), (3, vi v13), (5, vi v53.1), (7, vi v53.2), (8, vi v43.2.1), (11, vi x57)] [] σ τ47 Q) ?_ ?_ (fun f113 p114 n115 => ?_)
                    · refine sm_b (l' := [(0, vr (some (gw g))), (3, vi v13), (5, vi v53.1), (7, vi v53.2), (8, vi v43.2.1), (11, vi x57), (12, vi v13)]) (st' := []) (pc' := 334) [(.iload_n 3, vi 0, 332), (.istore 12, vi 0, 334)] (by decide +kernel) rfl rfl ?_
                      refine sm_bindS (fun (v61 : TT) => V g mX4_isWhole d 377 [(0, vr (some (gw g))), (11, vi x57)] [] σ v61 Q) (fun v61 => ?_) (fun K62 o64 j63 => ?_)
                      · refine sm_b (l' := [(0, vr (some (gw g))), (11, vi x57), (12, vi 0)]) (st' := []) (pc' := 380) [(.iconst 0, vi 0, 378), (.istore 12, vi 0, 380)] (by decide +kernel) rfl rfl ?_
                        exact m_isWhole_L380_ok G d hd1 x57  (fun r h => hRET _ h) FU 0 v61
                      · refine sm_pick [0, 4, 5, 6] (l' := [(0, vr (some (gw g))), (8, vi v43.2.1), (11, vi x57), (12, vi v13)]) rfl ?_
                        exact m_isWhole_L334_ok G d hd1 v43.2.1 x57  (fun r h => hRET _ (o64 _ h)) (fun _ h => j63 _ h) FU v13 τ47
                    · refine sm_b (l' := [(0, vr (some (gw g))), (3, vi v13), (5, vi v53.1), (7, vi v53.2), (8, vi v43.2.1), (11, vi x57)]) (st' := [vi 0]) (pc' := 330) [(.iconst 0, vi 0, 330)] (by decide +kernel) rfl rfl ?_
                      exact sm_zret rfl (by decide +kernel) (by decide) (fun h => hRET _ h)
                    refine sm_if_ge (off := 5) (tgt := 331) h58 (by decide +kernel) (fun c116 => ?_) (fun c116 => ?_)
                    · exact p114 c116
                    · exact n115 c116
                  · refine sm_pick [0, 1, 3, 4, 5, 6, 8] (l' := [(0, vr (some (gw g))), (3, vi v13), (5, vi v39), (7, vi v43.1), (8, vi v43.2.1), (9, vi v43.2.2.1), (11, vi x52)]) rfl ?_
                    exact m_isWhole_L273_ok G d hd1 v13 v43.2.1 τ47  (fun _ h => j55 _ h) FU v39 v43.1 v43.2.2.1 x52
                refine sm_if_ne (off := 10) (tgt := 267) h48 (by decide +kernel) (fun c150 => ?_) (fun c150 => ?_)
                · exact n149 c150
                · exact p148 c150
              · exact m_isWhole_L184_ok G d hd1 v13 v17 v39 τ10  (fun _ h => j45 _ h) FU 0 0 0 0 v13
            · refine sm_gd (fun h37 => ?_)
              refine sm_case (V g mX4_isWhole d 169 [(0, vr (some (gw g))), (3, vi v13), (4, vi v17), (5, vi v33), (6, vi v28)] [] σ τ10 Q) (V g mX4_isWhole d 164 [(0, vr (some (gw g))), (3, vi v13), (4, vi v17), (5, vi v33), (6, vi v28)] [] σ τ10 Q) ?_ ?_ (fun f195 p196 n197 => ?_)
              · refine sm_pick [0, 1, 2, 3] (l' := [(0, vr (some (gw g))), (3, vi v13), (4, vi v17), (5, vi v33)]) rfl ?_
                exact sm_leaf (fun h => j41 _ h)
              · refine sm_b (l' := [(0, vr (some (gw g))), (3, vi v13), (4, vi v17), (5, vi v33), (6, vi v28)]) (st' := [vi (-v33)]) (pc' := 167) [(.iload 5, vi 0, 166), (.ineg, vi 0, 167)] (by decide +kernel) rfl rfl ?_
                refine sm_nmi (fun x194 => ?_)
                refine sm_b (l' := [(0, vr (some (gw g))), (3, vi v13), (4, vi v17), (5, vi x194), (6, vi v28)]) (st' := []) (pc' := 169) [(.istore 5, vi 0, 169)] (by decide +kernel) rfl rfl ?_
                refine sm_pick [0, 1, 2, 3] (l' := [(0, vr (some (gw g))), (3, vi v13), (4, vi v17), (5, vi x194)]) rfl ?_
                exact sm_leaf (fun h => j41 _ h)
              refine sm_if_eq (off := 8) (tgt := 169) h37 (by decide +kernel) (fun c198 => ?_) (fun c198 => ?_)
              · exact p196 c198
              · exact n197 c198
          · exact m_isWhole_L105_ok G d hd1 a2 v13 v17 v28 τ10  (fun _ h => j35 _ h) FU 0 x32
        · refine sm_gd (fun h21 => ?_)
          refine sm_gd (fun h22 => ?_)
          refine sm_gd (fun h24 => ?_)
          refine sm_gd (fun h25 => ?_)
          refine sm_case (V g mX4_isWhole d 96 [(0, vr (some (gw g))), (2, vi a2), (3, vi v13), (4, vi v17), (5, vi 0)] [] σ τ10 Q) (V g mX4_isWhole d 92 [(0, vr (some (gw g))), (2, vi a2), (3, vi v13), (4, vi v17), (5, vi 0)] [] σ τ10 Q) ?_ ?_ (fun f236 p237 n238 => ?_)
          · refine sm_b (l' := [(0, vr (some (gw g))), (2, vi a2), (3, vi v13), (4, vi v17), (5, vi 0)]) (st' := [vi 0]) (pc' := 97) [(.iconst 0, vi 0, 97)] (by decide +kernel) rfl rfl ?_
            exact sm_leaf (fun h => j30 _ h)
          · refine sm_b (l' := [(0, vr (some (gw g))), (2, vi a2), (3, vi v13), (4, vi v17), (5, vi 0)]) (st' := [vi 1]) (pc' := 97) [(.iconst 1, vi 1, 93), (.goto 4, vi 0, 97)] (by decide +kernel) rfl rfl ?_
            exact sm_leaf (fun h => j30 _ h)
          refine sm_icmp_ge (off := 20) (tgt := 96) h21 h22 (by decide +kernel) (fun c239 => ?_) (fun c239 => ?_)
          · exact p237 (Or.inl c239)
          · have w23 : ¬ (a2 ≤ (v17 + 1)) := c239
            refine sm_b (l' := [(0, vr (some (gw g))), (2, vi a2), (3, vi v13), (4, vi v17), (5, vi 0)]) (st' := [vi (v17 + 1), vr (some (gw g))]) (pc' := 84) [(.aload_n 0, vi 0, 80), (.iload 4, vi 0, 82), (.iconst 1, vi 1, 83), (.iadd, vi 0, 84)] (by decide +kernel) rfl rfl ?_
            refine sm_cvp (N := mX4_symbol) (d' := d - 1) (fun r => (some (vi r))) (some (vi (vv (m_symbol (v17 + 1) τ10)))) (h24 w23) (fun y h => by rw [vv_some h]) [vi (v17 + 1)] [] rfl (by decide +kernel) q1960 q1962 qs116 (Or.inl ⟨rfl, q1963⟩) (show okN yX4_symbol 1 = true by decide +kernel) (fun H hR => hR.rvw G.1 G.2.1) rfl rfl (by omega) rfl (fun Q' => m_symbol_ok G (d - 1) (by omega) (v17 + 1) τ10 Q') ?_
            refine sm_b (l' := [(0, vr (some (gw g))), (2, vi a2), (3, vi v13), (4, vi v17), (5, vi 0)]) (st' := [vi 45, vi (vv (m_symbol (v17 + 1) τ10))]) (pc' := 89) [(.bipush 45, vi 45, 89)] (by decide +kernel) rfl rfl ?_
            refine sm_icmp_ne (off := 7) (tgt := 96) (h25 w23) (by decide) (by decide +kernel) (fun c240 => ?_) (fun c240 => ?_)
            · exact p237 (Or.inr c240)
            · exact n238 (fun q => q.elim c239 (fun q => q c240))
      · exact m_isWhole_L34_ok G d hd1 a2 v13 τ10  (fun _ h => j19 _ h) FU v13
    · refine sm_gd (fun h11 => ?_)
      refine sm_case (V g mX4_isWhole d 31 [(0, vr (some (gw g))), (2, vi a2), (3, vi a1)] [] σ τ10 Q) (V g mX4_isWhole d 28 [(0, vr (some (gw g))), (2, vi a2), (3, vi a1)] [] σ τ10 Q) ?_ ?_ (fun f257 p258 n259 => ?_)
      · exact sm_leaf (fun h => j15 _ h)
      · refine sm_b (l' := [(0, vr (some (gw g))), (2, vi a2), (3, vi (a1 + 1))]) (st' := []) (pc' := 31) [(.iinc 3 1, vi 1, 31)] (by decide +kernel) rfl rfl ?_
        exact sm_leaf (fun h => j15 _ h)
      refine sm_if_eq (off := 6) (tgt := 31) h11 (by decide +kernel) (fun c260 => ?_) (fun c260 => ?_)
      · exact p258 c260
      · exact n259 c260
  · refine sm_gd (fun h2 => ?_)
    refine sm_case (V g mX4_isWhole d 13 [(0, vr (some (gw g))), (1, vi a1), (2, vi a2), (3, vi a1)] [vr (some (gw g))] σ τ Q) (V g mX4_isWhole d 17 [(0, vr (some (gw g))), (1, vi a1), (2, vi a2), (3, vi a1)] [vr (some (gw g))] σ τ Q) ?_ ?_ (fun f261 p262 n263 => ?_)
    · refine sm_b (l' := [(0, vr (some (gw g))), (1, vi a1), (2, vi a2), (3, vi a1)]) (st' := [vi 1, vr (some (gw g))]) (pc' := 18) [(.iconst 1, vi 1, 14), (.goto 4, vi 0, 18)] (by decide +kernel) rfl rfl ?_
      refine sm_pick [0, 2, 3] (l' := [(0, vr (some (gw g))), (2, vi a2), (3, vi a1)]) rfl ?_
      exact sm_leaf (fun h => j7 _ h)
    · refine sm_b (l' := [(0, vr (some (gw g))), (1, vi a1), (2, vi a2), (3, vi a1)]) (st' := [vi 0, vr (some (gw g))]) (pc' := 18) [(.iconst 0, vi 0, 18)] (by decide +kernel) rfl rfl ?_
      refine sm_pick [0, 2, 3] (l' := [(0, vr (some (gw g))), (2, vi a2), (3, vi a1)]) rfl ?_
      exact sm_leaf (fun h => j7 _ h)
    refine sm_icmp_ne (off := 7) (tgt := 17) h2 (by decide) (by decide +kernel) (fun c264 => ?_) (fun c264 => ?_)
    · exact n263 c264
    · exact p262 c264
def m_fits (a1 : Int) (τ : TT) : Option (Int) := gd (ib a1 50) (nm (tA τ 28 a1.toNat) fun x2 => gd (rg x2) (if (x2 = 3) ∨ (x2 = 7) then (gd (rg (tI τ 60)) (if ((tI τ 60) = 0) ∨ ((tJ τ 59) = 0) then (some 1) else (some 0))) else (if (x2 = 2) ∨ (x2 = 6) then (Option.bind (gd (rg (tI τ 60)) (if ((((tI τ 60) = 0) ∨ ((tJ τ 59) = 0)) ∧ (¬ ((tJ τ 59) < 0))) ∧ (¬ (4294967295 < (tJ τ 59))) then (some (Sum.inl 1)) else (some (Sum.inl 0)))) (Sum.elim some fun (v27 : Unit) => if ((tJ τ 59) < 0) ∨ (4294967295 < (tJ τ 59)) then (some 0) else (some 1))) else (Option.bind (if (x2 = 1) ∨ (x2 = 5) then (some 1) else (some 0)) fun (v50 : Int) => Option.bind (gd (rg v50) (if v50 = 0 then (some 2147483647) else (some 9223372036854775807))) fun (v57 : Int64) => if ((tJ τ 59) < 0) ∨ (¬ ((tJ τ 59) ≤ v57)) then (gd (rg (tI τ 60)) (if ((tI τ 60) = 0) ∨ (¬ ((tJ τ 59) = (v57 + 1))) then (some 0) else (some 1))) else (some 1)))))
set_option maxHeartbeats 4000000 in
theorem m_fits_ok {g : GE} (G : GG g) {σ : ST} (d : Nat) (hd1 : 0 ≤ d) (a1 : Int)  (τ : TT) (Q : VQ) : Sm (V g mX4_fits d 0 [(0, vr (some (gw g))), (1, vi a1)] [] σ τ Q) (m_fits a1 τ) (fun r => Q.1 (some (vi r)) σ τ) := by
  unfold m_fits
  refine sm_top (fun K hRET => ?_)
  refine sm_b (l' := [(0, vr (some (gw g))), (1, vi a1)]) (st' := [vr (some (gw g))]) (pc' := 1) [(.aload_n 0, vi 0, 1)] (by decide +kernel) rfl rfl ?_
  refine sm_tg (k := 28) (x := vr (some (gT g 28))) G.2.1 q1446 rfl rfl (by decide +kernel) ?_
  refine sm_b (l' := [(0, vr (some (gw g))), (1, vi a1)]) (st' := [vi a1, vr (some (gT g 28))]) (pc' := 5) [(.iload_n 1, vi 0, 5)] (by decide +kernel) rfl rfl ?_
  refine sm_gd (fun h1 => ?_)
  refine sm_ial (k := 28) G.2.1 (by decide) rfl (ibt (k := 28) h1) h1 (by decide +kernel) ?_
  refine sm_nmi (fun x2 => ?_)
  refine sm_b (l' := [(0, vr (some (gw g))), (1, vi a1), (2, vi x2)]) (st' := [vi 3, vi x2]) (pc' := 9) [(.istore_n 2, vi 0, 7), (.iload_n 2, vi 0, 8), (.iconst 3, vi 3, 9)] (by decide +kernel) rfl rfl ?_
  refine sm_gd (fun h3 => ?_)
  refine sm_case (V g mX4_fits d 18 [(0, vr (some (gw g))), (1, vi a1), (2, vi x2)] [] σ τ Q) (V g mX4_fits d 40 [(0, vr (some (gw g))), (1, vi a1), (2, vi x2)] [] σ τ Q) ?_ ?_ (fun f91 p92 n93 => ?_)
  · refine sm_b (l' := [(0, vr (some (gw g))), (1, vi a1), (2, vi x2)]) (st' := [vr (some (gw g))]) (pc' := 19) [(.aload_n 0, vi 0, 19)] (by decide +kernel) rfl rfl ?_
    refine sm_tg (k := 60) (x := vi (tI τ 60)) G.2.1 q1478 rfl rfl (by decide +kernel) ?_
    refine sm_gd (fun h8 => ?_)
    refine sm_case (V g mX4_fits d 34 [(0, vr (some (gw g))), (1, vi a1), (2, vi x2)] [] σ τ Q) (V g mX4_fits d 38 [(0, vr (some (gw g))), (1, vi a1), (2, vi x2)] [] σ τ Q) ?_ ?_ (fun f12 p13 n14 => ?_)
    · refine sm_b (l' := [(0, vr (some (gw g))), (1, vi a1), (2, vi x2)]) (st' := [vi 1]) (pc' := 39) [(.iconst 1, vi 1, 35), (.goto 4, vi 0, 39)] (by decide +kernel) rfl rfl ?_
      exact sm_zret rfl (by decide +kernel) (by decide) (fun h => hRET _ h)
    · refine sm_b (l' := [(0, vr (some (gw g))), (1, vi a1), (2, vi x2)]) (st' := [vi 0]) (pc' := 39) [(.iconst 0, vi 0, 39)] (by decide +kernel) rfl rfl ?_
      exact sm_zret rfl (by decide +kernel) (by decide) (fun h => hRET _ h)
    refine sm_if_eq (off := 12) (tgt := 34) h8 (by decide +kernel) (fun c15 => ?_) (fun c15 => ?_)
    · exact p13 (Or.inl c15)
    · refine sm_b (l' := [(0, vr (some (gw g))), (1, vi a1), (2, vi x2)]) (st' := [vr (some (gw g))]) (pc' := 26) [(.aload_n 0, vi 0, 26)] (by decide +kernel) rfl rfl ?_
      refine sm_tg (k := 59) (x := vl (tJ τ 59)) G.2.1 q1477 rfl rfl (by decide +kernel) ?_
      refine sm_b (l' := [(0, vr (some (gw g))), (1, vi a1), (2, vi x2)]) (st' := [vl 0, vl (tJ τ 59)]) (pc' := 30) [(.lconst 0, vl 0, 30)] (by decide +kernel) rfl rfl ?_
      refine sm_lc_ne (off := 7) (tgt := 38) (by decide +kernel) (by decide +kernel) (fun c16 => ?_) (fun c16 => ?_)
      · exact n14 (fun q => q.elim c15 c16)
      · exact p13 (Or.inr c16)
  · refine sm_b (l' := [(0, vr (some (gw g))), (1, vi a1), (2, vi x2)]) (st' := [vi 2, vi x2]) (pc' := 42) [(.iload_n 2, vi 0, 41), (.iconst 2, vi 2, 42)] (by decide +kernel) rfl rfl ?_
    refine sm_case (V g mX4_fits d 51 [(0, vr (some (gw g))), (1, vi a1), (2, vi x2)] [] σ τ Q) (V g mX4_fits d 93 [(0, vr (some (gw g))), (1, vi a1), (2, vi x2)] [] σ τ Q) ?_ ?_ (fun f86 p87 n88 => ?_)
    · refine sm_b (l' := [(0, vr (some (gw g))), (1, vi a1), (2, vi x2)]) (st' := [vr (some (gw g))]) (pc' := 52) [(.aload_n 0, vi 0, 52)] (by decide +kernel) rfl rfl ?_
      refine sm_tg (k := 60) (x := vi (tI τ 60)) G.2.1 q1478 rfl rfl (by decide +kernel) ?_
      refine sm_bindS (fun (v27 : Unit) => V g mX4_fits d 67 [(0, vr (some (gw g)))] [] σ τ Q) (fun v27 => ?_) (fun K28 o30 j29 => ?_)
      · refine sm_b (l' := [(0, vr (some (gw g)))]) (st' := [vr (some (gw g))]) (pc' := 68) [(.aload_n 0, vi 0, 68)] (by decide +kernel) rfl rfl ?_
        refine sm_tg (k := 59) (x := vl (tJ τ 59)) G.2.1 q1477 rfl rfl (by decide +kernel) ?_
        refine sm_b (l' := [(0, vr (some (gw g)))]) (st' := [vl 0, vl (tJ τ 59)]) (pc' := 72) [(.lconst 0, vl 0, 72)] (by decide +kernel) rfl rfl ?_
        refine sm_case (V g mX4_fits d 91 [(0, vr (some (gw g)))] [] σ τ Q) (V g mX4_fits d 87 [(0, vr (some (gw g)))] [] σ τ Q) ?_ ?_ (fun f33 p34 n35 => ?_)
        · refine sm_b (l' := [(0, vr (some (gw g)))]) (st' := [vi 0]) (pc' := 92) [(.iconst 0, vi 0, 92)] (by decide +kernel) rfl rfl ?_
          exact sm_zret rfl (by decide +kernel) (by decide) (fun h => hRET _ h)
        · refine sm_b (l' := [(0, vr (some (gw g)))]) (st' := [vi 1]) (pc' := 92) [(.iconst 1, vi 1, 88), (.goto 4, vi 0, 92)] (by decide +kernel) rfl rfl ?_
          exact sm_zret rfl (by decide +kernel) (by decide) (fun h => hRET _ h)
        refine sm_lc_lt (off := 18) (tgt := 91) (by decide +kernel) (by decide +kernel) (fun c36 => ?_) (fun c36 => ?_)
        · exact p34 (Or.inl c36)
        · refine sm_b (l' := [(0, vr (some (gw g)))]) (st' := [vr (some (gw g))]) (pc' := 77) [(.aload_n 0, vi 0, 77)] (by decide +kernel) rfl rfl ?_
          refine sm_tg (k := 59) (x := vl (tJ τ 59)) G.2.1 q1477 rfl rfl (by decide +kernel) ?_
          refine sm_ldc2 (by decide +kernel) q1861 ?_
          refine sm_lc_gt (off := 7) (tgt := 91) (by decide +kernel) (by decide +kernel) (fun c37 => ?_) (fun c37 => ?_)
          · exact p34 (Or.inr c37)
          · exact n35 (fun q => q.elim c36 c37)
      · refine sm_gd (fun h21 => ?_)
        refine sm_case (V g mX4_fits d 87 [(0, vr (some (gw g))), (1, vi a1), (2, vi x2)] [] σ τ Q) (V g mX4_fits d 91 [(0, vr (some (gw g))), (1, vi a1), (2, vi x2)] [] σ τ Q) ?_ ?_ (fun f38 p39 n40 => ?_)
        · refine sm_b (l' := [(0, vr (some (gw g))), (1, vi a1), (2, vi x2)]) (st' := [vi 1]) (pc' := 92) [(.iconst 1, vi 1, 88), (.goto 4, vi 0, 92)] (by decide +kernel) rfl rfl ?_
          exact sm_zret rfl (by decide +kernel) (by decide) (fun h => hRET _ (o30 _ h))
        · refine sm_b (l' := [(0, vr (some (gw g))), (1, vi a1), (2, vi x2)]) (st' := [vi 0]) (pc' := 92) [(.iconst 0, vi 0, 92)] (by decide +kernel) rfl rfl ?_
          exact sm_zret rfl (by decide +kernel) (by decide) (fun h => hRET _ (o30 _ h))
        refine sm_if_eq (off := 12) (tgt := 67) h21 (by decide +kernel) (fun c41 => ?_) (fun c41 => ?_)
        · refine sm_b (l' := [(0, vr (some (gw g))), (1, vi a1), (2, vi x2)]) (st' := [vr (some (gw g))]) (pc' := 68) [(.aload_n 0, vi 0, 68)] (by decide +kernel) rfl rfl ?_
          refine sm_tg (k := 59) (x := vl (tJ τ 59)) G.2.1 q1477 rfl rfl (by decide +kernel) ?_
          refine sm_b (l' := [(0, vr (some (gw g))), (1, vi a1), (2, vi x2)]) (st' := [vl 0, vl (tJ τ 59)]) (pc' := 72) [(.lconst 0, vl 0, 72)] (by decide +kernel) rfl rfl ?_
          refine sm_lc_lt (off := 18) (tgt := 91) (by decide +kernel) (by decide +kernel) (fun c42 => ?_) (fun c42 => ?_)
          · exact n40 (fun q => (fun q => (fun q => q c42) q.2) q.1)
          · refine sm_b (l' := [(0, vr (some (gw g))), (1, vi a1), (2, vi x2)]) (st' := [vr (some (gw g))]) (pc' := 77) [(.aload_n 0, vi 0, 77)] (by decide +kernel) rfl rfl ?_
            refine sm_tg (k := 59) (x := vl (tJ τ 59)) G.2.1 q1477 rfl rfl (by decide +kernel) ?_
            refine sm_ldc2 (by decide +kernel) q1861 ?_
            refine sm_lc_gt (off := 7) (tgt := 91) (by decide +kernel) (by decide +kernel) (fun c43 => ?_) (fun c43 => ?_)
            · exact n40 (fun q => (fun q => q c43) q.2)
            · exact p39 ⟨⟨(Or.inl c41), c42⟩, c43⟩
        · refine sm_b (l' := [(0, vr (some (gw g))), (1, vi a1), (2, vi x2)]) (st' := [vr (some (gw g))]) (pc' := 59) [(.aload_n 0, vi 0, 59)] (by decide +kernel) rfl rfl ?_
          refine sm_tg (k := 59) (x := vl (tJ τ 59)) G.2.1 q1477 rfl rfl (by decide +kernel) ?_
          refine sm_b (l' := [(0, vr (some (gw g))), (1, vi a1), (2, vi x2)]) (st' := [vl 0, vl (tJ τ 59)]) (pc' := 63) [(.lconst 0, vl 0, 63)] (by decide +kernel) rfl rfl ?_
          refine sm_lc_ne (off := 27) (tgt := 91) (by decide +kernel) (by decide +kernel) (fun c44 => ?_) (fun c44 => ?_)
          · exact n40 (fun q => (fun q => (fun q => q.elim c41 c44) q.1) q.1)
          · refine sm_b (l' := [(0, vr (some (gw g))), (1, vi a1), (2, vi x2)]) (st' := [vr (some (gw g))]) (pc' := 68) [(.aload_n 0, vi 0, 68)] (by decide +kernel) rfl rfl ?_
            refine sm_tg (k := 59) (x := vl (tJ τ 59)) G.2.1 q1477 rfl rfl (by decide +kernel) ?_
            refine sm_b (l' := [(0, vr (some (gw g))), (1, vi a1), (2, vi x2)]) (st' := [vl 0, vl (tJ τ 59)]) (pc' := 72) [(.lconst 0, vl 0, 72)] (by decide +kernel) rfl rfl ?_
            refine sm_lc_lt (off := 18) (tgt := 91) (by decide +kernel) (by decide +kernel) (fun c45 => ?_) (fun c45 => ?_)
            · exact n40 (fun q => (fun q => (fun q => q c45) q.2) q.1)
            · refine sm_b (l' := [(0, vr (some (gw g))), (1, vi a1), (2, vi x2)]) (st' := [vr (some (gw g))]) (pc' := 77) [(.aload_n 0, vi 0, 77)] (by decide +kernel) rfl rfl ?_
              refine sm_tg (k := 59) (x := vl (tJ τ 59)) G.2.1 q1477 rfl rfl (by decide +kernel) ?_
              refine sm_ldc2 (by decide +kernel) q1861 ?_
              refine sm_lc_gt (off := 7) (tgt := 91) (by decide +kernel) (by decide +kernel) (fun c46 => ?_) (fun c46 => ?_)
              · exact n40 (fun q => (fun q => q c46) q.2)
              · exact p39 ⟨⟨(Or.inr c44), c45⟩, c46⟩
    · refine sm_b (l' := [(0, vr (some (gw g))), (1, vi a1), (2, vi x2)]) (st' := [vi 1, vi x2]) (pc' := 95) [(.iload_n 2, vi 0, 94), (.iconst 1, vi 1, 95)] (by decide +kernel) rfl rfl ?_
      refine sm_bind1 (fun (v50 : Int) => V g mX4_fits d 108 [(0, vr (some (gw g)))] [vi v50] σ τ Q) (fun v50 => ?_) (fun K51 j52 => ?_)
      · refine sm_b (l' := [(0, vr (some (gw g))), (3, vi v50)]) (st' := [vi v50]) (pc' := 110) [(.istore_n 3, vi 0, 109), (.iload_n 3, vi 0, 110)] (by decide +kernel) rfl rfl ?_
        refine sm_bind1 (fun (v57 : Int64) => V g mX4_fits d 122 [(0, vr (some (gw g)))] [vl v57] σ τ Q) (fun v57 => ?_) (fun K58 j59 => ?_)
        · refine sm_b (l' := [(0, vr (some (gw g))), (4, vl v57)]) (st' := [vr (some (gw g))]) (pc' := 125) [(.lstore 4, vi 0, 124), (.aload_n 0, vi 0, 125)] (by decide +kernel) rfl rfl ?_
          refine sm_tg (k := 59) (x := vl (tJ τ 59)) G.2.1 q1477 rfl rfl (by decide +kernel) ?_
          refine sm_b (l' := [(0, vr (some (gw g))), (4, vl v57)]) (st' := [vl 0, vl (tJ τ 59)]) (pc' := 129) [(.lconst 0, vl 0, 129)] (by decide +kernel) rfl rfl ?_
          refine sm_case (V g mX4_fits d 143 [(0, vr (some (gw g))), (4, vl v57)] [] σ τ Q) (V g mX4_fits d 162 [(0, vr (some (gw g))), (4, vl v57)] [] σ τ Q) ?_ ?_ (fun f72 p73 n74 => ?_)
          · refine sm_b (l' := [(0, vr (some (gw g))), (4, vl v57)]) (st' := [vr (some (gw g))]) (pc' := 144) [(.aload_n 0, vi 0, 144)] (by decide +kernel) rfl rfl ?_
            refine sm_tg (k := 60) (x := vi (tI τ 60)) G.2.1 q1478 rfl rfl (by decide +kernel) ?_
            refine sm_gd (fun h64 => ?_)
            refine sm_case (V g mX4_fits d 166 [(0, vr (some (gw g))), (4, vl v57)] [] σ τ Q) (V g mX4_fits d 162 [(0, vr (some (gw g))), (4, vl v57)] [] σ τ Q) ?_ ?_ (fun f67 p68 n69 => ?_)
            · refine sm_b (l' := [(0, vr (some (gw g))), (4, vl v57)]) (st' := [vi 0]) (pc' := 167) [(.iconst 0, vi 0, 167)] (by decide +kernel) rfl rfl ?_
              exact sm_zret rfl (by decide +kernel) (by decide) (fun h => hRET _ h)
            · refine sm_b (l' := [(0, vr (some (gw g))), (4, vl v57)]) (st' := [vi 1]) (pc' := 167) [(.iconst 1, vi 1, 163), (.goto 4, vi 0, 167)] (by decide +kernel) rfl rfl ?_
              exact sm_zret rfl (by decide +kernel) (by decide) (fun h => hRET _ h)
            refine sm_if_eq (off := 19) (tgt := 166) h64 (by decide +kernel) (fun c70 => ?_) (fun c70 => ?_)
            · exact p68 (Or.inl c70)
            · refine sm_b (l' := [(0, vr (some (gw g))), (4, vl v57)]) (st' := [vr (some (gw g))]) (pc' := 151) [(.aload_n 0, vi 0, 151)] (by decide +kernel) rfl rfl ?_
              refine sm_tg (k := 59) (x := vl (tJ τ 59)) G.2.1 q1477 rfl rfl (by decide +kernel) ?_
              refine sm_b (l' := [(0, vr (some (gw g))), (4, vl v57)]) (st' := [vl (v57 + 1), vl (tJ τ 59)]) (pc' := 158) [(.lload 4, vi 0, 156), (.lconst 1, vl 1, 157), (.ladd, vi 0, 158)] (by decide +kernel) rfl rfl ?_
              refine sm_lc_ne (off := 7) (tgt := 166) (by decide +kernel) (by decide +kernel) (fun c71 => ?_) (fun c71 => ?_)
              · exact p68 (Or.inr c71)
              · exact n69 (fun q => q.elim c70 (fun q => q c71))
          · refine sm_b (l' := [(0, vr (some (gw g))), (4, vl v57)]) (st' := [vi 1]) (pc' := 167) [(.iconst 1, vi 1, 163), (.goto 4, vi 0, 167)] (by decide +kernel) rfl rfl ?_
            exact sm_zret rfl (by decide +kernel) (by decide) (fun h => hRET _ h)
          refine sm_lc_lt (off := 13) (tgt := 143) (by decide +kernel) (by decide +kernel) (fun c75 => ?_) (fun c75 => ?_)
          · exact p73 (Or.inl c75)
          · refine sm_b (l' := [(0, vr (some (gw g))), (4, vl v57)]) (st' := [vr (some (gw g))]) (pc' := 134) [(.aload_n 0, vi 0, 134)] (by decide +kernel) rfl rfl ?_
            refine sm_tg (k := 59) (x := vl (tJ τ 59)) G.2.1 q1477 rfl rfl (by decide +kernel) ?_
            refine sm_b (l' := [(0, vr (some (gw g))), (4, vl v57)]) (st' := [vl v57, vl (tJ τ 59)]) (pc' := 139) [(.lload 4, vi 0, 139)] (by decide +kernel) rfl rfl ?_
            refine sm_lc_le (off := 22) (tgt := 162) (by decide +kernel) (by decide +kernel) (fun c76 => ?_) (fun c76 => ?_)
            · exact n74 (fun q => q.elim c75 (fun q => q c76))
            · exact p73 (Or.inr c76)
        · refine sm_gd (fun h54 => ?_)
          refine sm_case (V g mX4_fits d 119 [(0, vr (some (gw g))), (3, vi v50)] [] σ τ Q) (V g mX4_fits d 113 [(0, vr (some (gw g))), (3, vi v50)] [] σ τ Q) ?_ ?_ (fun f77 p78 n79 => ?_)
          · refine sm_ldc2 (by decide +kernel) q1984 ?_
            refine sm_pick [0] (l' := [(0, vr (some (gw g)))]) rfl ?_
            exact sm_leaf (fun h => j59 _ h)
          · refine sm_ldc2 (by decide +kernel) q1983 ?_
            refine sm_b (l' := [(0, vr (some (gw g))), (3, vi v50)]) (st' := [vl 9223372036854775807]) (pc' := 122) [(.goto 6, vi 0, 122)] (by decide +kernel) rfl rfl ?_
            refine sm_pick [0] (l' := [(0, vr (some (gw g)))]) rfl ?_
            exact sm_leaf (fun h => j59 _ h)
          refine sm_if_eq (off := 9) (tgt := 119) h54 (by decide +kernel) (fun c80 => ?_) (fun c80 => ?_)
          · exact p78 c80
          · exact n79 c80
      · refine sm_case (V g mX4_fits d 103 [(0, vr (some (gw g))), (1, vi a1), (2, vi x2)] [] σ τ Q) (V g mX4_fits d 107 [(0, vr (some (gw g))), (1, vi a1), (2, vi x2)] [] σ τ Q) ?_ ?_ (fun f81 p82 n83 => ?_)
        · refine sm_b (l' := [(0, vr (some (gw g))), (1, vi a1), (2, vi x2)]) (st' := [vi 1]) (pc' := 108) [(.iconst 1, vi 1, 104), (.goto 4, vi 0, 108)] (by decide +kernel) rfl rfl ?_
          refine sm_pick [0] (l' := [(0, vr (some (gw g)))]) rfl ?_
          exact sm_leaf (fun h => j52 _ h)
        · refine sm_b (l' := [(0, vr (some (gw g))), (1, vi a1), (2, vi x2)]) (st' := [vi 0]) (pc' := 108) [(.iconst 0, vi 0, 108)] (by decide +kernel) rfl rfl ?_
          refine sm_pick [0] (l' := [(0, vr (some (gw g)))]) rfl ?_
          exact sm_leaf (fun h => j52 _ h)
        refine sm_icmp_eq (off := 8) (tgt := 103) h3 (by decide) (by decide +kernel) (fun c84 => ?_) (fun c84 => ?_)
        · exact p82 (Or.inl c84)
        · refine sm_b (l' := [(0, vr (some (gw g))), (1, vi a1), (2, vi x2)]) (st' := [vi 5, vi x2]) (pc' := 100) [(.iload_n 2, vi 0, 99), (.iconst 5, vi 5, 100)] (by decide +kernel) rfl rfl ?_
          refine sm_icmp_ne (off := 7) (tgt := 107) h3 (by decide) (by decide +kernel) (fun c85 => ?_) (fun c85 => ?_)
          · exact n83 (fun q => q.elim c84 c85)
          · exact p82 (Or.inr c85)
    refine sm_icmp_eq (off := 9) (tgt := 51) h3 (by decide) (by decide +kernel) (fun c89 => ?_) (fun c89 => ?_)
    · exact p87 (Or.inl c89)
    · refine sm_b (l' := [(0, vr (some (gw g))), (1, vi a1), (2, vi x2)]) (st' := [vi 6, vi x2]) (pc' := 48) [(.iload_n 2, vi 0, 46), (.bipush 6, vi 6, 48)] (by decide +kernel) rfl rfl ?_
      refine sm_icmp_ne (off := 45) (tgt := 93) h3 (by decide) (by decide +kernel) (fun c90 => ?_) (fun c90 => ?_)
      · exact n88 (fun q => q.elim c89 c90)
      · exact p87 (Or.inr c90)
  refine sm_icmp_eq (off := 9) (tgt := 18) h3 (by decide) (by decide +kernel) (fun c94 => ?_) (fun c94 => ?_)
  · exact p92 (Or.inl c94)
  · refine sm_b (l' := [(0, vr (some (gw g))), (1, vi a1), (2, vi x2)]) (st' := [vi 7, vi x2]) (pc' := 15) [(.iload_n 2, vi 0, 13), (.bipush 7, vi 7, 15)] (by decide +kernel) rfl rfl ?_
    refine sm_icmp_ne (off := 25) (tgt := 40) h3 (by decide) (by decide +kernel) (fun c95 => ?_) (fun c95 => ?_)
    · exact n93 (fun q => q.elim c94 c95)
    · exact p92 (Or.inr c95)
