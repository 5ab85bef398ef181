set_option maxRecDepth 100000
/-! the system: X9_jsonClashes, X9_fault, X0_schema, X0_count, X0_isField -/
def ck_jsonClashes_L20 (u0 : Nat) (u2 : Int) (σ : ST) : Nat → Int → Int → Option (Int)
  | 0, _, _ => none
  | n + 1, w1, w3 => gd (rg w3) (gd (rg u2) (if u2 ≤ w3 then (some w1) else (Option.bind (gd (rg w1) (if w1 = 0 then (gd (sc σ u0 = 10) (Option.bind (sR σ 144 u0) fun p47 => gd (sc σ p47 = 2) (Option.bind (sR σ 19 p47) fun p50 => gd (sc σ p50 = 16) (Option.bind (l_get p50 u2 σ) fun y53 => Option.bind y53 fun p54 => gd (sc σ p54 = 9) (Option.bind (l_get p50 w3 σ) fun y57 => Option.bind y57 fun p58 => gd (sc σ p58 = 9) (gd ((sR σ 128 p54) = (sR σ 128 p58) → ok (l_get p50 u2 σ)) (gd ((sR σ 128 p54) = (sR σ 128 p58) → ¬ (vo (l_get p50 u2 σ)) = none) (gd ((sR σ 128 p54) = (sR σ 128 p58) → sc σ (ad (vo (l_get p50 u2 σ))) = 9) (gd ((sR σ 128 p54) = (sR σ 128 p58) → ok (l_get p50 w3 σ)) (gd ((sR σ 128 p54) = (sR σ 128 p58) → ¬ (vo (l_get p50 w3 σ)) = none) (gd ((sR σ 128 p54) = (sR σ 128 p58) → sc σ (ad (vo (l_get p50 w3 σ))) = 9) (gd ((sR σ 128 p54) = (sR σ 128 p58) → ¬ (sR σ 130 (ad (vo (l_get p50 u2 σ)))) = none) (gd ((sR σ 128 p54) = (sR σ 128 p58) → sc σ (ad (sR σ 130 (ad (vo (l_get p50 u2 σ))))) = 4) (gd ((sR σ 128 p54) = (sR σ 128 p58) → ok (r_same (ad (sR σ 130 (ad (vo (l_get p50 u2 σ))))) (sR σ 130 (ad (vo (l_get p50 w3 σ)))) σ)) (gd ((sR σ 128 p54) = (sR σ 128 p58) → rg (vv (r_same (ad (sR σ 130 (ad (vo (l_get p50 u2 σ))))) (sR σ 130 (ad (vo (l_get p50 w3 σ)))) σ))) (if ((sR σ 128 p54) = (sR σ 128 p58)) ∧ (¬ ((vv (r_same (ad (sR σ 130 (ad (vo (l_get p50 u2 σ))))) (sR σ 130 (ad (vo (l_get p50 w3 σ)))) σ)) = 0)) then (some 1) else (some 0))))))))))))))))) else (some 1))) fun (v42 : Int) => ck_jsonClashes_L20 u0 u2 σ n v42 (w3 + 1))))
def ck_jsonClashes_L4 (u0 : Nat) (σ : ST) : Nat → Int → Int → Option (Int)
  | 0, _, _ => none
  | n + 1, w1, w2 => gd (sc σ u0 = 10) (Option.bind (sR σ 144 u0) fun p2 => gd (sc σ p2 = 2) (Option.bind (sR σ 19 p2) fun p5 => gd (sc σ p5 = 16) (Option.bind (l_size p5 σ) fun y8 => gd (rg w2) (gd (rg y8) (if y8 ≤ w2 then (gd (zb w1) (some w1)) else (Option.bind (ck_jsonClashes_L20 u0 w2 σ FU w1 0) fun (v14 : Int) => ck_jsonClashes_L4 u0 σ n v14 (w2 + 1)))))))
def ck_jsonClashes (a0 : Nat) (σ : ST) : Option (Int) := ck_jsonClashes_L4 a0 σ FU 0 0
set_option maxHeartbeats 4000000 in
theorem ck_jsonClashes_L20_ok {g : GE} (G : GG g) {τ : TT} {Q : VQ} (d : Nat) (hd1 : 4 ≤ d) (u0 : Nat) (u2 : Int) (σ : ST)  {K : Int → Prop} (hE118 : ∀ v18 : Int, K (v18) → V g mX9_jsonClashes d 118 [(0, vr (some u0)), (1, vi v18), (2, vi u2)] [] σ τ Q) : ∀ (n : Nat) (w1 : Int) (w3 : Int), Sm (V g mX9_jsonClashes d 20 [(0, vr (some u0)), (1, vi w1), (2, vi u2), (3, vi w3)] [] σ τ Q) (ck_jsonClashes_L20 u0 u2 σ n w1 w3) K := by
  intro n
  induction n with
  | zero => intro w1 w3; exact sm_none
  | succ n ih =>
    intro w1 w3
    rw [ck_jsonClashes_L20.eq_2]
    refine sm_b (l' := [(0, vr (some u0)), (1, vi w1), (2, vi u2), (3, vi w3)]) (st' := [vi u2, vi w3]) (pc' := 22) [(.iload_n 3, vi 0, 21), (.iload_n 2, vi 0, 22)] (by decide +kernel) rfl rfl ?_
    refine sm_gd (fun h19 => ?_)
    refine sm_gd (fun h20 => ?_)
    refine sm_case (V g mX9_jsonClashes d 118 [(0, vr (some u0)), (1, vi w1), (2, vi u2), (3, vi w3)] [] σ τ Q) (V g mX9_jsonClashes d 25 [(0, vr (some u0)), (1, vi w1), (2, vi u2), (3, vi w3)] [] σ τ Q) ?_ ?_ (fun f85 p86 n87 => ?_)
    · refine sm_pick [0, 1, 2] (l' := [(0, vr (some u0)), (1, vi w1), (2, vi u2)]) rfl ?_
      exact sm_leaf (fun h => hE118 _ h)
    · refine sm_b (l' := [(0, vr (some u0)), (1, vi w1), (2, vi u2), (3, vi w3)]) (st' := [vi w1]) (pc' := 26) [(.iload_n 1, vi 0, 26)] (by decide +kernel) rfl rfl ?_
      refine sm_bind1 (fun (v42 : Int) => V g mX9_jsonClashes d 111 [(0, vr (some u0)), (2, vi u2), (3, vi w3)] [vi v42] σ τ Q) (fun v42 => ?_) (fun K43 j44 => ?_)
      · refine sm_b (l' := [(0, vr (some u0)), (2, vi u2), (3, vi (w3 + 1)), (1, vi v42)]) (st' := []) (pc' := 20) [(.istore_n 1, vi 0, 112), (.iinc 3 1, vi 1, 115), (.goto (-95), vi 0, 20)] (by decide +kernel) rfl rfl ?_
        refine sm_pick [0, 3, 1, 2] (l' := [(0, vr (some u0)), (1, vi v42), (2, vi u2), (3, vi (w3 + 1))]) rfl ?_
        exact ih v42 (w3 + 1)
      · refine sm_gd (fun h23 => ?_)
        refine sm_case (V g mX9_jsonClashes d 29 [(0, vr (some u0)), (1, vi w1), (2, vi u2), (3, vi w3)] [] σ τ Q) (V g mX9_jsonClashes d 106 [(0, vr (some u0)), (1, vi w1), (2, vi u2), (3, vi w3)] [] σ τ Q) ?_ ?_ (fun f81 p82 n83 => ?_)
        · refine sm_b (l' := [(0, vr (some u0)), (1, vi w1), (2, vi u2), (3, vi w3)]) (st' := [vr (some u0)]) (pc' := 30) [(.aload_n 0, vi 0, 30)] (by decide +kernel) rfl rfl ?_
          refine sm_gd (fun h46 => ?_)
          refine sm_g (k := 0) (x := vr (sR σ 144 u0)) cd9 rfl h46 rfl q819 rfl (by decide +kernel) ?_
          refine sm_de (fun p47 h48 => ?_)
          refine sm_st [vr (some p47)] (by rw [h48] <;> rfl) ?_
          refine sm_gd (fun h49 => ?_)
          refine sm_gN (k := 3) (x := vr (sR σ 19 p47)) cd1 rfl h49 rfl q246 rfl (by decide +kernel) ?_
          refine sm_b (l' := [(0, vr (some u0)), (1, vi w1), (2, vi u2), (3, vi w3)]) (st' := [vi u2, vr (sR σ 19 p47)]) (pc' := 37) [(.iload_n 2, vi 0, 37)] (by decide +kernel) rfl rfl ?_
          refine sm_de (fun p50 h51 => ?_)
          refine sm_st [vi u2, vr (some p50)] (by rw [h51] <;> rfl) ?_
          refine sm_gd (fun h52 => ?_)
          refine sm_cv (N := mJ2_get) (d' := d - 1) (fun r => (some (vr r))) (fun _ => σ) (fun _ => τ) [vi u2] [] rfl (by decide +kernel) q835 q791 q792 (Or.inl ⟨rfl, q793⟩) (show okN yJ2_get 1 = true by decide +kernel) (fun H hR => hR.rvL G.1 h52) rfl rfl (by omega) rfl (fun Q' => l_get_ok G (d - 1) (by omega) p50 u2 σ Q') (fun y53 => ?_)
          refine sm_de (fun p54 h55 => ?_)
          refine sm_st [vr (some p54)] (by rw [h55] <;> rfl) ?_
          refine sm_gd (fun h56 => ?_)
          refine sm_cast cd8 q848 (fun H hR => hR.rv G.1 cd8 rfl h56) (by decide +kernel) ?_
          refine sm_gN (k := 0) (x := vr (sR σ 128 p54)) cd8 rfl h56 rfl q715 rfl (by decide +kernel) ?_
          refine sm_b (l' := [(0, vr (some u0)), (1, vi w1), (2, vi u2), (3, vi w3)]) (st' := [vr (some u0), vr (sR σ 128 p54)]) (pc' := 47) [(.aload_n 0, vi 0, 47)] (by decide +kernel) rfl rfl ?_
          refine sm_g (k := 0) (x := vr (sR σ 144 u0)) cd9 rfl h46 rfl q819 rfl (by decide +kernel) ?_
          refine sm_st [vr (some p47), vr (sR σ 128 p54)] (by rw [h48] <;> rfl) ?_
          refine sm_gN (k := 3) (x := vr (sR σ 19 p47)) cd1 rfl h49 rfl q246 rfl (by decide +kernel) ?_
          refine sm_b (l' := [(0, vr (some u0)), (1, vi w1), (2, vi u2), (3, vi w3)]) (st' := [vi w3, vr (sR σ 19 p47), vr (sR σ 128 p54)]) (pc' := 54) [(.iload_n 3, vi 0, 54)] (by decide +kernel) rfl rfl ?_
          refine sm_st [vi w3, vr (some p50), vr (sR σ 128 p54)] (by rw [h51] <;> rfl) ?_
          refine sm_cv (N := mJ2_get) (d' := d - 1) (fun r => (some (vr r))) (fun _ => σ) (fun _ => τ) [vi w3] [vr (sR σ 128 p54)] rfl (by decide +kernel) q835 q791 q792 (Or.inl ⟨rfl, q793⟩) (show okN yJ2_get 1 = true by decide +kernel) (fun H hR => hR.rvL G.1 h52) rfl rfl (by omega) rfl (fun Q' => l_get_ok G (d - 1) (by omega) p50 w3 σ Q') (fun y57 => ?_)
          refine sm_de (fun p58 h59 => ?_)
          refine sm_st [vr (some p58), vr (sR σ 128 p54)] (by rw [h59] <;> rfl) ?_
          refine sm_gd (fun h60 => ?_)
          refine sm_cast cd8 q848 (fun H hR => hR.rv G.1 cd8 rfl h60) (by decide +kernel) ?_
          refine sm_gN (k := 0) (x := vr (sR σ 128 p58)) cd8 rfl h60 rfl q715 rfl (by decide +kernel) ?_
          refine sm_gd (fun h62 => ?_)
          refine sm_gd (fun h63 => ?_)
          refine sm_gd (fun h65 => ?_)
          refine sm_gd (fun h66 => ?_)
          refine sm_gd (fun h67 => ?_)
          refine sm_gd (fun h69 => ?_)
          refine sm_gd (fun h70 => ?_)
          refine sm_gd (fun h72 => ?_)
          refine sm_gd (fun h73 => ?_)
          refine sm_gd (fun h74 => ?_)
          refine sm_case (V g mX9_jsonClashes d 106 [(0, vr (some u0)), (1, vi w1), (2, vi u2), (3, vi w3)] [] σ τ Q) (V g mX9_jsonClashes d 110 [(0, vr (some u0)), (1, vi w1), (2, vi u2), (3, vi w3)] [] σ τ Q) ?_ ?_ (fun f76 p77 n78 => ?_)
          · refine sm_b (l' := [(0, vr (some u0)), (1, vi w1), (2, vi u2), (3, vi w3)]) (st' := [vi 1]) (pc' := 111) [(.iconst 1, vi 1, 107), (.goto 4, vi 0, 111)] (by decide +kernel) rfl rfl ?_
            refine sm_pick [0, 2, 3] (l' := [(0, vr (some u0)), (2, vi u2), (3, vi w3)]) rfl ?_
            exact sm_leaf (fun h => j44 _ h)
          · refine sm_b (l' := [(0, vr (some u0)), (1, vi w1), (2, vi u2), (3, vi w3)]) (st' := [vi 0]) (pc' := 111) [(.iconst 0, vi 0, 111)] (by decide +kernel) rfl rfl ?_
            refine sm_pick [0, 2, 3] (l' := [(0, vr (some u0)), (2, vi u2), (3, vi w3)]) rfl ?_
            exact sm_leaf (fun h => j44 _ h)
          refine sm_acmp_ne (off := 47) (tgt := 110) (by decide +kernel) (fun c79 => ?_) (fun c79 => ?_)
          · exact n78 (fun q => c79 q.1)
          · have w61 : (sR σ 128 p54) = (sR σ 128 p58) := c79
            refine sm_b (l' := [(0, vr (some u0)), (1, vi w1), (2, vi u2), (3, vi w3)]) (st' := [vr (some u0)]) (pc' := 67) [(.aload_n 0, vi 0, 67)] (by decide +kernel) rfl rfl ?_
            refine sm_g (k := 0) (x := vr (sR σ 144 u0)) cd9 rfl h46 rfl q819 rfl (by decide +kernel) ?_
            refine sm_st [vr (some p47)] (by rw [h48] <;> rfl) ?_
            refine sm_gN (k := 3) (x := vr (sR σ 19 p47)) cd1 rfl h49 rfl q246 rfl (by decide +kernel) ?_
            refine sm_b (l' := [(0, vr (some u0)), (1, vi w1), (2, vi u2), (3, vi w3)]) (st' := [vi u2, vr (sR σ 19 p47)]) (pc' := 74) [(.iload_n 2, vi 0, 74)] (by decide +kernel) rfl rfl ?_
            refine sm_st [vi u2, vr (some p50)] (by rw [h51] <;> rfl) ?_
            refine sm_cvp (N := mJ2_get) (d' := d - 1) (fun r => (some (vr r))) (some (vr (vo (l_get p50 u2 σ)))) (h62 w61) (fun y h => by rw [vo_some h]) [vi u2] [] rfl (by decide +kernel) q835 q791 q792 (Or.inl ⟨rfl, q793⟩) (show okN yJ2_get 1 = true by decide +kernel) (fun H hR => hR.rvL G.1 h52) rfl rfl (by omega) rfl (fun Q' => l_get_ok G (d - 1) (by omega) p50 u2 σ Q') ?_
            have q64 := (ad_some (h63 w61))
            refine sm_st [vr (some (ad (vo (l_get p50 u2 σ))))] (congrArg (fun z => [vr z]) q64) ?_
            refine sm_cast cd8 q848 (fun H hR => hR.rv G.1 cd8 rfl (h65 w61)) (by decide +kernel) ?_
            refine sm_gN (k := 2) (x := vr (sR σ 130 (ad (vo (l_get p50 u2 σ))))) cd8 rfl (h65 w61) rfl q722 rfl (by decide +kernel) ?_
            refine sm_b (l' := [(0, vr (some u0)), (1, vi w1), (2, vi u2), (3, vi w3)]) (st' := [vr (some u0), vr (sR σ 130 (ad (vo (l_get p50 u2 σ))))]) (pc' := 84) [(.aload_n 0, vi 0, 84)] (by decide +kernel) rfl rfl ?_
            refine sm_g (k := 0) (x := vr (sR σ 144 u0)) cd9 rfl h46 rfl q819 rfl (by decide +kernel) ?_
            refine sm_st [vr (some p47), vr (sR σ 130 (ad (vo (l_get p50 u2 σ))))] (by rw [h48] <;> rfl) ?_
            refine sm_gN (k := 3) (x := vr (sR σ 19 p47)) cd1 rfl h49 rfl q246 rfl (by decide +kernel) ?_
            refine sm_b (l' := [(0, vr (some u0)), (1, vi w1), (2, vi u2), (3, vi w3)]) (st' := [vi w3, vr (sR σ 19 p47), vr (sR σ 130 (ad (vo (l_get p50 u2 σ))))]) (pc' := 91) [(.iload_n 3, vi 0, 91)] (by decide +kernel) rfl rfl ?_
            refine sm_st [vi w3, vr (some p50), vr (sR σ 130 (ad (vo (l_get p50 u2 σ))))] (by rw [h51] <;> rfl) ?_
            refine sm_cvp (N := mJ2_get) (d' := d - 1) (fun r => (some (vr r))) (some (vr (vo (l_get p50 w3 σ)))) (h66 w61) (fun y h => by rw [vo_some h]) [vi w3] [vr (sR σ 130 (ad (vo (l_get p50 u2 σ))))] rfl (by decide +kernel) q835 q791 q792 (Or.inl ⟨rfl, q793⟩) (show okN yJ2_get 1 = true by decide +kernel) (fun H hR => hR.rvL G.1 h52) rfl rfl (by omega) rfl (fun Q' => l_get_ok G (d - 1) (by omega) p50 w3 σ Q') ?_
            have q68 := (ad_some (h67 w61))
            refine sm_st [vr (some (ad (vo (l_get p50 w3 σ)))), vr (sR σ 130 (ad (vo (l_get p50 u2 σ))))] (congrArg (fun z => [vr z, vr (sR σ 130 (ad (vo (l_get p50 u2 σ))))]) q68) ?_
            refine sm_cast cd8 q848 (fun H hR => hR.rv G.1 cd8 rfl (h69 w61)) (by decide +kernel) ?_
            refine sm_gN (k := 2) (x := vr (sR σ 130 (ad (vo (l_get p50 w3 σ))))) cd8 rfl (h69 w61) rfl q722 rfl (by decide +kernel) ?_
            have q71 := (ad_some (h70 w61))
            refine sm_st [vr (sR σ 130 (ad (vo (l_get p50 w3 σ)))), vr (some (ad (sR σ 130 (ad (vo (l_get p50 u2 σ))))))] (congrArg (fun z => [vr (sR σ 130 (ad (vo (l_get p50 w3 σ)))), vr z]) q71) ?_
            refine sm_cvp (N := mX3_same) (d' := d - 1) (fun r => (some (vi r))) (some (vi (vv (r_same (ad (sR σ 130 (ad (vo (l_get p50 u2 σ))))) (sR σ 130 (ad (vo (l_get p50 w3 σ)))) σ)))) (h73 w61) (fun y h => by rw [vv_some h]) [vr (sR σ 130 (ad (vo (l_get p50 w3 σ))))] [] rfl (by decide +kernel) q837 q838 q839 (Or.inl ⟨rfl, q840⟩) (show okN yX3_same 1 = true by decide +kernel) (fun H hR => hR.rvR G.1 (h72 w61)) rfl rfl (by omega) rfl (fun Q' => r_same_ok G (d - 1) (by omega) (ad (sR σ 130 (ad (vo (l_get p50 u2 σ))))) (sR σ 130 (ad (vo (l_get p50 w3 σ)))) σ Q') ?_
            refine sm_if_eq (off := 7) (tgt := 110) (h74 w61) (by decide +kernel) (fun c80 => ?_) (fun c80 => ?_)
            · exact n78 (fun q => (fun q => q c80) q.2)
            · exact p77 ⟨c79, c80⟩
        · refine sm_b (l' := [(0, vr (some u0)), (1, vi w1), (2, vi u2), (3, vi w3)]) (st' := [vi 1]) (pc' := 111) [(.iconst 1, vi 1, 107), (.goto 4, vi 0, 111)] (by decide +kernel) rfl rfl ?_
          refine sm_pick [0, 2, 3] (l' := [(0, vr (some u0)), (2, vi u2), (3, vi w3)]) rfl ?_
          exact sm_leaf (fun h => j44 _ h)
        refine sm_if_ne (off := 80) (tgt := 106) h23 (by decide +kernel) (fun c84 => ?_) (fun c84 => ?_)
        · exact n83 c84
        · exact p82 c84
    refine sm_icmp_ge (off := 96) (tgt := 118) h19 h20 (by decide +kernel) (fun c88 => ?_) (fun c88 => ?_)
    · exact p86 c88
    · exact n87 c88
set_option maxHeartbeats 4000000 in
theorem ck_jsonClashes_L4_ok {g : GE} (G : GG g) {τ : TT} {Q : VQ} (d : Nat) (hd1 : 4 ≤ d) (u0 : Nat) (σ : ST)  {K : Int → Prop} (hRET : ∀ r : Int, K (r) → Q.1 (some (vi r)) σ τ) : ∀ (n : Nat) (w1 : Int) (w2 : Int), Sm (V g mX9_jsonClashes d 4 [(0, vr (some u0)), (1, vi w1), (2, vi w2)] [] σ τ Q) (ck_jsonClashes_L4 u0 σ n w1 w2) K := by
  intro n
  induction n with
  | zero => intro w1 w2; exact sm_none
  | succ n ih =>
    intro w1 w2
    rw [ck_jsonClashes_L4.eq_2]
    refine sm_b (l' := [(0, vr (some u0)), (1, vi w1), (2, vi w2)]) (st' := [vr (some u0), vi w2]) (pc' := 6) [(.iload_n 2, vi 0, 5), (.aload_n 0, vi 0, 6)] (by decide +kernel) rfl rfl ?_
    refine sm_gd (fun h1 => ?_)
    refine sm_g (k := 0) (x := vr (sR σ 144 u0)) cd9 rfl h1 rfl q819 rfl (by decide +kernel) ?_
    refine sm_de (fun p2 h3 => ?_)
    refine sm_st [vr (some p2), vi w2] (by rw [h3] <;> rfl) ?_
    refine sm_gd (fun h4 => ?_)
    refine sm_gN (k := 3) (x := vr (sR σ 19 p2)) cd1 rfl h4 rfl q246 rfl (by decide +kernel) ?_
    refine sm_de (fun p5 h6 => ?_)
    refine sm_st [vr (some p5), vi w2] (by rw [h6] <;> rfl) ?_
    refine sm_gd (fun h7 => ?_)
    refine sm_cv (N := mJ2_size) (d' := d - 1) (fun r => (some (vi r))) (fun _ => σ) (fun _ => τ) [] [vi w2] rfl (by decide +kernel) q834 q519 q520 (Or.inl ⟨rfl, q521⟩) (show okN yJ2_size 0 = true by decide +kernel) (fun H hR => hR.rvL G.1 h7) rfl rfl (by omega) rfl (fun Q' => l_size_ok G (d - 1) (by omega) p5 σ Q') (fun y8 => ?_)
    refine sm_gd (fun h9 => ?_)
    refine sm_gd (fun h10 => ?_)
    refine sm_case (V g mX9_jsonClashes d 124 [(0, vr (some u0)), (1, vi w1), (2, vi w2)] [] σ τ Q) (V g mX9_jsonClashes d 18 [(0, vr (some u0)), (1, vi w1), (2, vi w2)] [] σ τ Q) ?_ ?_ (fun f89 p90 n91 => ?_)
    · refine sm_b (l' := [(0, vr (some u0)), (1, vi w1), (2, vi w2)]) (st' := [vi w1]) (pc' := 125) [(.iload_n 1, vi 0, 125)] (by decide +kernel) rfl rfl ?_
      refine sm_gd (fun h13 => ?_)
      exact sm_zret rfl (by decide +kernel) h13 (fun h => hRET _ h)
    · refine sm_b (l' := [(0, vr (some u0)), (1, vi w1), (2, vi w2), (3, vi 0)]) (st' := []) (pc' := 20) [(.iconst 0, vi 0, 19), (.istore_n 3, vi 0, 20)] (by decide +kernel) rfl rfl ?_
      refine sm_bind1 (fun (v14 : Int) => V g mX9_jsonClashes d 118 [(0, vr (some u0)), (1, vi v14), (2, vi w2)] [] σ τ Q) (fun v14 => ?_) (fun K15 j16 => ?_)
      · refine sm_b (l' := [(0, vr (some u0)), (1, vi v14), (2, vi (w2 + 1))]) (st' := []) (pc' := 4) [(.iinc 2 1, vi 1, 121), (.goto (-117), vi 0, 4)] (by decide +kernel) rfl rfl ?_
        exact ih v14 (w2 + 1)
      · exact ck_jsonClashes_L20_ok G d hd1 u0 w2 σ  (fun _ h => j16 _ h) FU w1 0
    refine sm_icmp_ge (off := 109) (tgt := 124) h9 h10 (by decide +kernel) (fun c92 => ?_) (fun c92 => ?_)
    · exact p90 c92
    · exact n91 c92
set_option maxHeartbeats 4000000 in
theorem ck_jsonClashes_ok {g : GE} (G : GG g) {τ : TT} (d : Nat) (hd1 : 4 ≤ d) (a0 : Nat)  (σ : ST) (Q : VQ) : Sm (V g mX9_jsonClashes d 0 [(0, vr (some a0))] [] σ τ Q) (ck_jsonClashes a0 σ) (fun r => Q.1 (some (vi r)) σ τ) := by
  unfold ck_jsonClashes
  refine sm_top (fun K hRET => ?_)
  refine sm_b (l' := [(0, vr (some a0)), (1, vi 0), (2, vi 0)]) (st' := []) (pc' := 4) [(.iconst 0, vi 0, 1), (.istore_n 1, vi 0, 2), (.iconst 0, vi 0, 3), (.istore_n 2, vi 0, 4)] (by decide +kernel) rfl rfl ?_
  exact ck_jsonClashes_L4_ok G d hd1 a0 σ  (fun r h => hRET _ h) FU 0 0
def ck_fault_L159 (bb : Nat × Nat) (u0 : Nat) (u1 : Int) (u2 : Int) (u3 : Int) : Nat → Int → ST → Option (ST)
  | 0, _, _ => none
  | n + 1, w4, σ => gd (sc σ u0 = 10) (Option.bind (sR σ 144 u0) fun p55 => gd (sc σ p55 = 2) (Option.bind (sR σ 17 p55) fun p58 => gd (sc σ p58 = 16) (Option.bind (l_size p58 σ) fun y61 => gd (rg w4) (gd (rg y61) (if y61 ≤ w4 then (some σ) else (Option.bind (l_get p58 w4 σ) fun y69 => Option.bind y69 fun p70 => gd (sc σ p70 = 7) (Option.bind (mt_order bb p70 σ) fun y73 => ck_fault_L159 bb u0 u1 u2 u3 n (w4 + 1) y73)))))))
def ck_fault_L104 (bb : Nat × Nat) (u0 : Nat) (u1 : Int) (u2 : Int) (σ : ST) : Nat → Int → Int → Option (Int)
  | 0, _, _ => none
  | n + 1, w3, w4 => gd (sc σ u0 = 10) (Option.bind (sR σ 144 u0) fun p80 => gd (sc σ p80 = 2) (Option.bind (sR σ 18 p80) fun p83 => gd (sc σ p83 = 16) (Option.bind (l_size p83 σ) fun y86 => gd (rg w4) (gd (rg y86) (if y86 ≤ w4 then (some w3) else (Option.bind (gd (rg w3) (gd (¬ (w3 = 0) → ok (l_get p83 w4 σ)) (gd (¬ (w3 = 0) → ¬ (vo (l_get p83 w4 σ)) = none) (gd (¬ (w3 = 0) → sc σ (ad (vo (l_get p83 w4 σ))) = 8) (gd (¬ (w3 = 0) → ok (et_isRight (ad (vo (l_get p83 w4 σ))) σ)) (gd (¬ (w3 = 0) → rg (vv (et_isRight (ad (vo (l_get p83 w4 σ))) σ))) (if (w3 = 0) ∨ ((vv (et_isRight (ad (vo (l_get p83 w4 σ))) σ)) = 0) then (some 0) else (some 1)))))))) fun (v101 : Int) => ck_fault_L104 bb u0 u1 u2 σ n v101 (w4 + 1)))))))
def ck_fault_L18 (bb : Nat × Nat) (u0 : Nat) (u3 : Int) : Nat → Int → Int → Int → ST → Option (Int × Int × ST)
  | 0, _, _, _, _ => none
  | n + 1, w1, w2, w4, σ => gd (sc σ u0 = 10) (Option.bind (sR σ 144 u0) fun p116 => gd (sc σ p116 = 2) (Option.bind (sR σ 19 p116) fun p119 => gd (sc σ p119 = 16) (Option.bind (l_size p119 σ) fun y122 => gd (rg w4) (gd (rg y122) (if y122 ≤ w4 then (some ((w1, w2, σ))) else (Option.bind (gd (rg w1) (gd (¬ (w1 = 0) → ok (l_get p119 w4 σ)) (gd (¬ (w1 = 0) → ¬ (vo (l_get p119 w4 σ)) = none) (gd (¬ (w1 = 0) → sc σ (ad (vo (l_get p119 w4 σ))) = 9) (gd (¬ (w1 = 0) → ok (ck_isNumber (some (ad (vo (l_get p119 w4 σ)))) σ)) (gd (¬ (w1 = 0) → rg (vv (ck_isNumber (some (ad (vo (l_get p119 w4 σ)))) σ))) (if (w1 = 0) ∨ ((vv (ck_isNumber (some (ad (vo (l_get p119 w4 σ)))) σ)) = 0) then (some 0) else (some 1)))))))) fun (v137 : Int) => Option.bind (l_get p119 w4 σ) fun y141 => Option.bind y141 fun p142 => gd (sc σ p142 = 9) (Option.bind (ck_resolve bb (some p142) σ) fun y145 => Option.bind (gd (rg y145.1) (gd (¬ (y145.1 = 0) → rg w2) (if (y145.1 = 0) ∨ (w2 = 0) then (some 0) else (some 1)))) fun (v151 : Int) => ck_fault_L18 bb u0 u3 n v137 v151 (w4 + 1) y145.2)))))))
def ck_fault (bb : Nat × Nat) (a0 : Nat) (σ : ST) : Option (Int × ST) := gd (sc σ a0 = 10) (Option.bind (ck_namesClash bb a0 σ) fun y2 => gd (rg y2.1) (if y2.1 = 0 then (Option.bind (ck_fault_L18 bb a0 1 FU 1 1 0 y2.2) fun (v6 : Int × Int × ST) => Option.bind (ck_fault_L104 bb a0 v6.1 v6.2.1 v6.2.2 FU 1 0) fun (v10 : Int) => Option.bind (ck_fault_L159 bb a0 v6.1 v6.2.1 v10 FU 0 v6.2.2) fun (v14 : ST) => gd (rg v6.1) (if v6.1 = 0 then (some ((3, v14))) else (gd (rg v6.2.1) (if v6.2.1 = 0 then (some ((4, v14))) else (gd (rg v10) (if v10 = 0 then (some ((5, v14))) else (gd (sc v14 a0 = 10) (Option.bind (ck_jsonClashes a0 v14) fun y33 => gd (rg y33) (if y33 = 0 then (some ((0, v14))) else (some ((6, v14)))))))))))) else (some ((2, y2.2)))))
set_option maxHeartbeats 4000000 in
theorem ck_fault_L159_ok {g : GE} (G : GG g) {τ : TT} {Q : VQ} (d : Nat) (hd1 : 10 ≤ d) (u0 : Nat) (u1 : Int) (u2 : Int) (u3 : Int)  {K : ST → Prop} (hE198 : ∀ v53 : ST, K (v53) → V g mX9_fault d 198 [(0, vr (some u0)), (1, vi u1), (2, vi u2), (3, vi u3)] [] v53 τ Q) : ∀ (n : Nat) (w4 : Int) (σ : ST), Sm (V g mX9_fault d 159 [(0, vr (some u0)), (1, vi u1), (2, vi u2), (3, vi u3), (4, vi w4)] [] σ τ Q) (ck_fault_L159 (gRm g) u0 u1 u2 u3 n w4 σ) K := by
  intro n
  induction n with
  | zero => intro w4 σ; exact sm_none
  | succ n ih =>
    intro w4 σ
    rw [ck_fault_L159.eq_2]
    refine sm_b (l' := [(0, vr (some u0)), (1, vi u1), (2, vi u2), (3, vi u3), (4, vi w4)]) (st' := [vr (some u0), vi w4]) (pc' := 162) [(.iload 4, vi 0, 161), (.aload_n 0, vi 0, 162)] (by decide +kernel) rfl rfl ?_
    refine sm_gd (fun h54 => ?_)
    refine sm_g (k := 0) (x := vr (sR σ 144 u0)) cd9 rfl h54 rfl q819 rfl (by decide +kernel) ?_
    refine sm_de (fun p55 h56 => ?_)
    refine sm_st [vr (some p55), vi w4] (by rw [h56] <;> rfl) ?_
    refine sm_gd (fun h57 => ?_)
    refine sm_gN (k := 1) (x := vr (sR σ 17 p55)) cd1 rfl h57 rfl q237 rfl (by decide +kernel) ?_
    refine sm_de (fun p58 h59 => ?_)
    refine sm_st [vr (some p58), vi w4] (by rw [h59] <;> rfl) ?_
    refine sm_gd (fun h60 => ?_)
    refine sm_cv (N := mJ2_size) (d' := d - 1) (fun r => (some (vi r))) (fun _ => σ) (fun _ => τ) [] [vi w4] rfl (by decide +kernel) q834 q519 q520 (Or.inl ⟨rfl, q521⟩) (show okN yJ2_size 0 = true by decide +kernel) (fun H hR => hR.rvL G.1 h60) rfl rfl (by omega) rfl (fun Q' => l_size_ok G (d - 1) (by omega) p58 σ Q') (fun y61 => ?_)
    refine sm_gd (fun h62 => ?_)
    refine sm_gd (fun h63 => ?_)
    refine sm_case (V g mX9_fault d 198 [(0, vr (some u0)), (1, vi u1), (2, vi u2), (3, vi u3), (4, vi w4)] [] σ τ Q) (V g mX9_fault d 174 [(0, vr (some u0)), (1, vi u1), (2, vi u2), (3, vi u3), (4, vi w4)] [] σ τ Q) ?_ ?_ (fun f74 p75 n76 => ?_)
    · refine sm_pick [0, 1, 2, 3] (l' := [(0, vr (some u0)), (1, vi u1), (2, vi u2), (3, vi u3)]) rfl ?_
      exact sm_leaf (fun h => hE198 _ h)
    · refine sm_b (l' := [(0, vr (some u0)), (1, vi u1), (2, vi u2), (3, vi u3), (4, vi w4)]) (st' := [vr (some u0)]) (pc' := 175) [(.aload_n 0, vi 0, 175)] (by decide +kernel) rfl rfl ?_
      refine sm_g (k := 0) (x := vr (sR σ 144 u0)) cd9 rfl h54 rfl q819 rfl (by decide +kernel) ?_
      refine sm_st [vr (some p55)] (by rw [h56] <;> rfl) ?_
      refine sm_gN (k := 1) (x := vr (sR σ 17 p55)) cd1 rfl h57 rfl q237 rfl (by decide +kernel) ?_
      refine sm_b (l' := [(0, vr (some u0)), (1, vi u1), (2, vi u2), (3, vi u3), (4, vi w4)]) (st' := [vi w4, vr (sR σ 17 p55)]) (pc' := 183) [(.iload 4, vi 0, 183)] (by decide +kernel) rfl rfl ?_
      refine sm_st [vi w4, vr (some p58)] (by rw [h59] <;> rfl) ?_
      refine sm_cv (N := mJ2_get) (d' := d - 1) (fun r => (some (vr r))) (fun _ => σ) (fun _ => τ) [vi w4] [] rfl (by decide +kernel) q835 q791 q792 (Or.inl ⟨rfl, q793⟩) (show okN yJ2_get 1 = true by decide +kernel) (fun H hR => hR.rvL G.1 h60) rfl rfl (by omega) rfl (fun Q' => l_get_ok G (d - 1) (by omega) p58 w4 σ Q') (fun y69 => ?_)
      refine sm_de (fun p70 h71 => ?_)
      refine sm_st [vr (some p70)] (by rw [h71] <;> rfl) ?_
      refine sm_gd (fun h72 => ?_)
      refine sm_cast cd6 q845 (fun H hR => hR.rv G.1 cd6 rfl h72) (by decide +kernel) ?_
      refine sm_cv (N := mX6_order) (d' := d - 1) (fun r => none) (fun r => r) (fun _ => τ) [] [] rfl (by decide +kernel) q896 q897 q898 (Or.inl ⟨rfl, q899⟩) (show okN yX6_order 0 = true by decide +kernel) (fun H hR => hR.rv G.1 cd6 rfl h72) rfl rfl (by omega) rfl (fun Q' => mt_order_ok G (d - 1) (by omega) p70 σ Q') (fun y73 => ?_)
      refine sm_b (l' := [(0, vr (some u0)), (1, vi u1), (2, vi u2), (3, vi u3), (4, vi (w4 + 1))]) (st' := []) (pc' := 159) [(.iinc 4 1, vi 1, 195), (.goto (-36), vi 0, 159)] (by decide +kernel) rfl rfl ?_
      exact ih (w4 + 1) y73
    refine sm_icmp_ge (off := 27) (tgt := 198) h62 h63 (by decide +kernel) (fun c77 => ?_) (fun c77 => ?_)
    · exact p75 c77
    · exact n76 c77
set_option maxHeartbeats 4000000 in
theorem ck_fault_L104_ok {g : GE} (G : GG g) {τ : TT} {Q : VQ} (d : Nat) (hd1 : 10 ≤ d) (u0 : Nat) (u1 : Int) (u2 : Int) (σ : ST)  {K : Int → Prop} (hE156 : ∀ v78 : Int, K (v78) → V g mX9_fault d 156 [(0, vr (some u0)), (1, vi u1), (2, vi u2), (3, vi v78)] [] σ τ Q) : ∀ (n : Nat) (w3 : Int) (w4 : Int), Sm (V g mX9_fault d 104 [(0, vr (some u0)), (1, vi u1), (2, vi u2), (3, vi w3), (4, vi w4)] [] σ τ Q) (ck_fault_L104 (gRm g) u0 u1 u2 σ n w3 w4) K := by
  intro n
  induction n with
  | zero => intro w3 w4; exact sm_none
  | succ n ih =>
    intro w3 w4
    rw [ck_fault_L104.eq_2]
    refine sm_b (l' := [(0, vr (some u0)), (1, vi u1), (2, vi u2), (3, vi w3), (4, vi w4)]) (st' := [vr (some u0), vi w4]) (pc' := 107) [(.iload 4, vi 0, 106), (.aload_n 0, vi 0, 107)] (by decide +kernel) rfl rfl ?_
    refine sm_gd (fun h79 => ?_)
    refine sm_g (k := 0) (x := vr (sR σ 144 u0)) cd9 rfl h79 rfl q819 rfl (by decide +kernel) ?_
    refine sm_de (fun p80 h81 => ?_)
    refine sm_st [vr (some p80), vi w4] (by rw [h81] <;> rfl) ?_
    refine sm_gd (fun h82 => ?_)
    refine sm_gN (k := 2) (x := vr (sR σ 18 p80)) cd1 rfl h82 rfl q242 rfl (by decide +kernel) ?_
    refine sm_de (fun p83 h84 => ?_)
    refine sm_st [vr (some p83), vi w4] (by rw [h84] <;> rfl) ?_
    refine sm_gd (fun h85 => ?_)
    refine sm_cv (N := mJ2_size) (d' := d - 1) (fun r => (some (vi r))) (fun _ => σ) (fun _ => τ) [] [vi w4] rfl (by decide +kernel) q834 q519 q520 (Or.inl ⟨rfl, q521⟩) (show okN yJ2_size 0 = true by decide +kernel) (fun H hR => hR.rvL G.1 h85) rfl rfl (by omega) rfl (fun Q' => l_size_ok G (d - 1) (by omega) p83 σ Q') (fun y86 => ?_)
    refine sm_gd (fun h87 => ?_)
    refine sm_gd (fun h88 => ?_)
    refine sm_case (V g mX9_fault d 156 [(0, vr (some u0)), (1, vi u1), (2, vi u2), (3, vi w3), (4, vi w4)] [] σ τ Q) (V g mX9_fault d 119 [(0, vr (some u0)), (1, vi u1), (2, vi u2), (3, vi w3), (4, vi w4)] [] σ τ Q) ?_ ?_ (fun f110 p111 n112 => ?_)
    · refine sm_pick [0, 1, 2, 3] (l' := [(0, vr (some u0)), (1, vi u1), (2, vi u2), (3, vi w3)]) rfl ?_
      exact sm_leaf (fun h => hE156 _ h)
    · refine sm_b (l' := [(0, vr (some u0)), (1, vi u1), (2, vi u2), (3, vi w3), (4, vi w4)]) (st' := [vi w3]) (pc' := 120) [(.iload_n 3, vi 0, 120)] (by decide +kernel) rfl rfl ?_
      refine sm_bind1 (fun (v101 : Int) => V g mX9_fault d 149 [(0, vr (some u0)), (1, vi u1), (2, vi u2), (4, vi w4)] [vi v101] σ τ Q) (fun v101 => ?_) (fun K102 j103 => ?_)
      · refine sm_b (l' := [(0, vr (some u0)), (1, vi u1), (2, vi u2), (4, vi (w4 + 1)), (3, vi v101)]) (st' := []) (pc' := 104) [(.istore_n 3, vi 0, 150), (.iinc 4 1, vi 1, 153), (.goto (-49), vi 0, 104)] (by decide +kernel) rfl rfl ?_
        refine sm_pick [0, 1, 2, 4, 3] (l' := [(0, vr (some u0)), (1, vi u1), (2, vi u2), (3, vi v101), (4, vi (w4 + 1))]) rfl ?_
        exact ih v101 (w4 + 1)
      · refine sm_gd (fun h91 => ?_)
        refine sm_gd (fun h93 => ?_)
        refine sm_gd (fun h94 => ?_)
        refine sm_gd (fun h96 => ?_)
        refine sm_gd (fun h97 => ?_)
        refine sm_gd (fun h98 => ?_)
        refine sm_case (V g mX9_fault d 148 [(0, vr (some u0)), (1, vi u1), (2, vi u2), (3, vi w3), (4, vi w4)] [] σ τ Q) (V g mX9_fault d 144 [(0, vr (some u0)), (1, vi u1), (2, vi u2), (3, vi w3), (4, vi w4)] [] σ τ Q) ?_ ?_ (fun f105 p106 n107 => ?_)
        · refine sm_b (l' := [(0, vr (some u0)), (1, vi u1), (2, vi u2), (3, vi w3), (4, vi w4)]) (st' := [vi 0]) (pc' := 149) [(.iconst 0, vi 0, 149)] (by decide +kernel) rfl rfl ?_
          refine sm_pick [0, 1, 2, 4] (l' := [(0, vr (some u0)), (1, vi u1), (2, vi u2), (4, vi w4)]) rfl ?_
          exact sm_leaf (fun h => j103 _ h)
        · refine sm_b (l' := [(0, vr (some u0)), (1, vi u1), (2, vi u2), (3, vi w3), (4, vi w4)]) (st' := [vi 1]) (pc' := 149) [(.iconst 1, vi 1, 145), (.goto 4, vi 0, 149)] (by decide +kernel) rfl rfl ?_
          refine sm_pick [0, 1, 2, 4] (l' := [(0, vr (some u0)), (1, vi u1), (2, vi u2), (4, vi w4)]) rfl ?_
          exact sm_leaf (fun h => j103 _ h)
        refine sm_if_eq (off := 28) (tgt := 148) h91 (by decide +kernel) (fun c108 => ?_) (fun c108 => ?_)
        · exact p106 (Or.inl c108)
        · have w92 : ¬ (w3 = 0) := c108
          refine sm_b (l' := [(0, vr (some u0)), (1, vi u1), (2, vi u2), (3, vi w3), (4, vi w4)]) (st' := [vr (some u0)]) (pc' := 124) [(.aload_n 0, vi 0, 124)] (by decide +kernel) rfl rfl ?_
          refine sm_g (k := 0) (x := vr (sR σ 144 u0)) cd9 rfl h79 rfl q819 rfl (by decide +kernel) ?_
          refine sm_st [vr (some p80)] (by rw [h81] <;> rfl) ?_
          refine sm_gN (k := 2) (x := vr (sR σ 18 p80)) cd1 rfl h82 rfl q242 rfl (by decide +kernel) ?_
          refine sm_b (l' := [(0, vr (some u0)), (1, vi u1), (2, vi u2), (3, vi w3), (4, vi w4)]) (st' := [vi w4, vr (sR σ 18 p80)]) (pc' := 132) [(.iload 4, vi 0, 132)] (by decide +kernel) rfl rfl ?_
          refine sm_st [vi w4, vr (some p83)] (by rw [h84] <;> rfl) ?_
          refine sm_cvp (N := mJ2_get) (d' := d - 1) (fun r => (some (vr r))) (some (vr (vo (l_get p83 w4 σ)))) (h93 w92) (fun y h => by rw [vo_some h]) [vi w4] [] rfl (by decide +kernel) q835 q791 q792 (Or.inl ⟨rfl, q793⟩) (show okN yJ2_get 1 = true by decide +kernel) (fun H hR => hR.rvL G.1 h85) rfl rfl (by omega) rfl (fun Q' => l_get_ok G (d - 1) (by omega) p83 w4 σ Q') ?_
          have q95 := (ad_some (h94 w92))
          refine sm_st [vr (some (ad (vo (l_get p83 w4 σ))))] (congrArg (fun z => [vr z]) q95) ?_
          refine sm_cast cd7 q890 (fun H hR => hR.rv G.1 cd7 rfl (h96 w92)) (by decide +kernel) ?_
          refine sm_cvp (N := mX7_isRight) (d' := d - 1) (fun r => (some (vi r))) (some (vi (vv (et_isRight (ad (vo (l_get p83 w4 σ))) σ)))) (h97 w92) (fun y h => by rw [vv_some h]) [] [] rfl (by decide +kernel) q891 q892 q893 (Or.inl ⟨rfl, q894⟩) (show okN yX7_isRight 0 = true by decide +kernel) (fun H hR => hR.rv G.1 cd7 rfl (h96 w92)) rfl rfl (by omega) rfl (fun Q' => et_isRight_ok G (d - 1) (by omega) (ad (vo (l_get p83 w4 σ))) σ Q') ?_
          refine sm_if_eq (off := 7) (tgt := 148) (h98 w92) (by decide +kernel) (fun c109 => ?_) (fun c109 => ?_)
          · exact p106 (Or.inr c109)
          · exact n107 (fun q => q.elim c108 c109)
    refine sm_icmp_ge (off := 40) (tgt := 156) h87 h88 (by decide +kernel) (fun c113 => ?_) (fun c113 => ?_)
    · exact p111 c113
    · exact n112 c113
set_option maxHeartbeats 4000000 in
theorem ck_fault_L18_ok {g : GE} (G : GG g) {τ : TT} {Q : VQ} (d : Nat) (hd1 : 10 ≤ d) (u0 : Nat) (u3 : Int)  {K : Int × Int × ST → Prop} (hE101 : ∀ v114 : Int × Int × ST, K (v114) → V g mX9_fault d 101 [(0, vr (some u0)), (1, vi v114.1), (2, vi v114.2.1), (3, vi u3)] [] v114.2.2 τ Q) : ∀ (n : Nat) (w1 : Int) (w2 : Int) (w4 : Int) (σ : ST), Sm (V g mX9_fault d 18 [(0, vr (some u0)), (1, vi w1), (2, vi w2), (3, vi u3), (4, vi w4)] [] σ τ Q) (ck_fault_L18 (gRm g) u0 u3 n w1 w2 w4 σ) K := by
  intro n
  induction n with
  | zero => intro w1 w2 w4 σ; exact sm_none
  | succ n ih =>
    intro w1 w2 w4 σ
    rw [ck_fault_L18.eq_2]
    refine sm_b (l' := [(0, vr (some u0)), (1, vi w1), (2, vi w2), (3, vi u3), (4, vi w4)]) (st' := [vr (some u0), vi w4]) (pc' := 21) [(.iload 4, vi 0, 20), (.aload_n 0, vi 0, 21)] (by decide +kernel) rfl rfl ?_
    refine sm_gd (fun h115 => ?_)
    refine sm_g (k := 0) (x := vr (sR σ 144 u0)) cd9 rfl h115 rfl q819 rfl (by decide +kernel) ?_
    refine sm_de (fun p116 h117 => ?_)
    refine sm_st [vr (some p116), vi w4] (by rw [h117] <;> rfl) ?_
    refine sm_gd (fun h118 => ?_)
    refine sm_gN (k := 3) (x := vr (sR σ 19 p116)) cd1 rfl h118 rfl q246 rfl (by decide +kernel) ?_
    refine sm_de (fun p119 h120 => ?_)
    refine sm_st [vr (some p119), vi w4] (by rw [h120] <;> rfl) ?_
    refine sm_gd (fun h121 => ?_)
    refine sm_cv (N := mJ2_size) (d' := d - 1) (fun r => (some (vi r))) (fun _ => σ) (fun _ => τ) [] [vi w4] rfl (by decide +kernel) q834 q519 q520 (Or.inl ⟨rfl, q521⟩) (show okN yJ2_size 0 = true by decide +kernel) (fun H hR => hR.rvL G.1 h121) rfl rfl (by omega) rfl (fun Q' => l_size_ok G (d - 1) (by omega) p119 σ Q') (fun y122 => ?_)
    refine sm_gd (fun h123 => ?_)
    refine sm_gd (fun h124 => ?_)
    refine sm_case (V g mX9_fault d 101 [(0, vr (some u0)), (1, vi w1), (2, vi w2), (3, vi u3), (4, vi w4)] [] σ τ Q) (V g mX9_fault d 33 [(0, vr (some u0)), (1, vi w1), (2, vi w2), (3, vi u3), (4, vi w4)] [] σ τ Q) ?_ ?_ (fun f165 p166 n167 => ?_)
    · refine sm_pick [0, 1, 2, 3] (l' := [(0, vr (some u0)), (1, vi w1), (2, vi w2), (3, vi u3)]) rfl ?_
      exact sm_leaf (fun h => hE101 _ h)
    · refine sm_b (l' := [(0, vr (some u0)), (1, vi w1), (2, vi w2), (3, vi u3), (4, vi w4)]) (st' := [vi w1]) (pc' := 34) [(.iload_n 1, vi 0, 34)] (by decide +kernel) rfl rfl ?_
      refine sm_bind1 (fun (v137 : Int) => V g mX9_fault d 63 [(0, vr (some u0)), (2, vi w2), (3, vi u3), (4, vi w4)] [vi v137] σ τ Q) (fun v137 => ?_) (fun K138 j139 => ?_)
      · refine sm_b (l' := [(0, vr (some u0)), (2, vi w2), (3, vi u3), (4, vi w4), (1, vi v137)]) (st' := [vr (some u0)]) (pc' := 65) [(.istore_n 1, vi 0, 64), (.aload_n 0, vi 0, 65)] (by decide +kernel) rfl rfl ?_
        refine sm_g (k := 0) (x := vr (sR σ 144 u0)) cd9 rfl h115 rfl q819 rfl (by decide +kernel) ?_
        refine sm_st [vr (some p116)] (by rw [h117] <;> rfl) ?_
        refine sm_gN (k := 3) (x := vr (sR σ 19 p116)) cd1 rfl h118 rfl q246 rfl (by decide +kernel) ?_
        refine sm_b (l' := [(0, vr (some u0)), (2, vi w2), (3, vi u3), (4, vi w4), (1, vi v137)]) (st' := [vi w4, vr (sR σ 19 p116)]) (pc' := 73) [(.iload 4, vi 0, 73)] (by decide +kernel) rfl rfl ?_
        refine sm_st [vi w4, vr (some p119)] (by rw [h120] <;> rfl) ?_
        refine sm_cv (N := mJ2_get) (d' := d - 1) (fun r => (some (vr r))) (fun _ => σ) (fun _ => τ) [vi w4] [] rfl (by decide +kernel) q835 q791 q792 (Or.inl ⟨rfl, q793⟩) (show okN yJ2_get 1 = true by decide +kernel) (fun H hR => hR.rvL G.1 h121) rfl rfl (by omega) rfl (fun Q' => l_get_ok G (d - 1) (by omega) p119 w4 σ Q') (fun y141 => ?_)
        refine sm_de (fun p142 h143 => ?_)
        refine sm_st [vr (some p142)] (by rw [h143] <;> rfl) ?_
        refine sm_gd (fun h144 => ?_)
        refine sm_cast cd8 q848 (fun H hR => hR.rv G.1 cd8 rfl h144) (by decide +kernel) ?_
        refine sm_cs (N := mX9_resolve) (d' := d - 1) (fun r => (some (vi r.1))) (fun r => r.2) (fun _ => τ) [vr (some p142)] [] rfl (by decide +kernel) q854 q855 q156 (Or.inl ⟨rfl, q856⟩) (show okN yX9_resolve 1 = true by decide +kernel) rfl rfl (by omega) rfl (fun Q' => ck_resolve_ok G (d - 1) (by omega) (some p142) σ Q') (fun y145 => ?_)
        refine sm_bind1 (fun (v151 : Int) => V g mX9_fault d 94 [(0, vr (some u0)), (1, vi v137), (3, vi u3), (4, vi w4)] [vi v151] y145.2 τ Q) (fun v151 => ?_) (fun K152 j153 => ?_)
        · refine sm_b (l' := [(0, vr (some u0)), (1, vi v137), (3, vi u3), (4, vi (w4 + 1)), (2, vi v151)]) (st' := []) (pc' := 18) [(.istore_n 2, vi 0, 95), (.iinc 4 1, vi 1, 98), (.goto (-80), vi 0, 18)] (by decide +kernel) rfl rfl ?_
          refine sm_pick [0, 1, 4, 2, 3] (l' := [(0, vr (some u0)), (1, vi v137), (2, vi v151), (3, vi u3), (4, vi (w4 + 1))]) rfl ?_
          exact ih v137 v151 (w4 + 1) y145.2
        · refine sm_gd (fun h146 => ?_)
          refine sm_gd (fun h148 => ?_)
          refine sm_case (V g mX9_fault d 93 [(0, vr (some u0)), (2, vi w2), (3, vi u3), (4, vi w4), (1, vi v137)] [] y145.2 τ Q) (V g mX9_fault d 89 [(0, vr (some u0)), (2, vi w2), (3, vi u3), (4, vi w4), (1, vi v137)] [] y145.2 τ Q) ?_ ?_ (fun f155 p156 n157 => ?_)
          · refine sm_b (l' := [(0, vr (some u0)), (2, vi w2), (3, vi u3), (4, vi w4), (1, vi v137)]) (st' := [vi 0]) (pc' := 94) [(.iconst 0, vi 0, 94)] (by decide +kernel) rfl rfl ?_
            refine sm_pick [0, 4, 2, 3] (l' := [(0, vr (some u0)), (1, vi v137), (3, vi u3), (4, vi w4)]) rfl ?_
            exact sm_leaf (fun h => j153 _ h)
          · refine sm_b (l' := [(0, vr (some u0)), (2, vi w2), (3, vi u3), (4, vi w4), (1, vi v137)]) (st' := [vi 1]) (pc' := 94) [(.iconst 1, vi 1, 90), (.goto 4, vi 0, 94)] (by decide +kernel) rfl rfl ?_
            refine sm_pick [0, 4, 2, 3] (l' := [(0, vr (some u0)), (1, vi v137), (3, vi u3), (4, vi w4)]) rfl ?_
            exact sm_leaf (fun h => j153 _ h)
          refine sm_if_eq (off := 11) (tgt := 93) h146 (by decide +kernel) (fun c158 => ?_) (fun c158 => ?_)
          · exact p156 (Or.inl c158)
          · have w147 : ¬ (y145.1 = 0) := c158
            refine sm_b (l' := [(0, vr (some u0)), (2, vi w2), (3, vi u3), (4, vi w4), (1, vi v137)]) (st' := [vi w2]) (pc' := 86) [(.iload_n 2, vi 0, 86)] (by decide +kernel) rfl rfl ?_
            refine sm_if_eq (off := 7) (tgt := 93) (h148 w147) (by decide +kernel) (fun c159 => ?_) (fun c159 => ?_)
            · exact p156 (Or.inr c159)
            · exact n157 (fun q => q.elim c158 c159)
      · refine sm_gd (fun h127 => ?_)
        refine sm_gd (fun h129 => ?_)
        refine sm_gd (fun h130 => ?_)
        refine sm_gd (fun h132 => ?_)
        refine sm_gd (fun h133 => ?_)
        refine sm_gd (fun h134 => ?_)
        refine sm_case (V g mX9_fault d 62 [(0, vr (some u0)), (1, vi w1), (2, vi w2), (3, vi u3), (4, vi w4)] [] σ τ Q) (V g mX9_fault d 58 [(0, vr (some u0)), (1, vi w1), (2, vi w2), (3, vi u3), (4, vi w4)] [] σ τ Q) ?_ ?_ (fun f160 p161 n162 => ?_)
        · refine sm_b (l' := [(0, vr (some u0)), (1, vi w1), (2, vi w2), (3, vi u3), (4, vi w4)]) (st' := [vi 0]) (pc' := 63) [(.iconst 0, vi 0, 63)] (by decide +kernel) rfl rfl ?_
          refine sm_pick [0, 2, 3, 4] (l' := [(0, vr (some u0)), (2, vi w2), (3, vi u3), (4, vi w4)]) rfl ?_
          exact sm_leaf (fun h => j139 _ h)
        · refine sm_b (l' := [(0, vr (some u0)), (1, vi w1), (2, vi w2), (3, vi u3), (4, vi w4)]) (st' := [vi 1]) (pc' := 63) [(.iconst 1, vi 1, 59), (.goto 4, vi 0, 63)] (by decide +kernel) rfl rfl ?_
          refine sm_pick [0, 2, 3, 4] (l' := [(0, vr (some u0)), (2, vi w2), (3, vi u3), (4, vi w4)]) rfl ?_
          exact sm_leaf (fun h => j139 _ h)
        refine sm_if_eq (off := 28) (tgt := 62) h127 (by decide +kernel) (fun c163 => ?_) (fun c163 => ?_)
        · exact p161 (Or.inl c163)
        · have w128 : ¬ (w1 = 0) := c163
          refine sm_b (l' := [(0, vr (some u0)), (1, vi w1), (2, vi w2), (3, vi u3), (4, vi w4)]) (st' := [vr (some u0)]) (pc' := 38) [(.aload_n 0, vi 0, 38)] (by decide +kernel) rfl rfl ?_
          refine sm_g (k := 0) (x := vr (sR σ 144 u0)) cd9 rfl h115 rfl q819 rfl (by decide +kernel) ?_
          refine sm_st [vr (some p116)] (by rw [h117] <;> rfl) ?_
          refine sm_gN (k := 3) (x := vr (sR σ 19 p116)) cd1 rfl h118 rfl q246 rfl (by decide +kernel) ?_
          refine sm_b (l' := [(0, vr (some u0)), (1, vi w1), (2, vi w2), (3, vi u3), (4, vi w4)]) (st' := [vi w4, vr (sR σ 19 p116)]) (pc' := 46) [(.iload 4, vi 0, 46)] (by decide +kernel) rfl rfl ?_
          refine sm_st [vi w4, vr (some p119)] (by rw [h120] <;> rfl) ?_
          refine sm_cvp (N := mJ2_get) (d' := d - 1) (fun r => (some (vr r))) (some (vr (vo (l_get p119 w4 σ)))) (h129 w128) (fun y h => by rw [vo_some h]) [vi w4] [] rfl (by decide +kernel) q835 q791 q792 (Or.inl ⟨rfl, q793⟩) (show okN yJ2_get 1 = true by decide +kernel) (fun H hR => hR.rvL G.1 h121) rfl rfl (by omega) rfl (fun Q' => l_get_ok G (d - 1) (by omega) p119 w4 σ Q') ?_
          have q131 := (ad_some (h130 w128))
          refine sm_st [vr (some (ad (vo (l_get p119 w4 σ))))] (congrArg (fun z => [vr z]) q131) ?_
          refine sm_cast cd8 q848 (fun H hR => hR.rv G.1 cd8 rfl (h132 w128)) (by decide +kernel) ?_
          refine sm_csp (N := mX9_isNumber) (d' := d - 1) (fun r => (some (vi r))) (some (vi (vv (ck_isNumber (some (ad (vo (l_get p119 w4 σ)))) σ)))) (h133 w128) (fun y h => by rw [vv_some h]) [vr (some (ad (vo (l_get p119 w4 σ))))] [] rfl (by decide +kernel) q850 q851 q156 (Or.inl ⟨rfl, q852⟩) (show okN yX9_isNumber 1 = true by decide +kernel) rfl rfl (by omega) rfl (fun Q' => ck_isNumber_ok G (d - 1) (by omega) (some (ad (vo (l_get p119 w4 σ)))) σ Q') ?_
          refine sm_if_eq (off := 7) (tgt := 62) (h134 w128) (by decide +kernel) (fun c164 => ?_) (fun c164 => ?_)
          · exact p161 (Or.inr c164)
          · exact n162 (fun q => q.elim c163 c164)
    refine sm_icmp_ge (off := 71) (tgt := 101) h123 h124 (by decide +kernel) (fun c168 => ?_) (fun c168 => ?_)
    · exact p166 c168
    · exact n167 c168
set_option maxHeartbeats 4000000 in
theorem ck_fault_ok {g : GE} (G : GG g) {τ : TT} (d : Nat) (hd1 : 10 ≤ d) (a0 : Nat)  (σ : ST) (Q : VQ) : Sm (V g mX9_fault d 0 [(0, vr (some a0))] [] σ τ Q) (ck_fault (gRm g) a0 σ) (fun r => Q.1 (some (vi r.1)) r.2 τ) := by
  unfold ck_fault
  refine sm_top (fun K hRET => ?_)
  refine sm_b (l' := [(0, vr (some a0))]) (st' := [vr (some a0)]) (pc' := 1) [(.aload_n 0, vi 0, 1)] (by decide +kernel) rfl rfl ?_
  refine sm_gd (fun h1 => ?_)
  refine sm_cv (N := mX9_namesClash) (d' := d - 1) (fun r => (some (vi r.1))) (fun r => r.2) (fun _ => τ) [] [] rfl (by decide +kernel) q827 q829 qs19 (Or.inl ⟨rfl, q830⟩) (show okN yX9_namesClash 0 = true by decide +kernel) (fun H hR => hR.rv G.1 cd9 rfl h1) rfl rfl (by omega) rfl (fun Q' => ck_namesClash_ok G (d - 1) (by omega) a0 σ Q') (fun y2 => ?_)
  refine sm_gd (fun h3 => ?_)
  refine sm_case (V g mX9_fault d 9 [(0, vr (some a0))] [] y2.2 τ Q) (V g mX9_fault d 7 [(0, vr (some a0))] [] y2.2 τ Q) ?_ ?_ (fun f169 p170 n171 => ?_)
  · refine sm_b (l' := [(0, vr (some a0)), (1, vi 1), (2, vi 1), (3, vi 1), (4, vi 0)]) (st' := []) (pc' := 18) [(.iconst 1, vi 1, 10), (.istore_n 1, vi 0, 11), (.iconst 1, vi 1, 12), (.istore_n 2, vi 0, 13), (.iconst 1, vi 1, 14), (.istore_n 3, vi 0, 15), (.iconst 0, vi 0, 16), (.istore 4, vi 0, 18)] (by decide +kernel) rfl rfl ?_
    refine sm_bind1 (fun (v6 : Int × Int × ST) => V g mX9_fault d 101 [(0, vr (some a0)), (1, vi v6.1), (2, vi v6.2.1), (3, vi 1)] [] v6.2.2 τ Q) (fun v6 => ?_) (fun K7 j8 => ?_)
    · refine sm_b (l' := [(0, vr (some a0)), (1, vi v6.1), (2, vi v6.2.1), (3, vi 1), (4, vi 0)]) (st' := []) (pc' := 104) [(.iconst 0, vi 0, 102), (.istore 4, vi 0, 104)] (by decide +kernel) rfl rfl ?_
      refine sm_bind1 (fun (v10 : Int) => V g mX9_fault d 156 [(0, vr (some a0)), (1, vi v6.1), (2, vi v6.2.1), (3, vi v10)] [] v6.2.2 τ Q) (fun v10 => ?_) (fun K11 j12 => ?_)
      · refine sm_b (l' := [(0, vr (some a0)), (1, vi v6.1), (2, vi v6.2.1), (3, vi v10), (4, vi 0)]) (st' := []) (pc' := 159) [(.iconst 0, vi 0, 157), (.istore 4, vi 0, 159)] (by decide +kernel) rfl rfl ?_
        refine sm_bind1 (fun (v14 : ST) => V g mX9_fault d 198 [(0, vr (some a0)), (1, vi v6.1), (2, vi v6.2.1), (3, vi v10)] [] v14 τ Q) (fun v14 => ?_) (fun K15 j16 => ?_)
        · refine sm_b (l' := [(0, vr (some a0)), (1, vi v6.1), (2, vi v6.2.1), (3, vi v10)]) (st' := [vi v6.1]) (pc' := 199) [(.iload_n 1, vi 0, 199)] (by decide +kernel) rfl rfl ?_
          refine sm_gd (fun h18 => ?_)
          refine sm_case (V g mX9_fault d 202 [(0, vr (some a0)), (1, vi v6.1), (2, vi v6.2.1), (3, vi v10)] [] v14 τ Q) (V g mX9_fault d 206 [(0, vr (some a0)), (1, vi v6.1), (2, vi v6.2.1), (3, vi v10)] [] v14 τ Q) ?_ ?_ (fun f49 p50 n51 => ?_)
          · refine sm_b (l' := [(0, vr (some a0)), (1, vi v6.1), (2, vi v6.2.1), (3, vi v10)]) (st' := [vi 3]) (pc' := 235) [(.iconst 3, vi 3, 203), (.goto 32, vi 0, 235)] (by decide +kernel) rfl rfl ?_
            exact sm_iret rfl (by decide +kernel) (fun h => hRET _ h)
          · refine sm_b (l' := [(0, vr (some a0)), (1, vi v6.1), (2, vi v6.2.1), (3, vi v10)]) (st' := [vi v6.2.1]) (pc' := 207) [(.iload_n 2, vi 0, 207)] (by decide +kernel) rfl rfl ?_
            refine sm_gd (fun h22 => ?_)
            refine sm_case (V g mX9_fault d 210 [(0, vr (some a0)), (1, vi v6.1), (2, vi v6.2.1), (3, vi v10)] [] v14 τ Q) (V g mX9_fault d 214 [(0, vr (some a0)), (1, vi v6.1), (2, vi v6.2.1), (3, vi v10)] [] v14 τ Q) ?_ ?_ (fun f45 p46 n47 => ?_)
            · refine sm_b (l' := [(0, vr (some a0)), (1, vi v6.1), (2, vi v6.2.1), (3, vi v10)]) (st' := [vi 4]) (pc' := 235) [(.iconst 4, vi 4, 211), (.goto 24, vi 0, 235)] (by decide +kernel) rfl rfl ?_
              exact sm_iret rfl (by decide +kernel) (fun h => hRET _ h)
            · refine sm_b (l' := [(0, vr (some a0)), (1, vi v6.1), (2, vi v6.2.1), (3, vi v10)]) (st' := [vi v10]) (pc' := 215) [(.iload_n 3, vi 0, 215)] (by decide +kernel) rfl rfl ?_
              refine sm_gd (fun h26 => ?_)
              refine sm_case (V g mX9_fault d 218 [(0, vr (some a0)), (1, vi v6.1), (2, vi v6.2.1), (3, vi v10)] [] v14 τ Q) (V g mX9_fault d 222 [(0, vr (some a0)), (1, vi v6.1), (2, vi v6.2.1), (3, vi v10)] [] v14 τ Q) ?_ ?_ (fun f41 p42 n43 => ?_)
              · refine sm_b (l' := [(0, vr (some a0)), (1, vi v6.1), (2, vi v6.2.1), (3, vi v10)]) (st' := [vi 5]) (pc' := 235) [(.iconst 5, vi 5, 219), (.goto 16, vi 0, 235)] (by decide +kernel) rfl rfl ?_
                exact sm_iret rfl (by decide +kernel) (fun h => hRET _ h)
              · refine sm_b (l' := [(0, vr (some a0)), (1, vi v6.1), (2, vi v6.2.1), (3, vi v10)]) (st' := [vr (some a0)]) (pc' := 223) [(.aload_n 0, vi 0, 223)] (by decide +kernel) rfl rfl ?_
                refine sm_gd (fun h32 => ?_)
                refine sm_cv (N := mX9_jsonClashes) (d' := d - 1) (fun r => (some (vi r))) (fun _ => v14) (fun _ => τ) [] [] rfl (by decide +kernel) q902 q904 qs20 (Or.inl ⟨rfl, q905⟩) (show okN yX9_jsonClashes 0 = true by decide +kernel) (fun H hR => hR.rv G.1 cd9 rfl h32) rfl rfl (by omega) rfl (fun Q' => ck_jsonClashes_ok G (d - 1) (by omega) a0 v14 Q') (fun y33 => ?_)
                refine sm_gd (fun h34 => ?_)
                refine sm_case (V g mX9_fault d 234 [(0, vr (some a0)), (1, vi v6.1), (2, vi v6.2.1), (3, vi v10)] [] v14 τ Q) (V g mX9_fault d 229 [(0, vr (some a0)), (1, vi v6.1), (2, vi v6.2.1), (3, vi v10)] [] v14 τ Q) ?_ ?_ (fun f37 p38 n39 => ?_)
                · refine sm_b (l' := [(0, vr (some a0)), (1, vi v6.1), (2, vi v6.2.1), (3, vi v10)]) (st' := [vi 0]) (pc' := 235) [(.iconst 0, vi 0, 235)] (by decide +kernel) rfl rfl ?_
                  exact sm_iret rfl (by decide +kernel) (fun h => hRET _ h)
                · refine sm_b (l' := [(0, vr (some a0)), (1, vi v6.1), (2, vi v6.2.1), (3, vi v10)]) (st' := [vi 6]) (pc' := 235) [(.bipush 6, vi 6, 231), (.goto 4, vi 0, 235)] (by decide +kernel) rfl rfl ?_
                  exact sm_iret rfl (by decide +kernel) (fun h => hRET _ h)
                refine sm_if_eq (off := 8) (tgt := 234) h34 (by decide +kernel) (fun c40 => ?_) (fun c40 => ?_)
                · exact p38 c40
                · exact n39 c40
              refine sm_if_ne (off := 7) (tgt := 222) h26 (by decide +kernel) (fun c44 => ?_) (fun c44 => ?_)
              · exact n43 c44
              · exact p42 c44
            refine sm_if_ne (off := 7) (tgt := 214) h22 (by decide +kernel) (fun c48 => ?_) (fun c48 => ?_)
            · exact n47 c48
            · exact p46 c48
          refine sm_if_ne (off := 7) (tgt := 206) h18 (by decide +kernel) (fun c52 => ?_) (fun c52 => ?_)
          · exact n51 c52
          · exact p50 c52
        · exact ck_fault_L159_ok G d hd1 a0 v6.1 v6.2.1 v10  (fun _ h => j16 _ h) FU 0 v6.2.2
      · exact ck_fault_L104_ok G d hd1 a0 v6.1 v6.2.1 v6.2.2  (fun _ h => j12 _ h) FU 1 0
    · exact ck_fault_L18_ok G d hd1 a0 1  (fun _ h => j8 _ h) FU 1 1 0 y2.2
  · refine sm_b (l' := [(0, vr (some a0))]) (st' := [vi 2]) (pc' := 8) [(.iconst 2, vi 2, 8)] (by decide +kernel) rfl rfl ?_
    exact sm_iret rfl (by decide +kernel) (fun h => hRET _ h)
  refine sm_if_eq (off := 5) (tgt := 9) h3 (by decide +kernel) (fun c172 => ?_) (fun c172 => ?_)
  · exact p170 c172
  · exact n171 c172
def ws_schema (bb : Nat × Nat) (a0 : Nat) (σ : ST) : Option (Int × ST) := gd (rm bb σ 7) (nm (nO σ 2 7) fun σ2 => Option.bind (sch_init bb (sZ σ) σ2) fun y3 => gd (sc y3 a0 = 1) (nm (pR y3 4 a0 (some (sZ σ))) fun σ5 => gd (rm bb σ5 7) (nm (nO σ5 6 7) fun σ7 => gd (sc σ7 a0 = 1) (Option.bind (sr_init bb (sZ σ5) (sR σ7 1 a0) (sI σ7 3 a0) σ7) fun y9 => gd (sc y9 (sZ σ5) = 6) (Option.bind (sr_read bb (sZ σ5) y9) (tC (fun σ15 => some ((1, σ15))) fun y12 σ13 => gd (rm bb σ13 1) (nm (nO σ13 10 1) fun σ18 => Option.bind (ck_init bb (sZ σ13) y12 σ18) fun y19 => gd (sc y19 (sZ σ13) = 10) (Option.bind (ck_fault bb (sZ σ13) y19) fun y21 => gd (rg y21.1) (if y21.1 = 0 then (gd (sc y21.2 a0 = 1) (nm (pR y21.2 4 a0 y12) fun σ25 => some ((y21.1, σ25)))) else (some ((y21.1, y21.2))))))))))))
set_option maxHeartbeats 4000000 in
theorem ws_schema_ok {g : GE} (G : GG g) {τ : TT} (d : Nat) (hd1 : 25 ≤ d) (a0 : Nat)  (σ : ST) (Q : VQ) : Sm (V g mX0_schema d 0 [(0, vr (some a0))] [] σ τ Q) (ws_schema (gRm g) a0 σ) (fun r => Q.1 (some (vi r.1)) r.2 τ) := by
  unfold ws_schema
  refine sm_top (fun K hRET => ?_)
  refine sm_b (l' := [(0, vr (some a0))]) (st' := [vr (some a0)]) (pc' := 1) [(.aload_n 0, vi 0, 1)] (by decide +kernel) rfl rfl ?_
  refine sm_gd (fun h1 => ?_)
  refine sm_new cd1 rfl q174 q175 q132 (new_1 σ) h1 (by decide +kernel) ?_
  refine sm_nms (fun σ2 => ?_)
  refine sm_b (l' := [(0, vr (some a0))]) (st' := [vr (some (sZ σ)), vr (some (sZ σ)), vr (some a0)]) (pc' := 5) [(.dup, vi 0, 5)] (by decide +kernel) rfl rfl ?_
  refine sm_ciN (N := mX1_init) (d' := d - 1) [] [vr (some (sZ σ)), vr (some a0)] rfl (by decide +kernel) q176 q177 rfl q178 rfl rfl (show okN yX1_init 0 = true by decide +kernel) rfl rfl (by omega) rfl (fun Q' => sch_init_ok G (d - 1) (by omega) (sZ σ) σ2 Q') (fun y3 => ?_)
  refine sm_gd (fun h4 => ?_)
  refine sm_p (k := 4) (x := vr (some (sZ σ))) cd0 rfl h4 rfl q294 rfl (nar_r _ rfl) (fit_r _ rfl) rfl (at_pR y3 4 a0 (some (sZ σ))) (fp_4 y3 a0 (some (sZ σ))) (by decide +kernel) ?_
  refine sm_nms (fun σ5 => ?_)
  refine sm_gd (fun h6 => ?_)
  refine sm_new cd5 rfl q332 q333 q140 (new_5 σ5) h6 (by decide +kernel) ?_
  refine sm_nms (fun σ7 => ?_)
  refine sm_b (l' := [(0, vr (some a0))]) (st' := [vr (some a0), vr (some (sZ σ5)), vr (some (sZ σ5))]) (pc' := 16) [(.dup, vi 0, 15), (.aload_n 0, vi 0, 16)] (by decide +kernel) rfl rfl ?_
  refine sm_gd (fun h8 => ?_)
  refine sm_g (k := 1) (x := vr (sR σ7 1 a0)) cd0 rfl h8 rfl q291 rfl (by decide +kernel) ?_
  refine sm_b (l' := [(0, vr (some a0))]) (st' := [vr (some a0), vr (sR σ7 1 a0), vr (some (sZ σ5)), vr (some (sZ σ5))]) (pc' := 20) [(.aload_n 0, vi 0, 20)] (by decide +kernel) rfl rfl ?_
  refine sm_g (k := 3) (x := vi (sI σ7 3 a0)) cd0 rfl h8 rfl q293 rfl (by decide +kernel) ?_
  refine sm_ciZ (N := mX5_init) (d' := d - 1) [vr (sR σ7 1 a0), vi (sI σ7 3 a0)] [vr (some (sZ σ5))] (by decide +kernel) q334 q335 rfl q336 rfl rfl (show okN yX5_init 2 = true by decide +kernel) rfl rfl (by omega) rfl (fun Q' => sr_init_ok G (d - 1) (by omega) (sZ σ5) (sR σ7 1 a0) (sI σ7 3 a0) σ7 Q') (fun y9 => ?_)
  refine sm_gd (fun h10 => ?_)
  refine sm_cvC (N := mX5_read) (d' := d - 1) G (fun r : Option Nat => some (vr r)) [] [] 11 30 33 59 rfl rfl q331 (by decide +kernel) q362 q363 q364 (Or.inl ⟨rfl, q365⟩) (show okN yX5_read 0 = true by decide +kernel) (fun H hR => hR.rv G.1 cd5 rfl h10) rfl rfl (by omega) rfl (fun Q' => sr_read_ok G (d - 1) (by omega) (sZ σ5) y9 Q') (fun z14 σ15 h16 => ?_) (fun y12 σ13 => ?_)
  · refine sm_b (l' := [(0, vr (some a0)), (2, vr (some z14))]) (st' := [vi 1]) (pc' := 35) [(.astore_n 2, vi 0, 34), (.iconst 1, vi 1, 35)] (by decide +kernel) rfl rfl ?_
    exact sm_iret rfl (by decide +kernel) (fun h => hRET _ h)
  refine sm_b (l' := [(0, vr (some a0)), (1, vr y12)]) (st' := []) (pc' := 36) [(.astore_n 1, vi 0, 30), (.goto 6, vi 0, 36)] (by decide +kernel) rfl rfl ?_
  refine sm_gd (fun h17 => ?_)
  refine sm_new cd9 rfl q813 q814 q156 (new_9 σ13) h17 (by decide +kernel) ?_
  refine sm_nms (fun σ18 => ?_)
  refine sm_b (l' := [(0, vr (some a0)), (1, vr y12)]) (st' := [vr y12, vr (some (sZ σ13)), vr (some (sZ σ13))]) (pc' := 41) [(.dup, vi 0, 40), (.aload_n 1, vi 0, 41)] (by decide +kernel) rfl rfl ?_
  refine sm_ci (N := mX9_init) (d' := d - 1) [vr y12] [vr (some (sZ σ13))] rfl (by decide +kernel) q815 q816 rfl q817 rfl rfl (show okN yX9_init 1 = true by decide +kernel) rfl rfl (by omega) rfl (fun Q' => ck_init_ok G (d - 1) (by omega) (sZ σ13) y12 σ18 Q') (fun y19 => ?_)
  refine sm_gd (fun h20 => ?_)
  refine sm_cv (N := mX9_fault) (d' := d - 1) (fun r => (some (vi r.1))) (fun r => r.2) (fun _ => τ) [] [] rfl (by decide +kernel) q823 q824 q825 (Or.inl ⟨rfl, q826⟩) (show okN yX9_fault 0 = true by decide +kernel) (fun H hR => hR.rv G.1 cd9 rfl h20) rfl rfl (by omega) rfl (fun Q' => ck_fault_ok G (d - 1) (by omega) (sZ σ13) y19 Q') (fun y21 => ?_)
  refine sm_b (l' := [(0, vr (some a0)), (1, vr y12), (2, vi y21.1)]) (st' := [vi y21.1]) (pc' := 49) [(.istore_n 2, vi 0, 48), (.iload_n 2, vi 0, 49)] (by decide +kernel) rfl rfl ?_
  refine sm_gd (fun h22 => ?_)
  refine sm_case (V g mX0_schema d 52 [(0, vr (some a0)), (1, vr y12), (2, vi y21.1)] [] y21.2 τ Q) (V g mX0_schema d 57 [(0, vr (some a0)), (1, vr y12), (2, vi y21.1)] [] y21.2 τ Q) ?_ ?_ (fun f26 p27 n28 => ?_)
  · refine sm_b (l' := [(0, vr (some a0)), (1, vr y12), (2, vi y21.1)]) (st' := [vr y12, vr (some a0)]) (pc' := 54) [(.aload_n 0, vi 0, 53), (.aload_n 1, vi 0, 54)] (by decide +kernel) rfl rfl ?_
    refine sm_gd (fun h24 => ?_)
    refine sm_p (k := 4) (x := vr y12) cd0 rfl h24 rfl q294 rfl (nar_r _ rfl) (fit_r _ rfl) rfl (at_pR y21.2 4 a0 y12) (fp_4 y21.2 a0 y12) (by decide +kernel) ?_
    refine sm_nms (fun σ25 => ?_)
    refine sm_b (l' := [(0, vr (some a0)), (1, vr y12), (2, vi y21.1)]) (st' := [vi y21.1]) (pc' := 58) [(.iload_n 2, vi 0, 58)] (by decide +kernel) rfl rfl ?_
    exact sm_iret rfl (by decide +kernel) (fun h => hRET _ h)
  · refine sm_b (l' := [(0, vr (some a0)), (1, vr y12), (2, vi y21.1)]) (st' := [vi y21.1]) (pc' := 58) [(.iload_n 2, vi 0, 58)] (by decide +kernel) rfl rfl ?_
    exact sm_iret rfl (by decide +kernel) (fun h => hRET _ h)
  refine sm_if_ne (off := 8) (tgt := 57) h22 (by decide +kernel) (fun c29 => ?_) (fun c29 => ?_)
  · exact n28 c29
  · exact p27 c29
def ws_count (a0 : Nat) (a1 : Int) (σ : ST) : Option (Int) := gd (rg a1) (if a1 = 0 then (gd (sc σ a0 = 1) (Option.bind (sR σ 4 a0) fun p13 => gd (sc σ p13 = 2) (Option.bind (sR σ 17 p13) fun p16 => gd (sc σ p16 = 16) (Option.bind (l_size p16 σ) fun y19 => some y19)))) else (if a1 = 1 then (gd (sc σ a0 = 1) (Option.bind (sR σ 4 a0) fun p31 => gd (sc σ p31 = 2) (Option.bind (sR σ 18 p31) fun p34 => gd (sc σ p34 = 16) (Option.bind (l_size p34 σ) fun y37 => some y37)))) else (if a1 = 2 then (gd (sc σ a0 = 1) (Option.bind (sR σ 4 a0) fun p49 => gd (sc σ p49 = 2) (Option.bind (sR σ 19 p49) fun p52 => gd (sc σ p52 = 16) (Option.bind (l_size p52 σ) fun y55 => some y55)))) else (some (((-1)))))))
set_option maxHeartbeats 4000000 in
theorem ws_count_ok {g : GE} (G : GG g) {τ : TT} (d : Nat) (hd1 : 1 ≤ d) (a0 : Nat) (a1 : Int)  (σ : ST) (Q : VQ) : Sm (V g mX0_count d 0 [(0, vr (some a0)), (1, vi a1)] [] σ τ Q) (ws_count a0 a1 σ) (fun r => Q.1 (some (vi r)) σ τ) := by
  unfold ws_count
  refine sm_top (fun K hRET => ?_)
  refine sm_b (l' := [(0, vr (some a0)), (1, vi a1)]) (st' := [vi a1]) (pc' := 1) [(.iload_n 1, vi 0, 1)] (by decide +kernel) rfl rfl ?_
  refine sm_gd (fun h1 => ?_)
  refine sm_case (V g mX0_count d 4 [(0, vr (some a0)), (1, vi a1)] [] σ τ Q) (V g mX0_count d 17 [(0, vr (some a0)), (1, vi a1)] [] σ τ Q) ?_ ?_ (fun f64 p65 n66 => ?_)
  · refine sm_b (l' := [(0, vr (some a0)), (1, vi a1)]) (st' := [vr (some a0)]) (pc' := 5) [(.aload_n 0, vi 0, 5)] (by decide +kernel) rfl rfl ?_
    refine sm_gd (fun h12 => ?_)
    refine sm_g (k := 4) (x := vr (sR σ 4 a0)) cd0 rfl h12 rfl q294 rfl (by decide +kernel) ?_
    refine sm_de (fun p13 h14 => ?_)
    refine sm_st [vr (some p13)] (by rw [h14] <;> rfl) ?_
    refine sm_gd (fun h15 => ?_)
    refine sm_gN (k := 1) (x := vr (sR σ 17 p13)) cd1 rfl h15 rfl q238 rfl (by decide +kernel) ?_
    refine sm_de (fun p16 h17 => ?_)
    refine sm_st [vr (some p16)] (by rw [h17] <;> rfl) ?_
    refine sm_gd (fun h18 => ?_)
    refine sm_cv (N := mJ2_size) (d' := d - 1) (fun r => (some (vi r))) (fun _ => σ) (fun _ => τ) [] [] rfl (by decide +kernel) q910 q519 q520 (Or.inl ⟨rfl, q521⟩) (show okN yJ2_size 0 = true by decide +kernel) (fun H hR => hR.rvL G.1 h18) rfl rfl (by omega) rfl (fun Q' => l_size_ok G (d - 1) (by omega) p16 σ Q') (fun y19 => ?_)
    refine sm_b (l' := [(0, vr (some a0)), (1, vi a1)]) (st' := [vi y19]) (pc' := 54) [(.goto 40, vi 0, 54)] (by decide +kernel) rfl rfl ?_
    exact sm_iret rfl (by decide +kernel) (fun h => hRET _ h)
  · refine sm_b (l' := [(0, vr (some a0)), (1, vi a1)]) (st' := [vi 1, vi a1]) (pc' := 19) [(.iload_n 1, vi 0, 18), (.iconst 1, vi 1, 19)] (by decide +kernel) rfl rfl ?_
    refine sm_case (V g mX0_count d 22 [(0, vr (some a0)), (1, vi a1)] [] σ τ Q) (V g mX0_count d 35 [(0, vr (some a0)), (1, vi a1)] [] σ τ Q) ?_ ?_ (fun f60 p61 n62 => ?_)
    · refine sm_b (l' := [(0, vr (some a0)), (1, vi a1)]) (st' := [vr (some a0)]) (pc' := 23) [(.aload_n 0, vi 0, 23)] (by decide +kernel) rfl rfl ?_
      refine sm_gd (fun h30 => ?_)
      refine sm_g (k := 4) (x := vr (sR σ 4 a0)) cd0 rfl h30 rfl q294 rfl (by decide +kernel) ?_
      refine sm_de (fun p31 h32 => ?_)
      refine sm_st [vr (some p31)] (by rw [h32] <;> rfl) ?_
      refine sm_gd (fun h33 => ?_)
      refine sm_gN (k := 2) (x := vr (sR σ 18 p31)) cd1 rfl h33 rfl q241 rfl (by decide +kernel) ?_
      refine sm_de (fun p34 h35 => ?_)
      refine sm_st [vr (some p34)] (by rw [h35] <;> rfl) ?_
      refine sm_gd (fun h36 => ?_)
      refine sm_cv (N := mJ2_size) (d' := d - 1) (fun r => (some (vi r))) (fun _ => σ) (fun _ => τ) [] [] rfl (by decide +kernel) q910 q519 q520 (Or.inl ⟨rfl, q521⟩) (show okN yJ2_size 0 = true by decide +kernel) (fun H hR => hR.rvL G.1 h36) rfl rfl (by omega) rfl (fun Q' => l_size_ok G (d - 1) (by omega) p34 σ Q') (fun y37 => ?_)
      refine sm_b (l' := [(0, vr (some a0)), (1, vi a1)]) (st' := [vi y37]) (pc' := 54) [(.goto 22, vi 0, 54)] (by decide +kernel) rfl rfl ?_
      exact sm_iret rfl (by decide +kernel) (fun h => hRET _ h)
    · refine sm_b (l' := [(0, vr (some a0)), (1, vi a1)]) (st' := [vi 2, vi a1]) (pc' := 37) [(.iload_n 1, vi 0, 36), (.iconst 2, vi 2, 37)] (by decide +kernel) rfl rfl ?_
      refine sm_case (V g mX0_count d 40 [(0, vr (some a0)), (1, vi a1)] [] σ τ Q) (V g mX0_count d 53 [(0, vr (some a0)), (1, vi a1)] [] σ τ Q) ?_ ?_ (fun f56 p57 n58 => ?_)
      · refine sm_b (l' := [(0, vr (some a0)), (1, vi a1)]) (st' := [vr (some a0)]) (pc' := 41) [(.aload_n 0, vi 0, 41)] (by decide +kernel) rfl rfl ?_
        refine sm_gd (fun h48 => ?_)
        refine sm_g (k := 4) (x := vr (sR σ 4 a0)) cd0 rfl h48 rfl q294 rfl (by decide +kernel) ?_
        refine sm_de (fun p49 h50 => ?_)
        refine sm_st [vr (some p49)] (by rw [h50] <;> rfl) ?_
        refine sm_gd (fun h51 => ?_)
        refine sm_gN (k := 3) (x := vr (sR σ 19 p49)) cd1 rfl h51 rfl q245 rfl (by decide +kernel) ?_
        refine sm_de (fun p52 h53 => ?_)
        refine sm_st [vr (some p52)] (by rw [h53] <;> rfl) ?_
        refine sm_gd (fun h54 => ?_)
        refine sm_cv (N := mJ2_size) (d' := d - 1) (fun r => (some (vi r))) (fun _ => σ) (fun _ => τ) [] [] rfl (by decide +kernel) q910 q519 q520 (Or.inl ⟨rfl, q521⟩) (show okN yJ2_size 0 = true by decide +kernel) (fun H hR => hR.rvL G.1 h54) rfl rfl (by omega) rfl (fun Q' => l_size_ok G (d - 1) (by omega) p52 σ Q') (fun y55 => ?_)
        refine sm_b (l' := [(0, vr (some a0)), (1, vi a1)]) (st' := [vi y55]) (pc' := 54) [(.goto 4, vi 0, 54)] (by decide +kernel) rfl rfl ?_
        exact sm_iret rfl (by decide +kernel) (fun h => hRET _ h)
      · refine sm_b (l' := [(0, vr (some a0)), (1, vi a1)]) (st' := [vi ((-1))]) (pc' := 54) [(.iconst (-1), vi (-1), 54)] (by decide +kernel) rfl rfl ?_
        exact sm_iret rfl (by decide +kernel) (fun h => hRET _ h)
      refine sm_icmp_ne (off := 16) (tgt := 53) h1 (by decide) (by decide +kernel) (fun c59 => ?_) (fun c59 => ?_)
      · exact n58 c59
      · exact p57 c59
    refine sm_icmp_ne (off := 16) (tgt := 35) h1 (by decide) (by decide +kernel) (fun c63 => ?_) (fun c63 => ?_)
    · exact n62 c63
    · exact p61 c63
  refine sm_if_ne (off := 16) (tgt := 17) h1 (by decide +kernel) (fun c67 => ?_) (fun c67 => ?_)
  · exact n66 c67
  · exact p65 c67
def ws_isField (a0 : Nat) (a1 : Int) (σ : ST) : Option (Int) := gd (rg a1) (gd (¬ (a1 < 0) → sc σ a0 = 1) (gd (¬ (a1 < 0) → ¬ (sR σ 4 a0) = none) (gd (¬ (a1 < 0) → sc σ (ad (sR σ 4 a0)) = 2) (gd (¬ (a1 < 0) → ¬ (sR σ 19 (ad (sR σ 4 a0))) = none) (gd (¬ (a1 < 0) → sc σ (ad (sR σ 19 (ad (sR σ 4 a0)))) = 16) (gd (¬ (a1 < 0) → ok (l_size (ad (sR σ 19 (ad (sR σ 4 a0)))) σ)) (gd (¬ (a1 < 0) → rg (vv (l_size (ad (sR σ 19 (ad (sR σ 4 a0)))) σ))) (if (a1 < 0) ∨ ((vv (l_size (ad (sR σ 19 (ad (sR σ 4 a0)))) σ)) ≤ a1) then (some 0) else (some 1)))))))))
set_option maxHeartbeats 4000000 in
theorem ws_isField_ok {g : GE} (G : GG g) {τ : TT} (d : Nat) (hd1 : 1 ≤ d) (a0 : Nat) (a1 : Int)  (σ : ST) (Q : VQ) : Sm (V g mX0_isField d 0 [(0, vr (some a0)), (1, vi a1)] [] σ τ Q) (ws_isField a0 a1 σ) (fun r => Q.1 (some (vi r)) σ τ) := by
  unfold ws_isField
  refine sm_top (fun K hRET => ?_)
  refine sm_b (l' := [(0, vr (some a0)), (1, vi a1)]) (st' := [vi a1]) (pc' := 1) [(.iload_n 1, vi 0, 1)] (by decide +kernel) rfl rfl ?_
  refine sm_gd (fun h1 => ?_)
  refine sm_gd (fun h3 => ?_)
  refine sm_gd (fun h4 => ?_)
  refine sm_gd (fun h6 => ?_)
  refine sm_gd (fun h7 => ?_)
  refine sm_gd (fun h9 => ?_)
  refine sm_gd (fun h10 => ?_)
  refine sm_gd (fun h11 => ?_)
  refine sm_case (V g mX0_isField d 22 [(0, vr (some a0)), (1, vi a1)] [] σ τ Q) (V g mX0_isField d 18 [(0, vr (some a0)), (1, vi a1)] [] σ τ Q) ?_ ?_ (fun f14 p15 n16 => ?_)
  · refine sm_b (l' := [(0, vr (some a0)), (1, vi a1)]) (st' := [vi 0]) (pc' := 23) [(.iconst 0, vi 0, 23)] (by decide +kernel) rfl rfl ?_
    exact sm_zret rfl (by decide +kernel) (by decide) (fun h => hRET _ h)
  · refine sm_b (l' := [(0, vr (some a0)), (1, vi a1)]) (st' := [vi 1]) (pc' := 23) [(.iconst 1, vi 1, 19), (.goto 4, vi 0, 23)] (by decide +kernel) rfl rfl ?_
    exact sm_zret rfl (by decide +kernel) (by decide) (fun h => hRET _ h)
  refine sm_if_lt (off := 21) (tgt := 22) h1 (by decide +kernel) (fun c17 => ?_) (fun c17 => ?_)
  · exact p15 (Or.inl c17)
  · have w2 : ¬ (a1 < 0) := c17
    refine sm_b (l' := [(0, vr (some a0)), (1, vi a1)]) (st' := [vr (some a0), vi a1]) (pc' := 6) [(.iload_n 1, vi 0, 5), (.aload_n 0, vi 0, 6)] (by decide +kernel) rfl rfl ?_
    refine sm_g (k := 4) (x := vr (sR σ 4 a0)) cd0 rfl (h3 w2) rfl q294 rfl (by decide +kernel) ?_
    have q5 := (ad_some (h4 w2))
    refine sm_st [vr (some (ad (sR σ 4 a0))), vi a1] (congrArg (fun z => [vr z, vi a1]) q5) ?_
    refine sm_gN (k := 3) (x := vr (sR σ 19 (ad (sR σ 4 a0)))) cd1 rfl (h6 w2) rfl q245 rfl (by decide +kernel) ?_
    have q8 := (ad_some (h7 w2))
    refine sm_st [vr (some (ad (sR σ 19 (ad (sR σ 4 a0))))), vi a1] (congrArg (fun z => [vr z, vi a1]) q8) ?_
    refine sm_cvp (N := mJ2_size) (d' := d - 1) (fun r => (some (vi r))) (some (vi (vv (l_size (ad (sR σ 19 (ad (sR σ 4 a0)))) σ)))) (h10 w2) (fun y h => by rw [vv_some h]) [] [vi a1] rfl (by decide +kernel) q910 q519 q520 (Or.inl ⟨rfl, q521⟩) (show okN yJ2_size 0 = true by decide +kernel) (fun H hR => hR.rvL G.1 (h9 w2)) rfl rfl (by omega) rfl (fun Q' => l_size_ok G (d - 1) (by omega) (ad (sR σ 19 (ad (sR σ 4 a0)))) σ Q') ?_
    refine sm_icmp_ge (off := 7) (tgt := 22) h1 (h11 w2) (by decide +kernel) (fun c18 => ?_) (fun c18 => ?_)
    · exact p15 (Or.inr c18)
    · exact n16 (fun q => q.elim c17 c18)
