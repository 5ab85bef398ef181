set_option maxRecDepth 100000
/-! the system: X9_namesClash, X9_isNumber, X3_is, X9_scalar, X2_message -/
def ck_namesClash_L99 (bb : Nat × Nat) (u0 : Nat) (u1 : Int) (u2 : Int) (u3 : Nat) (u4 : Nat) : Nat → Int → ST → Option (ST)
  | 0, _, _ => none
  | n + 1, w5, σ => gd (sc σ u3 = 7) (Option.bind (sR σ 100 u3) fun p65 => gd (sc σ p65 = 16) (Option.bind (l_size p65 σ) fun y68 => gd (rg w5) (gd (rg y68) (if y68 ≤ w5 then (some σ) else (Option.bind (l_get p65 w5 σ) fun y76 => Option.bind y76 fun p77 => gd (sc σ p77 = 4) (gd (sc σ u4 = 16) (Option.bind (l_add bb u4 (some p77) σ) fun y81 => ck_namesClash_L99 bb u0 u1 u2 u3 u4 n (w5 + 1) y81.2)))))))
def ck_namesClash_L57 (bb : Nat × Nat) (u0 : Nat) (u1 : Int) (u2 : Int) (u3 : Nat) (u4 : Nat) : Nat → Int → ST → Option (ST)
  | 0, _, _ => none
  | n + 1, w5, σ => gd (sc σ u3 = 7) (Option.bind (sR σ 99 u3) fun p88 => gd (sc σ p88 = 16) (Option.bind (l_size p88 σ) fun y91 => gd (rg w5) (gd (rg y91) (if y91 ≤ w5 then (some σ) else (Option.bind (l_get p88 w5 σ) fun y99 => Option.bind y99 fun p100 => gd (sc σ p100 = 9) (gd (sc σ u4 = 16) (Option.bind (l_add bb u4 (sR σ 129 p100) σ) fun y104 => ck_namesClash_L57 bb u0 u1 u2 u3 u4 n (w5 + 1) y104.2)))))))
def ck_namesClash_L16 (bb : Nat × Nat) (u0 : Nat) : Nat → Int → Int → ST → Option (Int × ST)
  | 0, _, _, _ => none
  | n + 1, w1, w2, σ => gd (sc σ u0 = 10) (Option.bind (sR σ 144 u0) fun p10 => gd (sc σ p10 = 2) (Option.bind (sR σ 17 p10) fun p13 => gd (sc σ p13 = 16) (Option.bind (l_size p13 σ) fun y16 => gd (rg w2) (gd (rg y16) (if y16 ≤ w2 then (gd (zb w1) (some ((w1, σ)))) else (Option.bind (l_get p13 w2 σ) fun y26 => Option.bind y26 fun p27 => gd (sc σ p27 = 7) (gd (rm bb σ 3) (nm (nL σ) fun σ31 => Option.bind (ck_namesClash_L57 bb u0 w1 w2 p27 (sZ σ) FU 0 σ31) fun (v32 : ST) => Option.bind (ck_namesClash_L99 bb u0 w1 w2 p27 (sZ σ) FU 0 v32) fun (v36 : ST) => Option.bind (gd (rg w1) (gd (w1 = 0 → sc v36 p27 = 7) (gd (w1 = 0 → ¬ (sR v36 98 p27) = none) (gd (w1 = 0 → sc v36 (ad (sR v36 98 p27)) = 3) (gd (w1 = 0 → ok (ck_isTwice (sR v36 35 (ad (sR v36 98 p27))) v36)) (gd (w1 = 0 → rg (vv (ck_isTwice (sR v36 35 (ad (sR v36 98 p27))) v36))) (gd ((w1 = 0) ∧ ((vv (ck_isTwice (sR v36 35 (ad (sR v36 98 p27))) v36)) = 0) → ok (ck_isTwice (some (sZ σ)) v36)) (gd ((w1 = 0) ∧ ((vv (ck_isTwice (sR v36 35 (ad (sR v36 98 p27))) v36)) = 0) → rg (vv (ck_isTwice (some (sZ σ)) v36))) (if ((w1 = 0) ∧ ((vv (ck_isTwice (sR v36 35 (ad (sR v36 98 p27))) v36)) = 0)) ∧ ((vv (ck_isTwice (some (sZ σ)) v36)) = 0) then (some 0) else (some 1)))))))))) fun (v53 : Int) => ck_namesClash_L16 bb u0 n v53 (w2 + 1) v36))))))))
def ck_namesClash (bb : Nat × Nat) (a0 : Nat) (σ : ST) : Option (Int × ST) := gd (sc σ a0 = 10) (Option.bind (sR σ 144 a0) fun p2 => gd (sc σ p2 = 2) (Option.bind (sR σ 16 p2) fun p5 => gd (sc σ p5 = 3) (Option.bind (ck_isTwice (sR σ 35 p5) σ) fun y8 => ck_namesClash_L16 bb a0 FU y8 0 σ)))
set_option maxHeartbeats 4000000 in
theorem ck_namesClash_L99_ok {g : GE} (G : GG g) {τ : TT} {Q : VQ} (d : Nat) (hd1 : 9 ≤ d) (u0 : Nat) (u1 : Int) (u2 : Int) (u3 : Nat) (u4 : Nat)  {K : ST → Prop} (hE135 : ∀ v63 : ST, K (v63) → V g mX9_namesClash d 135 [(0, vr (some u0)), (1, vi u1), (2, vi u2), (3, vr (some u3)), (4, vr (some u4))] [] v63 τ Q) : ∀ (n : Nat) (w5 : Int) (σ : ST), Sm (V g mX9_namesClash d 99 [(0, vr (some u0)), (1, vi u1), (2, vi u2), (3, vr (some u3)), (4, vr (some u4)), (5, vi w5)] [] σ τ Q) (ck_namesClash_L99 (gRm g) u0 u1 u2 u3 u4 n w5 σ) K := by
  intro n
  induction n with
  | zero => intro w5 σ; exact sm_none
  | succ n ih =>
    intro w5 σ
    rw [ck_namesClash_L99.eq_2]
    refine sm_b (l' := [(0, vr (some u0)), (1, vi u1), (2, vi u2), (3, vr (some u3)), (4, vr (some u4)), (5, vi w5)]) (st' := [vr (some u3), vi w5]) (pc' := 102) [(.iload 5, vi 0, 101), (.aload_n 3, vi 0, 102)] (by decide +kernel) rfl rfl ?_
    refine sm_gd (fun h64 => ?_)
    refine sm_gN (k := 4) (x := vr (sR σ 100 u3)) cd6 rfl h64 rfl q564 rfl (by decide +kernel) ?_
    refine sm_de (fun p65 h66 => ?_)
    refine sm_st [vr (some p65), vi w5] (by rw [h66] <;> rfl) ?_
    refine sm_gd (fun h67 => ?_)
    refine sm_cv (N := mJ2_size) (d' := d - 1) (fun r => (some (vi r))) (fun _ => σ) (fun _ => τ) [] [vi w5] rfl (by decide +kernel) q834 q519 q520 (Or.inl ⟨rfl, q521⟩) (show okN yJ2_size 0 = true by decide +kernel) (fun H hR => hR.rvL G.1 h67) rfl rfl (by omega) rfl (fun Q' => l_size_ok G (d - 1) (by omega) p65 σ Q') (fun y68 => ?_)
    refine sm_gd (fun h69 => ?_)
    refine sm_gd (fun h70 => ?_)
    refine sm_case (V g mX9_namesClash d 135 [(0, vr (some u0)), (1, vi u1), (2, vi u2), (3, vr (some u3)), (4, vr (some u4)), (5, vi w5)] [] σ τ Q) (V g mX9_namesClash d 111 [(0, vr (some u0)), (1, vi u1), (2, vi u2), (3, vr (some u3)), (4, vr (some u4)), (5, vi w5)] [] σ τ Q) ?_ ?_ (fun f82 p83 n84 => ?_)
    · refine sm_pick [0, 1, 2, 3, 4] (l' := [(0, vr (some u0)), (1, vi u1), (2, vi u2), (3, vr (some u3)), (4, vr (some u4))]) rfl ?_
      exact sm_leaf (fun h => hE135 _ h)
    · refine sm_b (l' := [(0, vr (some u0)), (1, vi u1), (2, vi u2), (3, vr (some u3)), (4, vr (some u4)), (5, vi w5)]) (st' := [vr (some u3), vr (some u4)]) (pc' := 114) [(.aload 4, vi 0, 113), (.aload_n 3, vi 0, 114)] (by decide +kernel) rfl rfl ?_
      refine sm_gN (k := 4) (x := vr (sR σ 100 u3)) cd6 rfl h64 rfl q564 rfl (by decide +kernel) ?_
      refine sm_b (l' := [(0, vr (some u0)), (1, vi u1), (2, vi u2), (3, vr (some u3)), (4, vr (some u4)), (5, vi w5)]) (st' := [vi w5, vr (sR σ 100 u3), vr (some u4)]) (pc' := 119) [(.iload 5, vi 0, 119)] (by decide +kernel) rfl rfl ?_
      refine sm_st [vi w5, vr (some p65), vr (some u4)] (by rw [h66] <;> rfl) ?_
      refine sm_cv (N := mJ2_get) (d' := d - 1) (fun r => (some (vr r))) (fun _ => σ) (fun _ => τ) [vi w5] [vr (some u4)] rfl (by decide +kernel) q835 q791 q792 (Or.inl ⟨rfl, q793⟩) (show okN yJ2_get 1 = true by decide +kernel) (fun H hR => hR.rvL G.1 h67) rfl rfl (by omega) rfl (fun Q' => l_get_ok G (d - 1) (by omega) p65 w5 σ Q') (fun y76 => ?_)
      refine sm_de (fun p77 h78 => ?_)
      refine sm_st [vr (some p77), vr (some u4)] (by rw [h78] <;> rfl) ?_
      refine sm_gd (fun h79 => ?_)
      refine sm_cast cd3 q836 (fun H hR => hR.rvR G.1 h79) (by decide +kernel) ?_
      refine sm_gd (fun h80 => ?_)
      refine sm_cv (N := mJ2_add) (d' := d - 1) (fun r => (some (vi r.1))) (fun r => r.2) (fun _ => τ) [vr (some p77)] [] rfl (by decide +kernel) q849 q593 q594 (Or.inl ⟨rfl, q595⟩) (show okN yJ2_add 1 = true by decide +kernel) (fun H hR => hR.rvL G.1 h80) rfl rfl (by omega) rfl (fun Q' => l_add_ok G (d - 1) (by omega) u4 (some p77) σ Q') (fun y81 => ?_)
      refine sm_b (l' := [(0, vr (some u0)), (1, vi u1), (2, vi u2), (3, vr (some u3)), (4, vr (some u4)), (5, vi (w5 + 1))]) (st' := []) (pc' := 99) [(.pop, vi 0, 129), (.iinc 5 1, vi 1, 132), (.goto (-33), vi 0, 99)] (by decide +kernel) rfl rfl ?_
      exact ih (w5 + 1) y81.2
    refine sm_icmp_ge (off := 27) (tgt := 135) h69 h70 (by decide +kernel) (fun c85 => ?_) (fun c85 => ?_)
    · exact p83 c85
    · exact n84 c85
set_option maxHeartbeats 4000000 in
theorem ck_namesClash_L57_ok {g : GE} (G : GG g) {τ : TT} {Q : VQ} (d : Nat) (hd1 : 9 ≤ d) (u0 : Nat) (u1 : Int) (u2 : Int) (u3 : Nat) (u4 : Nat)  {K : ST → Prop} (hE96 : ∀ v86 : ST, K (v86) → V g mX9_namesClash d 96 [(0, vr (some u0)), (1, vi u1), (2, vi u2), (3, vr (some u3)), (4, vr (some u4))] [] v86 τ Q) : ∀ (n : Nat) (w5 : Int) (σ : ST), Sm (V g mX9_namesClash d 57 [(0, vr (some u0)), (1, vi u1), (2, vi u2), (3, vr (some u3)), (4, vr (some u4)), (5, vi w5)] [] σ τ Q) (ck_namesClash_L57 (gRm g) u0 u1 u2 u3 u4 n w5 σ) K := by
  intro n
  induction n with
  | zero => intro w5 σ; exact sm_none
  | succ n ih =>
    intro w5 σ
    rw [ck_namesClash_L57.eq_2]
    refine sm_b (l' := [(0, vr (some u0)), (1, vi u1), (2, vi u2), (3, vr (some u3)), (4, vr (some u4)), (5, vi w5)]) (st' := [vr (some u3), vi w5]) (pc' := 60) [(.iload 5, vi 0, 59), (.aload_n 3, vi 0, 60)] (by decide +kernel) rfl rfl ?_
    refine sm_gd (fun h87 => ?_)
    refine sm_gN (k := 3) (x := vr (sR σ 99 u3)) cd6 rfl h87 rfl q561 rfl (by decide +kernel) ?_
    refine sm_de (fun p88 h89 => ?_)
    refine sm_st [vr (some p88), vi w5] (by rw [h89] <;> rfl) ?_
    refine sm_gd (fun h90 => ?_)
    refine sm_cv (N := mJ2_size) (d' := d - 1) (fun r => (some (vi r))) (fun _ => σ) (fun _ => τ) [] [vi w5] rfl (by decide +kernel) q834 q519 q520 (Or.inl ⟨rfl, q521⟩) (show okN yJ2_size 0 = true by decide +kernel) (fun H hR => hR.rvL G.1 h90) rfl rfl (by omega) rfl (fun Q' => l_size_ok G (d - 1) (by omega) p88 σ Q') (fun y91 => ?_)
    refine sm_gd (fun h92 => ?_)
    refine sm_gd (fun h93 => ?_)
    refine sm_case (V g mX9_namesClash d 96 [(0, vr (some u0)), (1, vi u1), (2, vi u2), (3, vr (some u3)), (4, vr (some u4)), (5, vi w5)] [] σ τ Q) (V g mX9_namesClash d 69 [(0, vr (some u0)), (1, vi u1), (2, vi u2), (3, vr (some u3)), (4, vr (some u4)), (5, vi w5)] [] σ τ Q) ?_ ?_ (fun f105 p106 n107 => ?_)
    · refine sm_pick [0, 1, 2, 3, 4] (l' := [(0, vr (some u0)), (1, vi u1), (2, vi u2), (3, vr (some u3)), (4, vr (some u4))]) rfl ?_
      exact sm_leaf (fun h => hE96 _ h)
    · refine sm_b (l' := [(0, vr (some u0)), (1, vi u1), (2, vi u2), (3, vr (some u3)), (4, vr (some u4)), (5, vi w5)]) (st' := [vr (some u3), vr (some u4)]) (pc' := 72) [(.aload 4, vi 0, 71), (.aload_n 3, vi 0, 72)] (by decide +kernel) rfl rfl ?_
      refine sm_gN (k := 3) (x := vr (sR σ 99 u3)) cd6 rfl h87 rfl q561 rfl (by decide +kernel) ?_
      refine sm_b (l' := [(0, vr (some u0)), (1, vi u1), (2, vi u2), (3, vr (some u3)), (4, vr (some u4)), (5, vi w5)]) (st' := [vi w5, vr (sR σ 99 u3), vr (some u4)]) (pc' := 77) [(.iload 5, vi 0, 77)] (by decide +kernel) rfl rfl ?_
      refine sm_st [vi w5, vr (some p88), vr (some u4)] (by rw [h89] <;> rfl) ?_
      refine sm_cv (N := mJ2_get) (d' := d - 1) (fun r => (some (vr r))) (fun _ => σ) (fun _ => τ) [vi w5] [vr (some u4)] rfl (by decide +kernel) q835 q791 q792 (Or.inl ⟨rfl, q793⟩) (show okN yJ2_get 1 = true by decide +kernel) (fun H hR => hR.rvL G.1 h90) rfl rfl (by omega) rfl (fun Q' => l_get_ok G (d - 1) (by omega) p88 w5 σ Q') (fun y99 => ?_)
      refine sm_de (fun p100 h101 => ?_)
      refine sm_st [vr (some p100), vr (some u4)] (by rw [h101] <;> rfl) ?_
      refine sm_gd (fun h102 => ?_)
      refine sm_cast cd8 q848 (fun H hR => hR.rv G.1 cd8 rfl h102) (by decide +kernel) ?_
      refine sm_gN (k := 1) (x := vr (sR σ 129 p100)) cd8 rfl h102 rfl q719 rfl (by decide +kernel) ?_
      refine sm_gd (fun h103 => ?_)
      refine sm_cv (N := mJ2_add) (d' := d - 1) (fun r => (some (vi r.1))) (fun r => r.2) (fun _ => τ) [vr (sR σ 129 p100)] [] rfl (by decide +kernel) q849 q593 q594 (Or.inl ⟨rfl, q595⟩) (show okN yJ2_add 1 = true by decide +kernel) (fun H hR => hR.rvL G.1 h103) rfl rfl (by omega) rfl (fun Q' => l_add_ok G (d - 1) (by omega) u4 (sR σ 129 p100) σ Q') (fun y104 => ?_)
      refine sm_b (l' := [(0, vr (some u0)), (1, vi u1), (2, vi u2), (3, vr (some u3)), (4, vr (some u4)), (5, vi (w5 + 1))]) (st' := []) (pc' := 57) [(.pop, vi 0, 90), (.iinc 5 1, vi 1, 93), (.goto (-36), vi 0, 57)] (by decide +kernel) rfl rfl ?_
      exact ih (w5 + 1) y104.2
    refine sm_icmp_ge (off := 30) (tgt := 96) h92 h93 (by decide +kernel) (fun c108 => ?_) (fun c108 => ?_)
    · exact p106 c108
    · exact n107 c108
set_option maxHeartbeats 4000000 in
theorem ck_namesClash_L16_ok {g : GE} (G : GG g) {τ : TT} {Q : VQ} (d : Nat) (hd1 : 9 ≤ d) (u0 : Nat)  {K : Int × ST → Prop} (hRET : ∀ r : Int × ST, K (r) → Q.1 (some (vi r.1)) r.2 τ) : ∀ (n : Nat) (w1 : Int) (w2 : Int) (σ : ST), Sm (V g mX9_namesClash d 16 [(0, vr (some u0)), (1, vi w1), (2, vi w2)] [] σ τ Q) (ck_namesClash_L16 (gRm g) u0 n w1 w2 σ) K := by
  intro n
  induction n with
  | zero => intro w1 w2 σ; exact sm_none
  | succ n ih =>
    intro w1 w2 σ
    rw [ck_namesClash_L16.eq_2]
    refine sm_b (l' := [(0, vr (some u0)), (1, vi w1), (2, vi w2)]) (st' := [vr (some u0), vi w2]) (pc' := 18) [(.iload_n 2, vi 0, 17), (.aload_n 0, vi 0, 18)] (by decide +kernel) rfl rfl ?_
    refine sm_gd (fun h9 => ?_)
    refine sm_g (k := 0) (x := vr (sR σ 144 u0)) cd9 rfl h9 rfl q819 rfl (by decide +kernel) ?_
    refine sm_de (fun p10 h11 => ?_)
    refine sm_st [vr (some p10), vi w2] (by rw [h11] <;> rfl) ?_
    refine sm_gd (fun h12 => ?_)
    refine sm_gN (k := 1) (x := vr (sR σ 17 p10)) cd1 rfl h12 rfl q237 rfl (by decide +kernel) ?_
    refine sm_de (fun p13 h14 => ?_)
    refine sm_st [vr (some p13), vi w2] (by rw [h14] <;> rfl) ?_
    refine sm_gd (fun h15 => ?_)
    refine sm_cv (N := mJ2_size) (d' := d - 1) (fun r => (some (vi r))) (fun _ => σ) (fun _ => τ) [] [vi w2] rfl (by decide +kernel) q834 q519 q520 (Or.inl ⟨rfl, q521⟩) (show okN yJ2_size 0 = true by decide +kernel) (fun H hR => hR.rvL G.1 h15) rfl rfl (by omega) rfl (fun Q' => l_size_ok G (d - 1) (by omega) p13 σ Q') (fun y16 => ?_)
    refine sm_gd (fun h17 => ?_)
    refine sm_gd (fun h18 => ?_)
    refine sm_case (V g mX9_namesClash d 172 [(0, vr (some u0)), (1, vi w1), (2, vi w2)] [] σ τ Q) (V g mX9_namesClash d 30 [(0, vr (some u0)), (1, vi w1), (2, vi w2)] [] σ τ Q) ?_ ?_ (fun f109 p110 n111 => ?_)
    · refine sm_b (l' := [(0, vr (some u0)), (1, vi w1), (2, vi w2)]) (st' := [vi w1]) (pc' := 173) [(.iload_n 1, vi 0, 173)] (by decide +kernel) rfl rfl ?_
      refine sm_gd (fun h25 => ?_)
      exact sm_zret rfl (by decide +kernel) h25 (fun h => hRET _ h)
    · refine sm_b (l' := [(0, vr (some u0)), (1, vi w1), (2, vi w2)]) (st' := [vr (some u0)]) (pc' := 31) [(.aload_n 0, vi 0, 31)] (by decide +kernel) rfl rfl ?_
      refine sm_g (k := 0) (x := vr (sR σ 144 u0)) cd9 rfl h9 rfl q819 rfl (by decide +kernel) ?_
      refine sm_st [vr (some p10)] (by rw [h11] <;> rfl) ?_
      refine sm_gN (k := 1) (x := vr (sR σ 17 p10)) cd1 rfl h12 rfl q237 rfl (by decide +kernel) ?_
      refine sm_b (l' := [(0, vr (some u0)), (1, vi w1), (2, vi w2)]) (st' := [vi w2, vr (sR σ 17 p10)]) (pc' := 38) [(.iload_n 2, vi 0, 38)] (by decide +kernel) rfl rfl ?_
      refine sm_st [vi w2, vr (some p13)] (by rw [h14] <;> rfl) ?_
      refine sm_cv (N := mJ2_get) (d' := d - 1) (fun r => (some (vr r))) (fun _ => σ) (fun _ => τ) [vi w2] [] rfl (by decide +kernel) q835 q791 q792 (Or.inl ⟨rfl, q793⟩) (show okN yJ2_get 1 = true by decide +kernel) (fun H hR => hR.rvL G.1 h15) rfl rfl (by omega) rfl (fun Q' => l_get_ok G (d - 1) (by omega) p13 w2 σ Q') (fun y26 => ?_)
      refine sm_de (fun p27 h28 => ?_)
      refine sm_st [vr (some p27)] (by rw [h28] <;> rfl) ?_
      refine sm_gd (fun h29 => ?_)
      refine sm_cast cd6 q845 (fun H hR => hR.rv G.1 cd6 rfl h29) (by decide +kernel) ?_
      refine sm_b (l' := [(0, vr (some u0)), (1, vi w1), (2, vi w2), (3, vr (some p27))]) (st' := []) (pc' := 45) [(.astore_n 3, vi 0, 45)] (by decide +kernel) rfl rfl ?_
      refine sm_gd (fun h30 => ?_)
      refine sm_newList (i := 16) (i2 := 52) q846 rfl q847 h30 (by omega) rfl (by decide +kernel) (by decide +kernel) (by decide +kernel) ?_
      refine sm_nms (fun σ31 => ?_)
      refine sm_b (l' := [(0, vr (some u0)), (1, vi w1), (2, vi w2), (3, vr (some p27)), (4, vr (some (sZ σ))), (5, vi 0)]) (st' := []) (pc' := 57) [(.astore 4, vi 0, 54), (.iconst 0, vi 0, 55), (.istore 5, vi 0, 57)] (by decide +kernel) rfl rfl ?_
      refine sm_bind1 (fun (v32 : ST) => V g mX9_namesClash d 96 [(0, vr (some u0)), (1, vi w1), (2, vi w2), (3, vr (some p27)), (4, vr (some (sZ σ)))] [] v32 τ Q) (fun v32 => ?_) (fun K33 j34 => ?_)
      · refine sm_b (l' := [(0, vr (some u0)), (1, vi w1), (2, vi w2), (3, vr (some p27)), (4, vr (some (sZ σ))), (5, vi 0)]) (st' := []) (pc' := 99) [(.iconst 0, vi 0, 97), (.istore 5, vi 0, 99)] (by decide +kernel) rfl rfl ?_
        refine sm_bind1 (fun (v36 : ST) => V g mX9_namesClash d 135 [(0, vr (some u0)), (1, vi w1), (2, vi w2), (3, vr (some p27)), (4, vr (some (sZ σ)))] [] v36 τ Q) (fun v36 => ?_) (fun K37 j38 => ?_)
        · refine sm_b (l' := [(0, vr (some u0)), (1, vi w1), (2, vi w2), (3, vr (some p27)), (4, vr (some (sZ σ)))]) (st' := [vi w1]) (pc' := 136) [(.iload_n 1, vi 0, 136)] (by decide +kernel) rfl rfl ?_
          refine sm_bind1 (fun (v53 : Int) => V g mX9_namesClash d 165 [(0, vr (some u0)), (2, vi w2)] [vi v53] v36 τ Q) (fun v53 => ?_) (fun K54 j55 => ?_)
          · refine sm_b (l' := [(0, vr (some u0)), (2, vi (w2 + 1)), (1, vi v53)]) (st' := []) (pc' := 16) [(.istore_n 1, vi 0, 166), (.iinc 2 1, vi 1, 169), (.goto (-153), vi 0, 16)] (by decide +kernel) rfl rfl ?_
            refine sm_pick [0, 2, 1] (l' := [(0, vr (some u0)), (1, vi v53), (2, vi (w2 + 1))]) rfl ?_
            exact ih v53 (w2 + 1) v36
          · refine sm_gd (fun h40 => ?_)
            refine sm_gd (fun h42 => ?_)
            refine sm_gd (fun h43 => ?_)
            refine sm_gd (fun h45 => ?_)
            refine sm_gd (fun h46 => ?_)
            refine sm_gd (fun h47 => ?_)
            refine sm_gd (fun h49 => ?_)
            refine sm_gd (fun h50 => ?_)
            refine sm_case (V g mX9_namesClash d 164 [(0, vr (some u0)), (1, vi w1), (2, vi w2), (3, vr (some p27)), (4, vr (some (sZ σ)))] [] v36 τ Q) (V g mX9_namesClash d 160 [(0, vr (some u0)), (1, vi w1), (2, vi w2), (3, vr (some p27)), (4, vr (some (sZ σ)))] [] v36 τ Q) ?_ ?_ (fun f57 p58 n59 => ?_)
            · refine sm_b (l' := [(0, vr (some u0)), (1, vi w1), (2, vi w2), (3, vr (some p27)), (4, vr (some (sZ σ)))]) (st' := [vi 0]) (pc' := 165) [(.iconst 0, vi 0, 165)] (by decide +kernel) rfl rfl ?_
              refine sm_pick [0, 2] (l' := [(0, vr (some u0)), (2, vi w2)]) rfl ?_
              exact sm_leaf (fun h => j55 _ h)
            · refine sm_b (l' := [(0, vr (some u0)), (1, vi w1), (2, vi w2), (3, vr (some p27)), (4, vr (some (sZ σ)))]) (st' := [vi 1]) (pc' := 165) [(.iconst 1, vi 1, 161), (.goto 4, vi 0, 165)] (by decide +kernel) rfl rfl ?_
              refine sm_pick [0, 2] (l' := [(0, vr (some u0)), (2, vi w2)]) rfl ?_
              exact sm_leaf (fun h => j55 _ h)
            refine sm_if_ne (off := 24) (tgt := 160) h40 (by decide +kernel) (fun c60 => ?_) (fun c60 => ?_)
            · exact n59 (fun q => (fun q => c60 q.1) q.1)
            · have w41 : w1 = 0 := c60
              refine sm_b (l' := [(0, vr (some u0)), (1, vi w1), (2, vi w2), (3, vr (some p27)), (4, vr (some (sZ σ)))]) (st' := [vr (some p27)]) (pc' := 140) [(.aload_n 3, vi 0, 140)] (by decide +kernel) rfl rfl ?_
              refine sm_gN (k := 2) (x := vr (sR v36 98 p27)) cd6 rfl (h42 w41) rfl q558 rfl (by decide +kernel) ?_
              have q44 := (ad_some (h43 w41))
              refine sm_st [vr (some (ad (sR v36 98 p27)))] (congrArg (fun z => [vr z]) q44) ?_
              refine sm_gN (k := 3) (x := vr (sR v36 35 (ad (sR v36 98 p27)))) cd2 rfl (h45 w41) rfl q220 rfl (by decide +kernel) ?_
              refine sm_csp (N := mX9_isTwice) (d' := d - 1) (fun r => (some (vi r))) (some (vi (vv (ck_isTwice (sR v36 35 (ad (sR v36 98 p27))) v36)))) (h46 w41) (fun y h => by rw [vv_some h]) [vr (sR v36 35 (ad (sR v36 98 p27)))] [] rfl (by decide +kernel) q831 q832 q156 (Or.inl ⟨rfl, q833⟩) (show okN yX9_isTwice 1 = true by decide +kernel) rfl rfl (by omega) rfl (fun Q' => ck_isTwice_ok G (d - 1) (by omega) (sR v36 35 (ad (sR v36 98 p27))) v36 Q') ?_
              refine sm_if_ne (off := 11) (tgt := 160) (h47 w41) (by decide +kernel) (fun c61 => ?_) (fun c61 => ?_)
              · exact n59 (fun q => (fun q => c61 q.2) q.1)
              · have w48 : (w1 = 0) ∧ ((vv (ck_isTwice (sR v36 35 (ad (sR v36 98 p27))) v36)) = 0) := ⟨c60, c61⟩
                refine sm_b (l' := [(0, vr (some u0)), (1, vi w1), (2, vi w2), (3, vr (some p27)), (4, vr (some (sZ σ)))]) (st' := [vr (some (sZ σ))]) (pc' := 154) [(.aload 4, vi 0, 154)] (by decide +kernel) rfl rfl ?_
                refine sm_csp (N := mX9_isTwice) (d' := d - 1) (fun r => (some (vi r))) (some (vi (vv (ck_isTwice (some (sZ σ)) v36)))) (h49 w48) (fun y h => by rw [vv_some h]) [vr (some (sZ σ))] [] rfl (by decide +kernel) q831 q832 q156 (Or.inl ⟨rfl, q833⟩) (show okN yX9_isTwice 1 = true by decide +kernel) rfl rfl (by omega) rfl (fun Q' => ck_isTwice_ok G (d - 1) (by omega) (some (sZ σ)) v36 Q') ?_
                refine sm_if_eq (off := 7) (tgt := 164) (h50 w48) (by decide +kernel) (fun c62 => ?_) (fun c62 => ?_)
                · exact p58 ⟨⟨c60, c61⟩, c62⟩
                · exact n59 (fun q => c62 q.2)
        · exact ck_namesClash_L99_ok G d hd1 u0 w1 w2 p27 (sZ σ)  (fun _ h => j38 _ h) FU 0 v32
      · exact ck_namesClash_L57_ok G d hd1 u0 w1 w2 p27 (sZ σ)  (fun _ h => j34 _ h) FU 0 σ31
    refine sm_icmp_ge (off := 145) (tgt := 172) h17 h18 (by decide +kernel) (fun c112 => ?_) (fun c112 => ?_)
    · exact p110 c112
    · exact n111 c112
set_option maxHeartbeats 4000000 in
theorem ck_namesClash_ok {g : GE} (G : GG g) {τ : TT} (d : Nat) (hd1 : 9 ≤ d) (a0 : Nat)  (σ : ST) (Q : VQ) : Sm (V g mX9_namesClash d 0 [(0, vr (some a0))] [] σ τ Q) (ck_namesClash (gRm g) a0 σ) (fun r => Q.1 (some (vi r.1)) r.2 τ) := by
  unfold ck_namesClash
  refine sm_top (fun K hRET => ?_)
  refine sm_b (l' := [(0, vr (some a0))]) (st' := [vr (some a0)]) (pc' := 1) [(.aload_n 0, vi 0, 1)] (by decide +kernel) rfl rfl ?_
  refine sm_gd (fun h1 => ?_)
  refine sm_g (k := 0) (x := vr (sR σ 144 a0)) cd9 rfl h1 rfl q819 rfl (by decide +kernel) ?_
  refine sm_de (fun p2 h3 => ?_)
  refine sm_st [vr (some p2)] (by rw [h3] <;> rfl) ?_
  refine sm_gd (fun h4 => ?_)
  refine sm_gN (k := 0) (x := vr (sR σ 16 p2)) cd1 rfl h4 rfl q234 rfl (by decide +kernel) ?_
  refine sm_de (fun p5 h6 => ?_)
  refine sm_st [vr (some p5)] (by rw [h6] <;> rfl) ?_
  refine sm_gd (fun h7 => ?_)
  refine sm_gN (k := 3) (x := vr (sR σ 35 p5)) cd2 rfl h7 rfl q220 rfl (by decide +kernel) ?_
  refine sm_cs (N := mX9_isTwice) (d' := d - 1) (fun r => (some (vi r))) (fun _ => σ) (fun _ => τ) [vr (sR σ 35 p5)] [] rfl (by decide +kernel) q831 q832 q156 (Or.inl ⟨rfl, q833⟩) (show okN yX9_isTwice 1 = true by decide +kernel) rfl rfl (by omega) rfl (fun Q' => ck_isTwice_ok G (d - 1) (by omega) (sR σ 35 p5) σ Q') (fun y8 => ?_)
  refine sm_b (l' := [(0, vr (some a0)), (1, vi y8), (2, vi 0)]) (st' := []) (pc' := 16) [(.istore_n 1, vi 0, 14), (.iconst 0, vi 0, 15), (.istore_n 2, vi 0, 16)] (by decide +kernel) rfl rfl ?_
  exact ck_namesClash_L16_ok G d hd1 a0  (fun r h => hRET _ h) FU y8 0 σ
def ck_isNumber_L89 (u0 : Option Nat) (σ : ST) : Nat → Int → Int → Option (Int)
  | 0, _, _ => none
  | n + 1, w1, w2 => Option.bind u0 fun p15 => gd (sc σ p15 = 9) (Option.bind (sR σ 128 p15) fun p18 => gd (sc σ p18 = 7) (Option.bind (sR σ 99 p18) fun p21 => gd (sc σ p21 = 16) (Option.bind (l_size p21 σ) fun y24 => gd (rg w2) (gd (rg y24) (if y24 ≤ w2 then (gd (zb w1) (some w1)) else (Option.bind (gd (rg w1) (if w1 = 0 then (some 0) else (Option.bind (l_get p21 w2 σ) fun y38 => gd (¬ (y38 = u0) → ok (l_get p21 w2 σ)) (gd (¬ (y38 = u0) → ¬ (vo (l_get p21 w2 σ)) = none) (gd (¬ (y38 = u0) → sc σ (ad (vo (l_get p21 w2 σ))) = 9) (gd (¬ (y38 = u0) → rg (sI σ 131 (ad (vo (l_get p21 w2 σ))))) (gd (¬ (y38 = u0) → rg (sI σ 131 p15)) (if (y38 = u0) ∨ (¬ ((sI σ 131 (ad (vo (l_get p21 w2 σ)))) = (sI σ 131 p15))) then (some 1) else (some 0))))))))) fun (v34 : Int) => ck_isNumber_L89 u0 σ n v34 (w2 + 1)))))))
def ck_isNumber_L44 (u0 : Option Nat) (σ : ST) : Nat → Int → Int → Option (Int)
  | 0, _, _ => none
  | n + 1, w1, w2 => Option.bind u0 fun p61 => gd (sc σ p61 = 9) (Option.bind (sR σ 128 p61) fun p64 => gd (sc σ p64 = 7) (gd (rg w2) (gd (rg (sI σ 102 p64)) (if (sI σ 102 p64) ≤ w2 then (some w1) else (Option.bind (gd (rg w1) (gd (¬ (w1 = 0) → ¬ (sR σ 101 p64) = none) (gd (¬ (w1 = 0) → sc σ (ad (sR σ 101 p64)) = 102) (gd (¬ (w1 = 0) → ib w2 (sN σ (ad (sR σ 101 p64)))) (gd (¬ (w1 = 0) → rg (sE σ (ad (sR σ 101 p64)) w2.toNat)) (gd (¬ (w1 = 0) → rg (sI σ 131 p61)) (if (w1 = 0) ∨ ((sE σ (ad (sR σ 101 p64)) w2.toNat) = (sI σ 131 p61)) then (some 0) else (some 1)))))))) fun (v81 : Int) => ck_isNumber_L44 u0 σ n v81 (w2 + 1))))))
def ck_isNumber (a1 : Option Nat) (σ : ST) : Option (Int) := Option.bind a1 fun p1 => gd (sc σ p1 = 9) (Option.bind (gd (rg (sI σ 131 p1)) (if ((sI σ 131 p1) ≤ 0) ∨ (536870911 < (sI σ 131 p1)) then (some 0) else (if ((sI σ 131 p1) < 19000) ∨ (¬ ((sI σ 131 p1) ≤ 19999)) then (some 1) else (some 0)))) fun (v7 : Int) => Option.bind (ck_isNumber_L44 a1 σ FU v7 0) fun (v11 : Int) => ck_isNumber_L89 a1 σ FU v11 0)
set_option maxHeartbeats 4000000 in
theorem ck_isNumber_L89_ok {g : GE} (G : GG g) {τ : TT} {Q : VQ} (d : Nat) (hd1 : 4 ≤ d) (u0 : Option Nat) (σ : ST)  {K : Int → Prop} (hRET : ∀ r : Int, K (r) → Q.1 (some (vi r)) σ τ) : ∀ (n : Nat) (w1 : Int) (w2 : Int), Sm (V g mX9_isNumber d 89 [(0, vr u0), (1, vi w1), (2, vi w2)] [] σ τ Q) (ck_isNumber_L89 u0 σ n w1 w2) K := by
  intro n
  induction n with
  | zero => intro w1 w2; exact sm_none
  | succ n ih =>
    intro w1 w2
    rw [ck_isNumber_L89.eq_2]
    refine sm_b (l' := [(0, vr u0), (1, vi w1), (2, vi w2)]) (st' := [vr u0, vi w2]) (pc' := 91) [(.iload_n 2, vi 0, 90), (.aload_n 0, vi 0, 91)] (by decide +kernel) rfl rfl ?_
    refine sm_de (fun p15 h16 => ?_)
    refine sm_st [vr (some p15), vi w2] (by rw [h16] <;> rfl) ?_
    refine sm_gd (fun h17 => ?_)
    refine sm_gN (k := 0) (x := vr (sR σ 128 p15)) cd8 rfl h17 rfl q715 rfl (by decide +kernel) ?_
    refine sm_de (fun p18 h19 => ?_)
    refine sm_st [vr (some p18), vi w2] (by rw [h19] <;> rfl) ?_
    refine sm_gd (fun h20 => ?_)
    refine sm_gN (k := 3) (x := vr (sR σ 99 p18)) cd6 rfl h20 rfl q561 rfl (by decide +kernel) ?_
    refine sm_de (fun p21 h22 => ?_)
    refine sm_st [vr (some p21), vi w2] (by rw [h22] <;> rfl) ?_
    refine sm_gd (fun h23 => ?_)
    refine sm_cv (N := mJ2_size) (d' := d - 1) (fun r => (some (vi r))) (fun _ => σ) (fun _ => τ) [] [vi w2] rfl (by decide +kernel) q834 q519 q520 (Or.inl ⟨rfl, q521⟩) (show okN yJ2_size 0 = true by decide +kernel) (fun H hR => hR.rvL G.1 h23) rfl rfl (by omega) rfl (fun Q' => l_size_ok G (d - 1) (by omega) p21 σ Q') (fun y24 => ?_)
    refine sm_gd (fun h25 => ?_)
    refine sm_gd (fun h26 => ?_)
    refine sm_case (V g mX9_isNumber d 158 [(0, vr u0), (1, vi w1), (2, vi w2)] [] σ τ Q) (V g mX9_isNumber d 103 [(0, vr u0), (1, vi w1), (2, vi w2)] [] σ τ Q) ?_ ?_ (fun f56 p57 n58 => ?_)
    · refine sm_b (l' := [(0, vr u0), (1, vi w1), (2, vi w2)]) (st' := [vi w1]) (pc' := 159) [(.iload_n 1, vi 0, 159)] (by decide +kernel) rfl rfl ?_
      refine sm_gd (fun h30 => ?_)
      exact sm_zret rfl (by decide +kernel) h30 (fun h => hRET _ h)
    · refine sm_b (l' := [(0, vr u0), (1, vi w1), (2, vi w2)]) (st' := [vi w1]) (pc' := 104) [(.iload_n 1, vi 0, 104)] (by decide +kernel) rfl rfl ?_
      refine sm_bind1 (fun (v34 : Int) => V g mX9_isNumber d 151 [(0, vr u0), (2, vi w2)] [vi v34] σ τ Q) (fun v34 => ?_) (fun K35 j36 => ?_)
      · refine sm_b (l' := [(0, vr u0), (2, vi (w2 + 1)), (1, vi v34)]) (st' := []) (pc' := 89) [(.istore_n 1, vi 0, 152), (.iinc 2 1, vi 1, 155), (.goto (-66), vi 0, 89)] (by decide +kernel) rfl rfl ?_
        refine sm_pick [0, 2, 1] (l' := [(0, vr u0), (1, vi v34), (2, vi (w2 + 1))]) rfl ?_
        exact ih v34 (w2 + 1)
      · refine sm_gd (fun h31 => ?_)
        refine sm_case (V g mX9_isNumber d 150 [(0, vr u0), (1, vi w1), (2, vi w2)] [] σ τ Q) (V g mX9_isNumber d 107 [(0, vr u0), (1, vi w1), (2, vi w2)] [] σ τ Q) ?_ ?_ (fun f52 p53 n54 => ?_)
        · refine sm_b (l' := [(0, vr u0), (1, vi w1), (2, vi w2)]) (st' := [vi 0]) (pc' := 151) [(.iconst 0, vi 0, 151)] (by decide +kernel) rfl rfl ?_
          refine sm_pick [0, 2] (l' := [(0, vr u0), (2, vi w2)]) rfl ?_
          exact sm_leaf (fun h => j36 _ h)
        · refine sm_b (l' := [(0, vr u0), (1, vi w1), (2, vi w2)]) (st' := [vr u0]) (pc' := 108) [(.aload_n 0, vi 0, 108)] (by decide +kernel) rfl rfl ?_
          refine sm_st [vr (some p15)] (by rw [h16] <;> rfl) ?_
          refine sm_gN (k := 0) (x := vr (sR σ 128 p15)) cd8 rfl h17 rfl q715 rfl (by decide +kernel) ?_
          refine sm_st [vr (some p18)] (by rw [h19] <;> rfl) ?_
          refine sm_gN (k := 3) (x := vr (sR σ 99 p18)) cd6 rfl h20 rfl q561 rfl (by decide +kernel) ?_
          refine sm_b (l' := [(0, vr u0), (1, vi w1), (2, vi w2)]) (st' := [vi w2, vr (sR σ 99 p18)]) (pc' := 115) [(.iload_n 2, vi 0, 115)] (by decide +kernel) rfl rfl ?_
          refine sm_st [vi w2, vr (some p21)] (by rw [h22] <;> rfl) ?_
          refine sm_cv (N := mJ2_get) (d' := d - 1) (fun r => (some (vr r))) (fun _ => σ) (fun _ => τ) [vi w2] [] rfl (by decide +kernel) q835 q791 q792 (Or.inl ⟨rfl, q793⟩) (show okN yJ2_get 1 = true by decide +kernel) (fun H hR => hR.rvL G.1 h23) rfl rfl (by omega) rfl (fun Q' => l_get_ok G (d - 1) (by omega) p21 w2 σ Q') (fun y38 => ?_)
          refine sm_b (l' := [(0, vr u0), (1, vi w1), (2, vi w2)]) (st' := [vr u0, vr y38]) (pc' := 119) [(.aload_n 0, vi 0, 119)] (by decide +kernel) rfl rfl ?_
          refine sm_gd (fun h40 => ?_)
          refine sm_gd (fun h41 => ?_)
          refine sm_gd (fun h43 => ?_)
          refine sm_gd (fun h44 => ?_)
          refine sm_gd (fun h45 => ?_)
          refine sm_case (V g mX9_isNumber d 146 [(0, vr u0), (1, vi w1), (2, vi w2)] [] σ τ Q) (V g mX9_isNumber d 150 [(0, vr u0), (1, vi w1), (2, vi w2)] [] σ τ Q) ?_ ?_ (fun f47 p48 n49 => ?_)
          · refine sm_b (l' := [(0, vr u0), (1, vi w1), (2, vi w2)]) (st' := [vi 1]) (pc' := 151) [(.iconst 1, vi 1, 147), (.goto 4, vi 0, 151)] (by decide +kernel) rfl rfl ?_
            refine sm_pick [0, 2] (l' := [(0, vr u0), (2, vi w2)]) rfl ?_
            exact sm_leaf (fun h => j36 _ h)
          · refine sm_b (l' := [(0, vr u0), (1, vi w1), (2, vi w2)]) (st' := [vi 0]) (pc' := 151) [(.iconst 0, vi 0, 151)] (by decide +kernel) rfl rfl ?_
            refine sm_pick [0, 2] (l' := [(0, vr u0), (2, vi w2)]) rfl ?_
            exact sm_leaf (fun h => j36 _ h)
          refine sm_acmp_eq (off := 27) (tgt := 146) (by decide +kernel) (fun c50 => ?_) (fun c50 => ?_)
          · exact p48 (Or.inl c50)
          · have w39 : ¬ (y38 = u0) := c50
            refine sm_b (l' := [(0, vr u0), (1, vi w1), (2, vi w2)]) (st' := [vr u0]) (pc' := 123) [(.aload_n 0, vi 0, 123)] (by decide +kernel) rfl rfl ?_
            refine sm_st [vr (some p15)] (by rw [h16] <;> rfl) ?_
            refine sm_gN (k := 0) (x := vr (sR σ 128 p15)) cd8 rfl h17 rfl q715 rfl (by decide +kernel) ?_
            refine sm_st [vr (some p18)] (by rw [h19] <;> rfl) ?_
            refine sm_gN (k := 3) (x := vr (sR σ 99 p18)) cd6 rfl h20 rfl q561 rfl (by decide +kernel) ?_
            refine sm_b (l' := [(0, vr u0), (1, vi w1), (2, vi w2)]) (st' := [vi w2, vr (sR σ 99 p18)]) (pc' := 130) [(.iload_n 2, vi 0, 130)] (by decide +kernel) rfl rfl ?_
            refine sm_st [vi w2, vr (some p21)] (by rw [h22] <;> rfl) ?_
            refine sm_cvp (N := mJ2_get) (d' := d - 1) (fun r => (some (vr r))) (some (vr (vo (l_get p21 w2 σ)))) (h40 w39) (fun y h => by rw [vo_some h]) [vi w2] [] rfl (by decide +kernel) q835 q791 q792 (Or.inl ⟨rfl, q793⟩) (show okN yJ2_get 1 = true by decide +kernel) (fun H hR => hR.rvL G.1 h23) rfl rfl (by omega) rfl (fun Q' => l_get_ok G (d - 1) (by omega) p21 w2 σ Q') ?_
            have q42 := (ad_some (h41 w39))
            refine sm_st [vr (some (ad (vo (l_get p21 w2 σ))))] (congrArg (fun z => [vr z]) q42) ?_
            refine sm_cast cd8 q848 (fun H hR => hR.rv G.1 cd8 rfl (h43 w39)) (by decide +kernel) ?_
            refine sm_gN (k := 3) (x := vi (sI σ 131 (ad (vo (l_get p21 w2 σ))))) cd8 rfl (h43 w39) rfl q726 rfl (by decide +kernel) ?_
            refine sm_b (l' := [(0, vr u0), (1, vi w1), (2, vi w2)]) (st' := [vr u0, vi (sI σ 131 (ad (vo (l_get p21 w2 σ))))]) (pc' := 140) [(.aload_n 0, vi 0, 140)] (by decide +kernel) rfl rfl ?_
            refine sm_st [vr (some p15), vi (sI σ 131 (ad (vo (l_get p21 w2 σ))))] (by rw [h16] <;> rfl) ?_
            refine sm_gN (k := 3) (x := vi (sI σ 131 p15)) cd8 rfl h17 rfl q726 rfl (by decide +kernel) ?_
            refine sm_icmp_eq (off := 7) (tgt := 150) (h44 w39) (h45 w39) (by decide +kernel) (fun c51 => ?_) (fun c51 => ?_)
            · exact n49 (fun q => q.elim c50 (fun q => q c51))
            · exact p48 (Or.inr c51)
        refine sm_if_eq (off := 46) (tgt := 150) h31 (by decide +kernel) (fun c55 => ?_) (fun c55 => ?_)
        · exact p53 c55
        · exact n54 c55
    refine sm_icmp_ge (off := 58) (tgt := 158) h25 h26 (by decide +kernel) (fun c59 => ?_) (fun c59 => ?_)
    · exact p57 c59
    · exact n58 c59
set_option maxHeartbeats 4000000 in
theorem ck_isNumber_L44_ok {g : GE} (G : GG g) {τ : TT} {Q : VQ} (d : Nat) (hd1 : 4 ≤ d) (u0 : Option Nat) (σ : ST)  {K : Int → Prop} (hE87 : ∀ v60 : Int, K (v60) → V g mX9_isNumber d 87 [(0, vr u0), (1, vi v60)] [] σ τ Q) : ∀ (n : Nat) (w1 : Int) (w2 : Int), Sm (V g mX9_isNumber d 44 [(0, vr u0), (1, vi w1), (2, vi w2)] [] σ τ Q) (ck_isNumber_L44 u0 σ n w1 w2) K := by
  intro n
  induction n with
  | zero => intro w1 w2; exact sm_none
  | succ n ih =>
    intro w1 w2
    rw [ck_isNumber_L44.eq_2]
    refine sm_b (l' := [(0, vr u0), (1, vi w1), (2, vi w2)]) (st' := [vr u0, vi w2]) (pc' := 46) [(.iload_n 2, vi 0, 45), (.aload_n 0, vi 0, 46)] (by decide +kernel) rfl rfl ?_
    refine sm_de (fun p61 h62 => ?_)
    refine sm_st [vr (some p61), vi w2] (by rw [h62] <;> rfl) ?_
    refine sm_gd (fun h63 => ?_)
    refine sm_gN (k := 0) (x := vr (sR σ 128 p61)) cd8 rfl h63 rfl q715 rfl (by decide +kernel) ?_
    refine sm_de (fun p64 h65 => ?_)
    refine sm_st [vr (some p64), vi w2] (by rw [h65] <;> rfl) ?_
    refine sm_gd (fun h66 => ?_)
    refine sm_gN (k := 6) (x := vi (sI σ 102 p64)) cd6 rfl h66 rfl q569 rfl (by decide +kernel) ?_
    refine sm_gd (fun h67 => ?_)
    refine sm_gd (fun h68 => ?_)
    refine sm_case (V g mX9_isNumber d 87 [(0, vr u0), (1, vi w1), (2, vi w2)] [] σ τ Q) (V g mX9_isNumber d 55 [(0, vr u0), (1, vi w1), (2, vi w2)] [] σ τ Q) ?_ ?_ (fun f90 p91 n92 => ?_)
    · refine sm_pick [0, 1] (l' := [(0, vr u0), (1, vi w1)]) rfl ?_
      exact sm_leaf (fun h => hE87 _ h)
    · refine sm_b (l' := [(0, vr u0), (1, vi w1), (2, vi w2)]) (st' := [vi w1]) (pc' := 56) [(.iload_n 1, vi 0, 56)] (by decide +kernel) rfl rfl ?_
      refine sm_bind1 (fun (v81 : Int) => V g mX9_isNumber d 80 [(0, vr u0), (2, vi w2)] [vi v81] σ τ Q) (fun v81 => ?_) (fun K82 j83 => ?_)
      · refine sm_b (l' := [(0, vr u0), (2, vi (w2 + 1)), (1, vi v81)]) (st' := []) (pc' := 44) [(.istore_n 1, vi 0, 81), (.iinc 2 1, vi 1, 84), (.goto (-40), vi 0, 44)] (by decide +kernel) rfl rfl ?_
        refine sm_pick [0, 2, 1] (l' := [(0, vr u0), (1, vi v81), (2, vi (w2 + 1))]) rfl ?_
        exact ih v81 (w2 + 1)
      · refine sm_gd (fun h71 => ?_)
        refine sm_gd (fun h73 => ?_)
        refine sm_gd (fun h75 => ?_)
        refine sm_gd (fun h76 => ?_)
        refine sm_gd (fun h77 => ?_)
        refine sm_gd (fun h78 => ?_)
        refine sm_case (V g mX9_isNumber d 79 [(0, vr u0), (1, vi w1), (2, vi w2)] [] σ τ Q) (V g mX9_isNumber d 75 [(0, vr u0), (1, vi w1), (2, vi w2)] [] σ τ Q) ?_ ?_ (fun f85 p86 n87 => ?_)
        · refine sm_b (l' := [(0, vr u0), (1, vi w1), (2, vi w2)]) (st' := [vi 0]) (pc' := 80) [(.iconst 0, vi 0, 80)] (by decide +kernel) rfl rfl ?_
          refine sm_pick [0, 2] (l' := [(0, vr u0), (2, vi w2)]) rfl ?_
          exact sm_leaf (fun h => j83 _ h)
        · refine sm_b (l' := [(0, vr u0), (1, vi w1), (2, vi w2)]) (st' := [vi 1]) (pc' := 80) [(.iconst 1, vi 1, 76), (.goto 4, vi 0, 80)] (by decide +kernel) rfl rfl ?_
          refine sm_pick [0, 2] (l' := [(0, vr u0), (2, vi w2)]) rfl ?_
          exact sm_leaf (fun h => j83 _ h)
        refine sm_if_eq (off := 23) (tgt := 79) h71 (by decide +kernel) (fun c88 => ?_) (fun c88 => ?_)
        · exact p86 (Or.inl c88)
        · have w72 : ¬ (w1 = 0) := c88
          refine sm_b (l' := [(0, vr u0), (1, vi w1), (2, vi w2)]) (st' := [vr u0]) (pc' := 60) [(.aload_n 0, vi 0, 60)] (by decide +kernel) rfl rfl ?_
          refine sm_st [vr (some p61)] (by rw [h62] <;> rfl) ?_
          refine sm_gN (k := 0) (x := vr (sR σ 128 p61)) cd8 rfl h63 rfl q715 rfl (by decide +kernel) ?_
          refine sm_st [vr (some p64)] (by rw [h65] <;> rfl) ?_
          refine sm_gN (k := 5) (x := vr (sR σ 101 p64)) cd6 rfl h66 rfl q567 rfl (by decide +kernel) ?_
          refine sm_b (l' := [(0, vr u0), (1, vi w1), (2, vi w2)]) (st' := [vi w2, vr (sR σ 101 p64)]) (pc' := 67) [(.iload_n 2, vi 0, 67)] (by decide +kernel) rfl rfl ?_
          have q74 := (ad_some (h73 w72))
          refine sm_st [vi w2, vr (some (ad (sR σ 101 p64)))] (congrArg (fun z => [vi w2, vr z]) q74) ?_
          refine sm_el (h75 w72) (h76 w72) (by decide +kernel) ?_
          refine sm_b (l' := [(0, vr u0), (1, vi w1), (2, vi w2)]) (st' := [vr u0, vi (sE σ (ad (sR σ 101 p64)) w2.toNat)]) (pc' := 69) [(.aload_n 0, vi 0, 69)] (by decide +kernel) rfl rfl ?_
          refine sm_st [vr (some p61), vi (sE σ (ad (sR σ 101 p64)) w2.toNat)] (by rw [h62] <;> rfl) ?_
          refine sm_gN (k := 3) (x := vi (sI σ 131 p61)) cd8 rfl h63 rfl q726 rfl (by decide +kernel) ?_
          refine sm_icmp_eq (off := 7) (tgt := 79) (h77 w72) (h78 w72) (by decide +kernel) (fun c89 => ?_) (fun c89 => ?_)
          · exact p86 (Or.inr c89)
          · exact n87 (fun q => q.elim c88 c89)
    refine sm_icmp_ge (off := 35) (tgt := 87) h67 h68 (by decide +kernel) (fun c93 => ?_) (fun c93 => ?_)
    · exact p91 c93
    · exact n92 c93
set_option maxHeartbeats 4000000 in
theorem ck_isNumber_ok {g : GE} (G : GG g) {τ : TT} (d : Nat) (hd1 : 4 ≤ d) (a1 : Option Nat)  (σ : ST) (Q : VQ) : Sm (V g mX9_isNumber d 0 [(0, vr a1)] [] σ τ Q) (ck_isNumber a1 σ) (fun r => Q.1 (some (vi r)) σ τ) := by
  unfold ck_isNumber
  refine sm_top (fun K hRET => ?_)
  refine sm_b (l' := [(0, vr a1)]) (st' := [vr a1]) (pc' := 1) [(.aload_n 0, vi 0, 1)] (by decide +kernel) rfl rfl ?_
  refine sm_de (fun p1 h2 => ?_)
  refine sm_st [vr (some p1)] (by rw [h2] <;> rfl) ?_
  refine sm_gd (fun h3 => ?_)
  refine sm_gN (k := 3) (x := vi (sI σ 131 p1)) cd8 rfl h3 rfl q726 rfl (by decide +kernel) ?_
  refine sm_bind1 (fun (v7 : Int) => V g mX9_isNumber d 41 [(0, vr a1)] [vi v7] σ τ Q) (fun v7 => ?_) (fun K8 j9 => ?_)
  · refine sm_b (l' := [(0, vr a1), (1, vi v7), (2, vi 0)]) (st' := []) (pc' := 44) [(.istore_n 1, vi 0, 42), (.iconst 0, vi 0, 43), (.istore_n 2, vi 0, 44)] (by decide +kernel) rfl rfl ?_
    refine sm_bind1 (fun (v11 : Int) => V g mX9_isNumber d 87 [(0, vr a1), (1, vi v11)] [] σ τ Q) (fun v11 => ?_) (fun K12 j13 => ?_)
    · refine sm_b (l' := [(0, vr a1), (1, vi v11), (2, vi 0)]) (st' := []) (pc' := 89) [(.iconst 0, vi 0, 88), (.istore_n 2, vi 0, 89)] (by decide +kernel) rfl rfl ?_
      exact ck_isNumber_L89_ok G d hd1 a1 σ  (fun r h => hRET _ h) FU v11 0
    · exact ck_isNumber_L44_ok G d hd1 a1 σ  (fun _ h => j13 _ h) FU v7 0
  · refine sm_gd (fun h4 => ?_)
    refine sm_case (V g mX9_isNumber d 40 [(0, vr a1)] [] σ τ Q) (V g mX9_isNumber d 16 [(0, vr a1)] [] σ τ Q) ?_ ?_ (fun f101 p102 n103 => ?_)
    · refine sm_b (l' := [(0, vr a1)]) (st' := [vi 0]) (pc' := 41) [(.iconst 0, vi 0, 41)] (by decide +kernel) rfl rfl ?_
      exact sm_leaf (fun h => j9 _ h)
    · refine sm_b (l' := [(0, vr a1)]) (st' := [vr a1]) (pc' := 17) [(.aload_n 0, vi 0, 17)] (by decide +kernel) rfl rfl ?_
      refine sm_st [vr (some p1)] (by rw [h2] <;> rfl) ?_
      refine sm_gN (k := 3) (x := vi (sI σ 131 p1)) cd8 rfl h3 rfl q726 rfl (by decide +kernel) ?_
      refine sm_b (l' := [(0, vr a1)]) (st' := [vi 19000, vi (sI σ 131 p1)]) (pc' := 23) [(.sipush 19000, vi 19000, 23)] (by decide +kernel) rfl rfl ?_
      refine sm_case (V g mX9_isNumber d 36 [(0, vr a1)] [] σ τ Q) (V g mX9_isNumber d 40 [(0, vr a1)] [] σ τ Q) ?_ ?_ (fun f96 p97 n98 => ?_)
      · refine sm_b (l' := [(0, vr a1)]) (st' := [vi 1]) (pc' := 41) [(.iconst 1, vi 1, 37), (.goto 4, vi 0, 41)] (by decide +kernel) rfl rfl ?_
        exact sm_leaf (fun h => j9 _ h)
      · refine sm_b (l' := [(0, vr a1)]) (st' := [vi 0]) (pc' := 41) [(.iconst 0, vi 0, 41)] (by decide +kernel) rfl rfl ?_
        exact sm_leaf (fun h => j9 _ h)
      refine sm_icmp_lt (off := 13) (tgt := 36) h4 (by decide) (by decide +kernel) (fun c99 => ?_) (fun c99 => ?_)
      · exact p97 (Or.inl c99)
      · refine sm_b (l' := [(0, vr a1)]) (st' := [vr a1]) (pc' := 27) [(.aload_n 0, vi 0, 27)] (by decide +kernel) rfl rfl ?_
        refine sm_st [vr (some p1)] (by rw [h2] <;> rfl) ?_
        refine sm_gN (k := 3) (x := vi (sI σ 131 p1)) cd8 rfl h3 rfl q726 rfl (by decide +kernel) ?_
        refine sm_b (l' := [(0, vr a1)]) (st' := [vi 19999, vi (sI σ 131 p1)]) (pc' := 33) [(.sipush 19999, vi 19999, 33)] (by decide +kernel) rfl rfl ?_
        refine sm_icmp_le (off := 7) (tgt := 40) h4 (by decide) (by decide +kernel) (fun c100 => ?_) (fun c100 => ?_)
        · exact n98 (fun q => q.elim c99 (fun q => q c100))
        · exact p97 (Or.inr c100)
    refine sm_if_le (off := 36) (tgt := 40) h4 (by decide +kernel) (fun c104 => ?_) (fun c104 => ?_)
    · exact p102 (Or.inl c104)
    · refine sm_b (l' := [(0, vr a1)]) (st' := [vr a1]) (pc' := 8) [(.aload_n 0, vi 0, 8)] (by decide +kernel) rfl rfl ?_
      refine sm_st [vr (some p1)] (by rw [h2] <;> rfl) ?_
      refine sm_gN (k := 3) (x := vi (sI σ 131 p1)) cd8 rfl h3 rfl q726 rfl (by decide +kernel) ?_
      refine sm_ldc (x := 536870911) (by decide) (by decide +kernel) q853 ?_
      refine sm_icmp_gt (off := 27) (tgt := 40) h4 (by decide) (by decide +kernel) (fun c105 => ?_) (fun c105 => ?_)
      · exact p102 (Or.inr c105)
      · exact n103 (fun q => q.elim c104 c105)
def row_is_L19 (u0 : Nat) (u1 : Nat) (σ : ST) : Nat → Int → Int → Option (Int)
  | 0, _, _ => none
  | n + 1, w2, w3 => gd (sc σ u0 = 4) (gd (rg w3) (gd (¬ (((((sW σ u0).length : Nat) : Int)) ≤ w3) → rg w2) (if (((((sW σ u0).length : Nat) : Int)) ≤ w3) ∨ (w2 = 0) then (gd (zb w2) (some w2)) else (gd (ib w3 (sW σ u0).length) (gd (ib w3 (slen u1)) (Option.bind (if (sbI (rB σ u0 w3)) = (((sch u1 w3.toNat : Nat) : Int)) then (some 1) else (some 0)) fun (v25 : Int) => row_is_L19 u0 u1 σ n v25 (w3 + 1)))))))
def row_is (a0 : Nat) (a1 : Nat) (σ : ST) : Option (Int) := gd (sc σ a0 = 4) (Option.bind (if ((((sW σ a0).length : Nat) : Int)) = (((slen a1 : Nat) : Int)) then (some 1) else (some 0)) fun (v6 : Int) => row_is_L19 a0 a1 σ FU v6 0)
set_option maxHeartbeats 4000000 in
theorem row_is_L19_ok {g : GE} (G : GG g) {τ : TT} {Q : VQ} (d : Nat) (hd1 : 6 ≤ d) (u0 : Nat) (u1 : Nat) (σ : ST)  {K : Int → Prop} (hRET : ∀ r : Int, K (r) → Q.1 (some (vi r)) σ τ) : ∀ (n : Nat) (w2 : Int) (w3 : Int), Sm (V g mX3_is d 19 [(0, vr (some u0)), (1, vr (some (gK g u1))), (2, vi w2), (3, vi w3)] [] σ τ Q) (row_is_L19 u0 u1 σ n w2 w3) K := by
  intro n
  induction n with
  | zero => intro w2 w3; exact sm_none
  | succ n ih =>
    intro w2 w3
    rw [row_is_L19.eq_2]
    refine sm_b (l' := [(0, vr (some u0)), (1, vr (some (gK g u1))), (2, vi w2), (3, vi w3)]) (st' := [vr (some u0), vi w3]) (pc' := 21) [(.iload_n 3, vi 0, 20), (.aload_n 0, vi 0, 21)] (by decide +kernel) rfl rfl ?_
    refine sm_gd (fun h10 => ?_)
    refine sm_rsz h10 q278 (by decide +kernel) ?_
    refine sm_rowf h10 (fun b11 b12 => ?_)
    refine sm_gd (fun h13 => ?_)
    refine sm_gd (fun h15 => ?_)
    refine sm_case (V g mX3_is d 57 [(0, vr (some u0)), (1, vr (some (gK g u1))), (2, vi w2), (3, vi w3)] [] σ τ Q) (V g mX3_is d 31 [(0, vr (some u0)), (1, vr (some (gK g u1))), (2, vi w2), (3, vi w3)] [] σ τ Q) ?_ ?_ (fun f33 p34 n35 => ?_)
    · refine sm_b (l' := [(0, vr (some u0)), (1, vr (some (gK g u1))), (2, vi w2), (3, vi w3)]) (st' := [vi w2]) (pc' := 58) [(.iload_n 2, vi 0, 58)] (by decide +kernel) rfl rfl ?_
      refine sm_gd (fun h20 => ?_)
      exact sm_zret rfl (by decide +kernel) h20 (fun h => hRET _ h)
    · refine sm_b (l' := [(0, vr (some u0)), (1, vr (some (gK g u1))), (2, vi w2), (3, vi w3)]) (st' := [vr (some u0)]) (pc' := 32) [(.aload_n 0, vi 0, 32)] (by decide +kernel) rfl rfl ?_
      refine sm_rcl h10 q274 (by decide +kernel) ?_
      refine sm_b (l' := [(0, vr (some u0)), (1, vr (some (gK g u1))), (2, vi w2), (3, vi w3)]) (st' := [vi w3, vr (some (sH σ u0))]) (pc' := 36) [(.iload_n 3, vi 0, 36)] (by decide +kernel) rfl rfl ?_
      refine sm_gd (fun h21 => ?_)
      refine sm_rbl h10 h21 (by decide +kernel) ?_
      refine sm_b (l' := [(0, vr (some u0)), (1, vr (some (gK g u1))), (2, vi w2), (3, vi w3)]) (st' := [vi w3, vr (some (gK g u1)), vi (sbI (rB σ u0 w3))]) (pc' := 39) [(.aload_n 1, vi 0, 38), (.iload_n 3, vi 0, 39)] (by decide +kernel) rfl rfl ?_
      refine sm_gd (fun h22 => ?_)
      refine sm_scha (k := u1) G [vi (sbI (rB σ u0 w3))] rfl (by decide +kernel) q866 h22 (by omega) rfl ?_
      refine sm_bind1 (fun (v25 : Int) => V g mX3_is d 50 [(0, vr (some u0)), (1, vr (some (gK g u1))), (3, vi w3)] [vi v25] σ τ Q) (fun v25 => ?_) (fun K26 j27 => ?_)
      · refine sm_b (l' := [(0, vr (some u0)), (1, vr (some (gK g u1))), (3, vi (w3 + 1)), (2, vi v25)]) (st' := []) (pc' := 19) [(.istore_n 2, vi 0, 51), (.iinc 3 1, vi 1, 54), (.goto (-35), vi 0, 19)] (by decide +kernel) rfl rfl ?_
        refine sm_pick [0, 1, 3, 2] (l' := [(0, vr (some u0)), (1, vr (some (gK g u1))), (2, vi v25), (3, vi (w3 + 1))]) rfl ?_
        exact ih v25 (w3 + 1)
      · refine sm_case (V g mX3_is d 45 [(0, vr (some u0)), (1, vr (some (gK g u1))), (2, vi w2), (3, vi w3)] [] σ τ Q) (V g mX3_is d 49 [(0, vr (some u0)), (1, vr (some (gK g u1))), (2, vi w2), (3, vi w3)] [] σ τ Q) ?_ ?_ (fun f29 p30 n31 => ?_)
        · refine sm_b (l' := [(0, vr (some u0)), (1, vr (some (gK g u1))), (2, vi w2), (3, vi w3)]) (st' := [vi 1]) (pc' := 50) [(.iconst 1, vi 1, 46), (.goto 4, vi 0, 50)] (by decide +kernel) rfl rfl ?_
          refine sm_pick [0, 1, 3] (l' := [(0, vr (some u0)), (1, vr (some (gK g u1))), (3, vi w3)]) rfl ?_
          exact sm_leaf (fun h => j27 _ h)
        · refine sm_b (l' := [(0, vr (some u0)), (1, vr (some (gK g u1))), (2, vi w2), (3, vi w3)]) (st' := [vi 0]) (pc' := 50) [(.iconst 0, vi 0, 50)] (by decide +kernel) rfl rfl ?_
          refine sm_pick [0, 1, 3] (l' := [(0, vr (some u0)), (1, vr (some (gK g u1))), (3, vi w3)]) rfl ?_
          exact sm_leaf (fun h => j27 _ h)
        refine sm_icmp_ne (off := 7) (tgt := 49) (sbI_rg _) (sch_rg _ _) (by decide +kernel) (fun c32 => ?_) (fun c32 => ?_)
        · exact n31 c32
        · exact p30 c32
    refine sm_icmp_ge (off := 33) (tgt := 57) h13 (rwl_rg (Nat.lt_of_le_of_lt b11 b12)) (by decide +kernel) (fun c36 => ?_) (fun c36 => ?_)
    · exact p34 (Or.inl c36)
    · have w14 : ¬ (((((sW σ u0).length : Nat) : Int)) ≤ w3) := c36
      refine sm_b (l' := [(0, vr (some u0)), (1, vr (some (gK g u1))), (2, vi w2), (3, vi w3)]) (st' := [vi w2]) (pc' := 28) [(.iload_n 2, vi 0, 28)] (by decide +kernel) rfl rfl ?_
      refine sm_if_eq (off := 29) (tgt := 57) (h15 w14) (by decide +kernel) (fun c37 => ?_) (fun c37 => ?_)
      · exact p34 (Or.inr c37)
      · exact n35 (fun q => q.elim c36 c37)
set_option maxHeartbeats 4000000 in
theorem row_is_ok {g : GE} (G : GG g) {τ : TT} (d : Nat) (hd1 : 6 ≤ d) (a0 : Nat) (a1 : Nat)  (σ : ST) (Q : VQ) : Sm (V g mX3_is d 0 [(0, vr (some a0)), (1, vr (some (gK g a1)))] [] σ τ Q) (row_is a0 a1 σ) (fun r => Q.1 (some (vi r)) σ τ) := by
  unfold row_is
  refine sm_top (fun K hRET => ?_)
  refine sm_b (l' := [(0, vr (some a0)), (1, vr (some (gK g a1)))]) (st' := [vr (some a0)]) (pc' := 1) [(.aload_n 0, vi 0, 1)] (by decide +kernel) rfl rfl ?_
  refine sm_gd (fun h1 => ?_)
  refine sm_rsz h1 q278 (by decide +kernel) ?_
  refine sm_rowf h1 (fun b2 b3 => ?_)
  refine sm_b (l' := [(0, vr (some a0)), (1, vr (some (gK g a1)))]) (st' := [vr (some (gK g a1)), vi ((((sW σ a0).length : Nat) : Int))]) (pc' := 5) [(.aload_n 1, vi 0, 5)] (by decide +kernel) rfl rfl ?_
  refine sm_slen (k := a1) G [vi ((((sW σ a0).length : Nat) : Int))] rfl (by decide +kernel) q865 (by omega) rfl ?_
  refine sm_bind1 (fun (v6 : Int) => V g mX3_is d 16 [(0, vr (some a0)), (1, vr (some (gK g a1)))] [vi v6] σ τ Q) (fun v6 => ?_) (fun K7 j8 => ?_)
  · refine sm_b (l' := [(0, vr (some a0)), (1, vr (some (gK g a1))), (2, vi v6), (3, vi 0)]) (st' := []) (pc' := 19) [(.istore_n 2, vi 0, 17), (.iconst 0, vi 0, 18), (.istore_n 3, vi 0, 19)] (by decide +kernel) rfl rfl ?_
    exact row_is_L19_ok G d hd1 a0 a1 σ  (fun r h => hRET _ h) FU v6 0
  · refine sm_case (V g mX3_is d 11 [(0, vr (some a0)), (1, vr (some (gK g a1)))] [] σ τ Q) (V g mX3_is d 15 [(0, vr (some a0)), (1, vr (some (gK g a1)))] [] σ τ Q) ?_ ?_ (fun f38 p39 n40 => ?_)
    · refine sm_b (l' := [(0, vr (some a0)), (1, vr (some (gK g a1)))]) (st' := [vi 1]) (pc' := 16) [(.iconst 1, vi 1, 12), (.goto 4, vi 0, 16)] (by decide +kernel) rfl rfl ?_
      exact sm_leaf (fun h => j8 _ h)
    · refine sm_b (l' := [(0, vr (some a0)), (1, vr (some (gK g a1)))]) (st' := [vi 0]) (pc' := 16) [(.iconst 0, vi 0, 16)] (by decide +kernel) rfl rfl ?_
      exact sm_leaf (fun h => j8 _ h)
    refine sm_icmp_ne (off := 7) (tgt := 15) (rwl_rg (Nat.lt_of_le_of_lt b2 b3)) (slen_rg _) (by decide +kernel) (fun c41 => ?_) (fun c41 => ?_)
    · exact n40 c41
    · exact p39 c41
def ck_scalar (a1 : Option Nat) (σ : ST) : Option (Int) := Option.bind a1 fun p1 => gd (sc σ p1 = 4) (Option.bind (row_is p1 36 σ) fun y4 => Option.bind (gd (rg y4) (if y4 = 0 then (some (((-1)))) else (some 0))) fun (v7 : Int) => Option.bind (row_is p1 37 σ) fun y11 => Option.bind (gd (rg y11) (if y11 = 0 then (some v7) else (some 1))) fun (v14 : Int) => Option.bind (row_is p1 38 σ) fun y18 => Option.bind (gd (rg y18) (if y18 = 0 then (some v14) else (some 2))) fun (v21 : Int) => Option.bind (row_is p1 39 σ) fun y25 => Option.bind (gd (rg y25) (if y25 = 0 then (some v21) else (some 3))) fun (v28 : Int) => Option.bind (row_is p1 40 σ) fun y32 => Option.bind (gd (rg y32) (if y32 = 0 then (some v28) else (some 4))) fun (v35 : Int) => Option.bind (row_is p1 41 σ) fun y39 => Option.bind (gd (rg y39) (if y39 = 0 then (some v35) else (some 5))) fun (v42 : Int) => Option.bind (row_is p1 42 σ) fun y46 => Option.bind (gd (rg y46) (if y46 = 0 then (some v42) else (some 6))) fun (v49 : Int) => Option.bind (row_is p1 43 σ) fun y53 => Option.bind (gd (rg y53) (if y53 = 0 then (some v49) else (some 7))) fun (v56 : Int) => Option.bind (row_is p1 44 σ) fun y60 => Option.bind (gd (rg y60) (if y60 = 0 then (some v56) else (some 8))) fun (v63 : Int) => Option.bind (row_is p1 45 σ) fun y67 => Option.bind (gd (rg y67) (if y67 = 0 then (some v63) else (some 9))) fun (v70 : Int) => Option.bind (row_is p1 46 σ) fun y74 => gd (rg y74) (if y74 = 0 then (some v70) else (some 10)))
set_option maxHeartbeats 4000000 in
theorem ck_scalar_ok {g : GE} (G : GG g) {τ : TT} (d : Nat) (hd1 : 7 ≤ d) (a1 : Option Nat)  (σ : ST) (Q : VQ) : Sm (V g mX9_scalar d 0 [(0, vr a1)] [] σ τ Q) (ck_scalar a1 σ) (fun r => Q.1 (some (vi r)) σ τ) := by
  unfold ck_scalar
  refine sm_top (fun K hRET => ?_)
  refine sm_b (l' := [(0, vr a1), (1, vi ((-1)))]) (st' := [vr a1]) (pc' := 3) [(.iconst (-1), vi (-1), 1), (.istore_n 1, vi 0, 2), (.aload_n 0, vi 0, 3)] (by decide +kernel) rfl rfl ?_
  refine sm_str (k := 36) G rfl (by decide +kernel) ?_
  refine sm_de (fun p1 h2 => ?_)
  refine sm_st [vr (some (gK g 36)), vr (some p1)] (by rw [h2] <;> rfl) ?_
  refine sm_gd (fun h3 => ?_)
  refine sm_cv (N := mX3_is) (d' := d - 1) (fun r => (some (vi r))) (fun _ => σ) (fun _ => τ) [vr (some (gK g 36))] [] rfl (by decide +kernel) q861 q862 q863 (Or.inl ⟨rfl, q864⟩) (show okN yX3_is 1 = true by decide +kernel) (fun H hR => hR.rvR G.1 h3) rfl rfl (by omega) rfl (fun Q' => row_is_ok G (d - 1) (by omega) p1 36 σ Q') (fun y4 => ?_)
  refine sm_bind1 (fun (v7 : Int) => V g mX9_scalar d 13 [(0, vr a1), (1, vi v7)] [] σ τ Q) (fun v7 => ?_) (fun K8 j9 => ?_)
  · refine sm_b (l' := [(0, vr a1), (1, vi v7)]) (st' := [vr a1]) (pc' := 14) [(.aload_n 0, vi 0, 14)] (by decide +kernel) rfl rfl ?_
    refine sm_str (k := 37) G rfl (by decide +kernel) ?_
    refine sm_st [vr (some (gK g 37)), vr (some p1)] (by rw [h2] <;> rfl) ?_
    refine sm_cv (N := mX3_is) (d' := d - 1) (fun r => (some (vi r))) (fun _ => σ) (fun _ => τ) [vr (some (gK g 37))] [] rfl (by decide +kernel) q861 q862 q863 (Or.inl ⟨rfl, q864⟩) (show okN yX3_is 1 = true by decide +kernel) (fun H hR => hR.rvR G.1 h3) rfl rfl (by omega) rfl (fun Q' => row_is_ok G (d - 1) (by omega) p1 37 σ Q') (fun y11 => ?_)
    refine sm_bind1 (fun (v14 : Int) => V g mX9_scalar d 24 [(0, vr a1), (1, vi v14)] [] σ τ Q) (fun v14 => ?_) (fun K15 j16 => ?_)
    · refine sm_b (l' := [(0, vr a1), (1, vi v14)]) (st' := [vr a1]) (pc' := 25) [(.aload_n 0, vi 0, 25)] (by decide +kernel) rfl rfl ?_
      refine sm_str (k := 38) G rfl (by decide +kernel) ?_
      refine sm_st [vr (some (gK g 38)), vr (some p1)] (by rw [h2] <;> rfl) ?_
      refine sm_cv (N := mX3_is) (d' := d - 1) (fun r => (some (vi r))) (fun _ => σ) (fun _ => τ) [vr (some (gK g 38))] [] rfl (by decide +kernel) q861 q862 q863 (Or.inl ⟨rfl, q864⟩) (show okN yX3_is 1 = true by decide +kernel) (fun H hR => hR.rvR G.1 h3) rfl rfl (by omega) rfl (fun Q' => row_is_ok G (d - 1) (by omega) p1 38 σ Q') (fun y18 => ?_)
      refine sm_bind1 (fun (v21 : Int) => V g mX9_scalar d 35 [(0, vr a1), (1, vi v21)] [] σ τ Q) (fun v21 => ?_) (fun K22 j23 => ?_)
      · refine sm_b (l' := [(0, vr a1), (1, vi v21)]) (st' := [vr a1]) (pc' := 36) [(.aload_n 0, vi 0, 36)] (by decide +kernel) rfl rfl ?_
        refine sm_str (k := 39) G rfl (by decide +kernel) ?_
        refine sm_st [vr (some (gK g 39)), vr (some p1)] (by rw [h2] <;> rfl) ?_
        refine sm_cv (N := mX3_is) (d' := d - 1) (fun r => (some (vi r))) (fun _ => σ) (fun _ => τ) [vr (some (gK g 39))] [] rfl (by decide +kernel) q861 q862 q863 (Or.inl ⟨rfl, q864⟩) (show okN yX3_is 1 = true by decide +kernel) (fun H hR => hR.rvR G.1 h3) rfl rfl (by omega) rfl (fun Q' => row_is_ok G (d - 1) (by omega) p1 39 σ Q') (fun y25 => ?_)
        refine sm_bind1 (fun (v28 : Int) => V g mX9_scalar d 46 [(0, vr a1), (1, vi v28)] [] σ τ Q) (fun v28 => ?_) (fun K29 j30 => ?_)
        · refine sm_b (l' := [(0, vr a1), (1, vi v28)]) (st' := [vr a1]) (pc' := 47) [(.aload_n 0, vi 0, 47)] (by decide +kernel) rfl rfl ?_
          refine sm_str (k := 40) G rfl (by decide +kernel) ?_
          refine sm_st [vr (some (gK g 40)), vr (some p1)] (by rw [h2] <;> rfl) ?_
          refine sm_cv (N := mX3_is) (d' := d - 1) (fun r => (some (vi r))) (fun _ => σ) (fun _ => τ) [vr (some (gK g 40))] [] rfl (by decide +kernel) q861 q862 q863 (Or.inl ⟨rfl, q864⟩) (show okN yX3_is 1 = true by decide +kernel) (fun H hR => hR.rvR G.1 h3) rfl rfl (by omega) rfl (fun Q' => row_is_ok G (d - 1) (by omega) p1 40 σ Q') (fun y32 => ?_)
          refine sm_bind1 (fun (v35 : Int) => V g mX9_scalar d 57 [(0, vr a1), (1, vi v35)] [] σ τ Q) (fun v35 => ?_) (fun K36 j37 => ?_)
          · refine sm_b (l' := [(0, vr a1), (1, vi v35)]) (st' := [vr a1]) (pc' := 58) [(.aload_n 0, vi 0, 58)] (by decide +kernel) rfl rfl ?_
            refine sm_str (k := 41) G rfl (by decide +kernel) ?_
            refine sm_st [vr (some (gK g 41)), vr (some p1)] (by rw [h2] <;> rfl) ?_
            refine sm_cv (N := mX3_is) (d' := d - 1) (fun r => (some (vi r))) (fun _ => σ) (fun _ => τ) [vr (some (gK g 41))] [] rfl (by decide +kernel) q861 q862 q863 (Or.inl ⟨rfl, q864⟩) (show okN yX3_is 1 = true by decide +kernel) (fun H hR => hR.rvR G.1 h3) rfl rfl (by omega) rfl (fun Q' => row_is_ok G (d - 1) (by omega) p1 41 σ Q') (fun y39 => ?_)
            refine sm_bind1 (fun (v42 : Int) => V g mX9_scalar d 68 [(0, vr a1), (1, vi v42)] [] σ τ Q) (fun v42 => ?_) (fun K43 j44 => ?_)
            · refine sm_b (l' := [(0, vr a1), (1, vi v42)]) (st' := [vr a1]) (pc' := 69) [(.aload_n 0, vi 0, 69)] (by decide +kernel) rfl rfl ?_
              refine sm_str (k := 42) G rfl (by decide +kernel) ?_
              refine sm_st [vr (some (gK g 42)), vr (some p1)] (by rw [h2] <;> rfl) ?_
              refine sm_cv (N := mX3_is) (d' := d - 1) (fun r => (some (vi r))) (fun _ => σ) (fun _ => τ) [vr (some (gK g 42))] [] rfl (by decide +kernel) q861 q862 q863 (Or.inl ⟨rfl, q864⟩) (show okN yX3_is 1 = true by decide +kernel) (fun H hR => hR.rvR G.1 h3) rfl rfl (by omega) rfl (fun Q' => row_is_ok G (d - 1) (by omega) p1 42 σ Q') (fun y46 => ?_)
              refine sm_bind1 (fun (v49 : Int) => V g mX9_scalar d 80 [(0, vr a1), (1, vi v49)] [] σ τ Q) (fun v49 => ?_) (fun K50 j51 => ?_)
              · refine sm_b (l' := [(0, vr a1), (1, vi v49)]) (st' := [vr a1]) (pc' := 81) [(.aload_n 0, vi 0, 81)] (by decide +kernel) rfl rfl ?_
                refine sm_str (k := 43) G rfl (by decide +kernel) ?_
                refine sm_st [vr (some (gK g 43)), vr (some p1)] (by rw [h2] <;> rfl) ?_
                refine sm_cv (N := mX3_is) (d' := d - 1) (fun r => (some (vi r))) (fun _ => σ) (fun _ => τ) [vr (some (gK g 43))] [] rfl (by decide +kernel) q861 q862 q863 (Or.inl ⟨rfl, q864⟩) (show okN yX3_is 1 = true by decide +kernel) (fun H hR => hR.rvR G.1 h3) rfl rfl (by omega) rfl (fun Q' => row_is_ok G (d - 1) (by omega) p1 43 σ Q') (fun y53 => ?_)
                refine sm_bind1 (fun (v56 : Int) => V g mX9_scalar d 92 [(0, vr a1), (1, vi v56)] [] σ τ Q) (fun v56 => ?_) (fun K57 j58 => ?_)
                · refine sm_b (l' := [(0, vr a1), (1, vi v56)]) (st' := [vr a1]) (pc' := 93) [(.aload_n 0, vi 0, 93)] (by decide +kernel) rfl rfl ?_
                  refine sm_str (k := 44) G rfl (by decide +kernel) ?_
                  refine sm_st [vr (some (gK g 44)), vr (some p1)] (by rw [h2] <;> rfl) ?_
                  refine sm_cv (N := mX3_is) (d' := d - 1) (fun r => (some (vi r))) (fun _ => σ) (fun _ => τ) [vr (some (gK g 44))] [] rfl (by decide +kernel) q861 q862 q863 (Or.inl ⟨rfl, q864⟩) (show okN yX3_is 1 = true by decide +kernel) (fun H hR => hR.rvR G.1 h3) rfl rfl (by omega) rfl (fun Q' => row_is_ok G (d - 1) (by omega) p1 44 σ Q') (fun y60 => ?_)
                  refine sm_bind1 (fun (v63 : Int) => V g mX9_scalar d 104 [(0, vr a1), (1, vi v63)] [] σ τ Q) (fun v63 => ?_) (fun K64 j65 => ?_)
                  · refine sm_b (l' := [(0, vr a1), (1, vi v63)]) (st' := [vr a1]) (pc' := 105) [(.aload_n 0, vi 0, 105)] (by decide +kernel) rfl rfl ?_
                    refine sm_str (k := 45) G rfl (by decide +kernel) ?_
                    refine sm_st [vr (some (gK g 45)), vr (some p1)] (by rw [h2] <;> rfl) ?_
                    refine sm_cv (N := mX3_is) (d' := d - 1) (fun r => (some (vi r))) (fun _ => σ) (fun _ => τ) [vr (some (gK g 45))] [] rfl (by decide +kernel) q861 q862 q863 (Or.inl ⟨rfl, q864⟩) (show okN yX3_is 1 = true by decide +kernel) (fun H hR => hR.rvR G.1 h3) rfl rfl (by omega) rfl (fun Q' => row_is_ok G (d - 1) (by omega) p1 45 σ Q') (fun y67 => ?_)
                    refine sm_bind1 (fun (v70 : Int) => V g mX9_scalar d 116 [(0, vr a1), (1, vi v70)] [] σ τ Q) (fun v70 => ?_) (fun K71 j72 => ?_)
                    · refine sm_b (l' := [(0, vr a1), (1, vi v70)]) (st' := [vr a1]) (pc' := 117) [(.aload_n 0, vi 0, 117)] (by decide +kernel) rfl rfl ?_
                      refine sm_str (k := 46) G rfl (by decide +kernel) ?_
                      refine sm_st [vr (some (gK g 46)), vr (some p1)] (by rw [h2] <;> rfl) ?_
                      refine sm_cv (N := mX3_is) (d' := d - 1) (fun r => (some (vi r))) (fun _ => σ) (fun _ => τ) [vr (some (gK g 46))] [] rfl (by decide +kernel) q861 q862 q863 (Or.inl ⟨rfl, q864⟩) (show okN yX3_is 1 = true by decide +kernel) (fun H hR => hR.rvR G.1 h3) rfl rfl (by omega) rfl (fun Q' => row_is_ok G (d - 1) (by omega) p1 46 σ Q') (fun y74 => ?_)
                      refine sm_gd (fun h75 => ?_)
                      refine sm_case (V g mX9_scalar d 128 [(0, vr a1), (1, vi v70)] [] σ τ Q) (V g mX9_scalar d 125 [(0, vr a1), (1, vi v70)] [] σ τ Q) ?_ ?_ (fun f77 p78 n79 => ?_)
                      · refine sm_b (l' := [(0, vr a1), (1, vi v70)]) (st' := [vi v70]) (pc' := 129) [(.iload_n 1, vi 0, 129)] (by decide +kernel) rfl rfl ?_
                        exact sm_iret rfl (by decide +kernel) (fun h => hRET _ h)
                      · refine sm_b (l' := [(0, vr a1), (1, vi 10)]) (st' := [vi 10]) (pc' := 129) [(.bipush 10, vi 10, 127), (.istore_n 1, vi 0, 128), (.iload_n 1, vi 0, 129)] (by decide +kernel) rfl rfl ?_
                        exact sm_iret rfl (by decide +kernel) (fun h => hRET _ h)
                      refine sm_if_eq (off := 6) (tgt := 128) h75 (by decide +kernel) (fun c80 => ?_) (fun c80 => ?_)
                      · exact p78 c80
                      · exact n79 c80
                    · refine sm_gd (fun h68 => ?_)
                      refine sm_case (V g mX9_scalar d 116 [(0, vr a1), (1, vi v63)] [] σ τ Q) (V g mX9_scalar d 113 [(0, vr a1), (1, vi v63)] [] σ τ Q) ?_ ?_ (fun f81 p82 n83 => ?_)
                      · exact sm_leaf (fun h => j72 _ h)
                      · refine sm_b (l' := [(0, vr a1), (1, vi 9)]) (st' := []) (pc' := 116) [(.bipush 9, vi 9, 115), (.istore_n 1, vi 0, 116)] (by decide +kernel) rfl rfl ?_
                        exact sm_leaf (fun h => j72 _ h)
                      refine sm_if_eq (off := 6) (tgt := 116) h68 (by decide +kernel) (fun c84 => ?_) (fun c84 => ?_)
                      · exact p82 c84
                      · exact n83 c84
                  · refine sm_gd (fun h61 => ?_)
                    refine sm_case (V g mX9_scalar d 104 [(0, vr a1), (1, vi v56)] [] σ τ Q) (V g mX9_scalar d 101 [(0, vr a1), (1, vi v56)] [] σ τ Q) ?_ ?_ (fun f85 p86 n87 => ?_)
                    · exact sm_leaf (fun h => j65 _ h)
                    · refine sm_b (l' := [(0, vr a1), (1, vi 8)]) (st' := []) (pc' := 104) [(.bipush 8, vi 8, 103), (.istore_n 1, vi 0, 104)] (by decide +kernel) rfl rfl ?_
                      exact sm_leaf (fun h => j65 _ h)
                    refine sm_if_eq (off := 6) (tgt := 104) h61 (by decide +kernel) (fun c88 => ?_) (fun c88 => ?_)
                    · exact p86 c88
                    · exact n87 c88
                · refine sm_gd (fun h54 => ?_)
                  refine sm_case (V g mX9_scalar d 92 [(0, vr a1), (1, vi v49)] [] σ τ Q) (V g mX9_scalar d 89 [(0, vr a1), (1, vi v49)] [] σ τ Q) ?_ ?_ (fun f89 p90 n91 => ?_)
                  · exact sm_leaf (fun h => j58 _ h)
                  · refine sm_b (l' := [(0, vr a1), (1, vi 7)]) (st' := []) (pc' := 92) [(.bipush 7, vi 7, 91), (.istore_n 1, vi 0, 92)] (by decide +kernel) rfl rfl ?_
                    exact sm_leaf (fun h => j58 _ h)
                  refine sm_if_eq (off := 6) (tgt := 92) h54 (by decide +kernel) (fun c92 => ?_) (fun c92 => ?_)
                  · exact p90 c92
                  · exact n91 c92
              · refine sm_gd (fun h47 => ?_)
                refine sm_case (V g mX9_scalar d 80 [(0, vr a1), (1, vi v42)] [] σ τ Q) (V g mX9_scalar d 77 [(0, vr a1), (1, vi v42)] [] σ τ Q) ?_ ?_ (fun f93 p94 n95 => ?_)
                · exact sm_leaf (fun h => j51 _ h)
                · refine sm_b (l' := [(0, vr a1), (1, vi 6)]) (st' := []) (pc' := 80) [(.bipush 6, vi 6, 79), (.istore_n 1, vi 0, 80)] (by decide +kernel) rfl rfl ?_
                  exact sm_leaf (fun h => j51 _ h)
                refine sm_if_eq (off := 6) (tgt := 80) h47 (by decide +kernel) (fun c96 => ?_) (fun c96 => ?_)
                · exact p94 c96
                · exact n95 c96
            · refine sm_gd (fun h40 => ?_)
              refine sm_case (V g mX9_scalar d 68 [(0, vr a1), (1, vi v35)] [] σ τ Q) (V g mX9_scalar d 66 [(0, vr a1), (1, vi v35)] [] σ τ Q) ?_ ?_ (fun f97 p98 n99 => ?_)
              · exact sm_leaf (fun h => j44 _ h)
              · refine sm_b (l' := [(0, vr a1), (1, vi 5)]) (st' := []) (pc' := 68) [(.iconst 5, vi 5, 67), (.istore_n 1, vi 0, 68)] (by decide +kernel) rfl rfl ?_
                exact sm_leaf (fun h => j44 _ h)
              refine sm_if_eq (off := 5) (tgt := 68) h40 (by decide +kernel) (fun c100 => ?_) (fun c100 => ?_)
              · exact p98 c100
              · exact n99 c100
          · refine sm_gd (fun h33 => ?_)
            refine sm_case (V g mX9_scalar d 57 [(0, vr a1), (1, vi v28)] [] σ τ Q) (V g mX9_scalar d 55 [(0, vr a1), (1, vi v28)] [] σ τ Q) ?_ ?_ (fun f101 p102 n103 => ?_)
            · exact sm_leaf (fun h => j37 _ h)
            · refine sm_b (l' := [(0, vr a1), (1, vi 4)]) (st' := []) (pc' := 57) [(.iconst 4, vi 4, 56), (.istore_n 1, vi 0, 57)] (by decide +kernel) rfl rfl ?_
              exact sm_leaf (fun h => j37 _ h)
            refine sm_if_eq (off := 5) (tgt := 57) h33 (by decide +kernel) (fun c104 => ?_) (fun c104 => ?_)
            · exact p102 c104
            · exact n103 c104
        · refine sm_gd (fun h26 => ?_)
          refine sm_case (V g mX9_scalar d 46 [(0, vr a1), (1, vi v21)] [] σ τ Q) (V g mX9_scalar d 44 [(0, vr a1), (1, vi v21)] [] σ τ Q) ?_ ?_ (fun f105 p106 n107 => ?_)
          · exact sm_leaf (fun h => j30 _ h)
          · refine sm_b (l' := [(0, vr a1), (1, vi 3)]) (st' := []) (pc' := 46) [(.iconst 3, vi 3, 45), (.istore_n 1, vi 0, 46)] (by decide +kernel) rfl rfl ?_
            exact sm_leaf (fun h => j30 _ h)
          refine sm_if_eq (off := 5) (tgt := 46) h26 (by decide +kernel) (fun c108 => ?_) (fun c108 => ?_)
          · exact p106 c108
          · exact n107 c108
      · refine sm_gd (fun h19 => ?_)
        refine sm_case (V g mX9_scalar d 35 [(0, vr a1), (1, vi v14)] [] σ τ Q) (V g mX9_scalar d 33 [(0, vr a1), (1, vi v14)] [] σ τ Q) ?_ ?_ (fun f109 p110 n111 => ?_)
        · exact sm_leaf (fun h => j23 _ h)
        · refine sm_b (l' := [(0, vr a1), (1, vi 2)]) (st' := []) (pc' := 35) [(.iconst 2, vi 2, 34), (.istore_n 1, vi 0, 35)] (by decide +kernel) rfl rfl ?_
          exact sm_leaf (fun h => j23 _ h)
        refine sm_if_eq (off := 5) (tgt := 35) h19 (by decide +kernel) (fun c112 => ?_) (fun c112 => ?_)
        · exact p110 c112
        · exact n111 c112
    · refine sm_gd (fun h12 => ?_)
      refine sm_case (V g mX9_scalar d 24 [(0, vr a1), (1, vi v7)] [] σ τ Q) (V g mX9_scalar d 22 [(0, vr a1), (1, vi v7)] [] σ τ Q) ?_ ?_ (fun f113 p114 n115 => ?_)
      · exact sm_leaf (fun h => j16 _ h)
      · refine sm_b (l' := [(0, vr a1), (1, vi 1)]) (st' := []) (pc' := 24) [(.iconst 1, vi 1, 23), (.istore_n 1, vi 0, 24)] (by decide +kernel) rfl rfl ?_
        exact sm_leaf (fun h => j16 _ h)
      refine sm_if_eq (off := 5) (tgt := 24) h12 (by decide +kernel) (fun c116 => ?_) (fun c116 => ?_)
      · exact p114 c116
      · exact n115 c116
  · refine sm_gd (fun h5 => ?_)
    refine sm_case (V g mX9_scalar d 13 [(0, vr a1), (1, vi ((-1)))] [] σ τ Q) (V g mX9_scalar d 11 [(0, vr a1), (1, vi ((-1)))] [] σ τ Q) ?_ ?_ (fun f117 p118 n119 => ?_)
    · exact sm_leaf (fun h => j9 _ h)
    · refine sm_b (l' := [(0, vr a1), (1, vi 0)]) (st' := []) (pc' := 13) [(.iconst 0, vi 0, 12), (.istore_n 1, vi 0, 13)] (by decide +kernel) rfl rfl ?_
      exact sm_leaf (fun h => j9 _ h)
    refine sm_if_eq (off := 5) (tgt := 13) h5 (by decide +kernel) (fun c120 => ?_) (fun c120 => ?_)
    · exact p118 c120
    · exact n119 c120
def scp_message_L2 (u0 : Nat) (u1 : Option Nat) (σ : ST) : Nat → Int → Option ((Option Nat) ⊕ (Int))
  | 0, _ => none
  | n + 1, w2 => gd (sc σ u0 = 3) (Option.bind (sR σ 33 u0) fun p15 => gd (sc σ p15 = 16) (Option.bind (l_size p15 σ) fun y18 => gd (rg w2) (gd (rg y18) (if y18 ≤ w2 then (some (Sum.inl none)) else (Option.bind (l_get p15 w2 σ) fun y32 => Option.bind y32 fun p33 => gd (sc σ p33 = 7) (Option.bind (sR σ 97 p33) fun p36 => gd (sc σ p36 = 4) (Option.bind (r_same p36 u1 σ) fun y39 => gd (rg y39) (if y39 = 0 then (scp_message_L2 u0 u1 σ n (w2 + 1)) else (some (Sum.inr w2))))))))))
def scp_message (a0 : Nat) (a1 : Option Nat) (σ : ST) : Option (Option Nat) := Option.bind (scp_message_L2 a0 a1 σ FU 0) (Sum.elim some fun (v1 : Int) => gd (sc σ a0 = 3) (Option.bind (sR σ 33 a0) fun p6 => gd (sc σ p6 = 16) (Option.bind (l_get p6 v1 σ) fun y9 => Option.bind y9 fun p10 => gd (sc σ p10 = 7) (some ((some p10))))))
set_option maxHeartbeats 4000000 in
theorem scp_message_L2_ok {g : GE} (G : GG g) {τ : TT} {Q : VQ} (d : Nat) (hd1 : 4 ≤ d) (u0 : Nat) (u1 : Option Nat) (σ : ST)  {K : (Option Nat) ⊕ (Int) → Prop} (hRET : ∀ r : Option Nat, K (Sum.inl r) → Q.1 (some (vr r)) σ τ) (hE34 : ∀ v13 : Int, K (Sum.inr v13) → V g mX2_message d 34 [(0, vr (some u0)), (2, vi v13)] [] σ τ Q) : ∀ (n : Nat) (w2 : Int), Sm (V g mX2_message d 2 [(0, vr (some u0)), (1, vr u1), (2, vi w2)] [] σ τ Q) (scp_message_L2 u0 u1 σ n w2) K := by
  intro n
  induction n with
  | zero => intro w2; exact sm_none
  | succ n ih =>
    intro w2
    rw [scp_message_L2.eq_2]
    refine sm_b (l' := [(0, vr (some u0)), (1, vr u1), (2, vi w2)]) (st' := [vr (some u0), vi w2]) (pc' := 4) [(.iload_n 2, vi 0, 3), (.aload_n 0, vi 0, 4)] (by decide +kernel) rfl rfl ?_
    refine sm_gd (fun h14 => ?_)
    refine sm_g (k := 1) (x := vr (sR σ 33 u0)) cd2 rfl h14 rfl q215 rfl (by decide +kernel) ?_
    refine sm_de (fun p15 h16 => ?_)
    refine sm_st [vr (some p15), vi w2] (by rw [h16] <;> rfl) ?_
    refine sm_gd (fun h17 => ?_)
    refine sm_cv (N := mJ2_size) (d' := d - 1) (fun r => (some (vi r))) (fun _ => σ) (fun _ => τ) [] [vi w2] rfl (by decide +kernel) q881 q519 q520 (Or.inl ⟨rfl, q521⟩) (show okN yJ2_size 0 = true by decide +kernel) (fun H hR => hR.rvL G.1 h17) rfl rfl (by omega) rfl (fun Q' => l_size_ok G (d - 1) (by omega) p15 σ Q') (fun y18 => ?_)
    refine sm_gd (fun h19 => ?_)
    refine sm_gd (fun h20 => ?_)
    refine sm_case (V g mX2_message d 52 [(0, vr (some u0)), (1, vr u1), (2, vi w2)] [] σ τ Q) (V g mX2_message d 13 [(0, vr (some u0)), (1, vr u1), (2, vi w2)] [] σ τ Q) ?_ ?_ (fun f46 p47 n48 => ?_)
    · refine sm_b (l' := [(0, vr (some u0)), (1, vr u1), (2, vi w2)]) (st' := [vr none]) (pc' := 53) [(.aconst_null, vi 0, 53)] (by decide +kernel) rfl rfl ?_
      exact sm_aret rfl rfl (by decide +kernel) (fun h => hRET _ h)
    · refine sm_b (l' := [(0, vr (some u0)), (1, vr u1), (2, vi w2)]) (st' := [vr (some u0)]) (pc' := 14) [(.aload_n 0, vi 0, 14)] (by decide +kernel) rfl rfl ?_
      refine sm_g (k := 1) (x := vr (sR σ 33 u0)) cd2 rfl h14 rfl q215 rfl (by decide +kernel) ?_
      refine sm_b (l' := [(0, vr (some u0)), (1, vr u1), (2, vi w2)]) (st' := [vi w2, vr (sR σ 33 u0)]) (pc' := 18) [(.iload_n 2, vi 0, 18)] (by decide +kernel) rfl rfl ?_
      refine sm_st [vi w2, vr (some p15)] (by rw [h16] <;> rfl) ?_
      refine sm_cv (N := mJ2_get) (d' := d - 1) (fun r => (some (vr r))) (fun _ => σ) (fun _ => τ) [vi w2] [] rfl (by decide +kernel) q882 q791 q792 (Or.inl ⟨rfl, q793⟩) (show okN yJ2_get 1 = true by decide +kernel) (fun H hR => hR.rvL G.1 h17) rfl rfl (by omega) rfl (fun Q' => l_get_ok G (d - 1) (by omega) p15 w2 σ Q') (fun y32 => ?_)
      refine sm_de (fun p33 h34 => ?_)
      refine sm_st [vr (some p33)] (by rw [h34] <;> rfl) ?_
      refine sm_gd (fun h35 => ?_)
      refine sm_cast cd6 q883 (fun H hR => hR.rv G.1 cd6 rfl h35) (by decide +kernel) ?_
      refine sm_gN (k := 1) (x := vr (sR σ 97 p33)) cd6 rfl h35 rfl q555 rfl (by decide +kernel) ?_
      refine sm_b (l' := [(0, vr (some u0)), (1, vr u1), (2, vi w2)]) (st' := [vr u1, vr (sR σ 97 p33)]) (pc' := 28) [(.aload_n 1, vi 0, 28)] (by decide +kernel) rfl rfl ?_
      refine sm_de (fun p36 h37 => ?_)
      refine sm_st [vr u1, vr (some p36)] (by rw [h37] <;> rfl) ?_
      refine sm_gd (fun h38 => ?_)
      refine sm_cv (N := mX3_same) (d' := d - 1) (fun r => (some (vi r))) (fun _ => σ) (fun _ => τ) [vr u1] [] rfl (by decide +kernel) q884 q838 q839 (Or.inl ⟨rfl, q840⟩) (show okN yX3_same 1 = true by decide +kernel) (fun H hR => hR.rvR G.1 h38) rfl rfl (by omega) rfl (fun Q' => r_same_ok G (d - 1) (by omega) p36 u1 σ Q') (fun y39 => ?_)
      refine sm_gd (fun h40 => ?_)
      refine sm_case (V g mX2_message d 46 [(0, vr (some u0)), (1, vr u1), (2, vi w2)] [] σ τ Q) (V g mX2_message d 34 [(0, vr (some u0)), (1, vr u1), (2, vi w2)] [] σ τ Q) ?_ ?_ (fun f42 p43 n44 => ?_)
      · refine sm_b (l' := [(0, vr (some u0)), (1, vr u1), (2, vi (w2 + 1))]) (st' := []) (pc' := 2) [(.iinc 2 1, vi 1, 49), (.goto (-47), vi 0, 2)] (by decide +kernel) rfl rfl ?_
        exact ih (w2 + 1)
      · refine sm_pick [0, 2] (l' := [(0, vr (some u0)), (2, vi w2)]) rfl ?_
        exact sm_leaf (fun h => hE34 _ h)
      refine sm_if_eq (off := 15) (tgt := 46) h40 (by decide +kernel) (fun c45 => ?_) (fun c45 => ?_)
      · exact p43 c45
      · exact n44 c45
    refine sm_icmp_ge (off := 42) (tgt := 52) h19 h20 (by decide +kernel) (fun c49 => ?_) (fun c49 => ?_)
    · exact p47 c49
    · exact n48 c49
set_option maxHeartbeats 4000000 in
theorem scp_message_ok {g : GE} (G : GG g) {τ : TT} (d : Nat) (hd1 : 4 ≤ d) (a0 : Nat) (a1 : Option Nat)  (σ : ST) (Q : VQ) : Sm (V g mX2_message d 0 [(0, vr (some a0)), (1, vr a1)] [] σ τ Q) (scp_message a0 a1 σ) (fun r => Q.1 (some (vr r)) σ τ) := by
  unfold scp_message
  refine sm_top (fun K hRET => ?_)
  refine sm_b (l' := [(0, vr (some a0)), (1, vr a1), (2, vi 0)]) (st' := []) (pc' := 2) [(.iconst 0, vi 0, 1), (.istore_n 2, vi 0, 2)] (by decide +kernel) rfl rfl ?_
  refine sm_bindS (fun (v1 : Int) => V g mX2_message d 34 [(0, vr (some a0)), (2, vi v1)] [] σ τ Q) (fun v1 => ?_) (fun K2 o4 j3 => ?_)
  · refine sm_b (l' := [(0, vr (some a0)), (2, vi v1)]) (st' := [vr (some a0)]) (pc' := 35) [(.aload_n 0, vi 0, 35)] (by decide +kernel) rfl rfl ?_
    refine sm_gd (fun h5 => ?_)
    refine sm_g (k := 1) (x := vr (sR σ 33 a0)) cd2 rfl h5 rfl q215 rfl (by decide +kernel) ?_
    refine sm_b (l' := [(0, vr (some a0)), (2, vi v1)]) (st' := [vi v1, vr (sR σ 33 a0)]) (pc' := 39) [(.iload_n 2, vi 0, 39)] (by decide +kernel) rfl rfl ?_
    refine sm_de (fun p6 h7 => ?_)
    refine sm_st [vi v1, vr (some p6)] (by rw [h7] <;> rfl) ?_
    refine sm_gd (fun h8 => ?_)
    refine sm_cv (N := mJ2_get) (d' := d - 1) (fun r => (some (vr r))) (fun _ => σ) (fun _ => τ) [vi v1] [] rfl (by decide +kernel) q882 q791 q792 (Or.inl ⟨rfl, q793⟩) (show okN yJ2_get 1 = true by decide +kernel) (fun H hR => hR.rvL G.1 h8) rfl rfl (by omega) rfl (fun Q' => l_get_ok G (d - 1) (by omega) p6 v1 σ Q') (fun y9 => ?_)
    refine sm_de (fun p10 h11 => ?_)
    refine sm_st [vr (some p10)] (by rw [h11] <;> rfl) ?_
    refine sm_gd (fun h12 => ?_)
    refine sm_cast cd6 q883 (fun H hR => hR.rv G.1 cd6 rfl h12) (by decide +kernel) ?_
    exact sm_aret rfl rfl (by decide +kernel) (fun h => hRET _ h)
  · exact scp_message_L2_ok G d hd1 a0 a1 σ  (fun r h => hRET _ (o4 _ h)) (fun _ h => j3 _ h) FU 0
