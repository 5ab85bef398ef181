set_option maxRecDepth 100000
/-! the system: X11_take, X11_read, X10_of, X3_addText, X13_control -/
def wr_take (bb : Nat × Nat) (rec : Option Nat → Option Nat → Int → Int → ST → Option (Option Unit × ST)) (a1 : Option Nat) (a2 : Option Nat) (a3 : Option Nat) (a4 : Int) (a5 : Int) (σ : ST) : Option (Option Unit × ST) := Option.bind a2 fun p1 => gd (sc σ p1 = 9) (Option.bind (fd_isPlain p1 σ) fun y4 => gd (rg y4) (if y4 = 0 then (Option.bind a1 fun p8 => gd (sc σ p8 = 12) (Option.bind (wr_length bb p8 a4 σ) (tB (fun z => (none, z)) fun y12 σ13 => gd (rm bb σ13 5) (nm (nO σ13 13 5) fun σ15 => Option.bind (sl_init bb (sZ σ13) a2 σ15) fun y16 => gd (sc y16 p1 = 9) (Option.bind (if (sR y16 137 p1) = none then (gd (rm bb y16 2) (nm (nW y16) fun σ30 => gd (sc σ30 (sZ σ13) = 13) (nm (pR σ30 194 (sZ σ13) (some (sZ y16))) fun σ32 => gd (sc σ32 (sZ σ13) = 13) (gd (sc σ32 p8 = 12) (Option.bind (sR σ32 194 (sZ σ13)) fun p35 => gd (sc σ32 p35 = 4) (Option.bind (sR σ32 176 p8) fun p38 => Option.bind (r_addA bb p35 p38 (sI σ32 177 p8) y12 σ32) fun y40 => gd (sc y40 p1 = 9) (Option.bind (gd (rg (sI y40 132 p1)) (gd (¬ ((sI y40 132 p1) = 10) → sc y40 (sZ σ13) = 13) (gd (¬ ((sI y40 132 p1) = 10) → ¬ (sR y40 194 (sZ σ13)) = none) (gd (¬ ((sI y40 132 p1) = 10) → sc y40 (ad (sR y40 194 (sZ σ13))) = 4) (gd (¬ ((sI y40 132 p1) = 10) → ok (row_isText (ad (sR y40 194 (sZ σ13))) y40)) (gd (¬ ((sI y40 132 p1) = 10) → rg (vv (row_isText (ad (sR y40 194 (sZ σ13))) y40))) (if ((sI y40 132 p1) = 10) ∨ (¬ ((vv (row_isText (ad (sR y40 194 (sZ σ13))) y40)) = 0)) then (some 1) else (some 0)))))))) fun (v52 : Int) => Option.bind (s_must bb v52 y40) (tB (fun z => Sum.inl ((none, z))) fun y57 σ58 => gd (sc σ58 p8 = 12) (nm (pI σ58 177 p8 y12) fun σ60 => some (Sum.inr σ60)))))))))) else (Option.bind (gd (rg (sI y16 135 p1)) (if (sI y16 135 p1) = 0 then (Option.bind a3 fun p117 => gd (sc y16 p117 = 11) (Option.bind (vlu_get p117 a2 y16) fun y120 => some y120)) else (some none))) fun (v73 : Option Nat) => Option.bind (if v73 = none then (gd (rm bb y16 4) (nm (nO y16 11 4) fun σ107 => gd (sc σ107 p1 = 9) (Option.bind (vlu_init bb (sZ y16) (sR σ107 137 p1) σ107) fun y109 => some ((some (sZ y16), y109))))) else (Option.bind v73 fun p110 => gd (sc y16 p110 = 13) (some ((sR y16 195 p110, y16))))) fun (v82 : Option Nat × ST) => gd (sc v82.2 (sZ σ13) = 13) (nm (pR v82.2 195 (sZ σ13) v82.1) fun σ87 => Option.bind (gd (rg a5) (if 8 ≤ a5 then (some 0) else (some 1))) fun (v91 : Int) => Option.bind (s_must bb v91 σ87) (tB (fun z => Sum.inl ((none, z))) fun y96 σ97 => gd (sc σ97 (sZ σ13) = 13) (Option.bind (rec a1 (sR σ97 195 (sZ σ13)) y12 (a5 + 1) σ97) (tB (fun z => Sum.inl ((none, z))) fun y100 σ101 => some (Sum.inr σ101))))))) (Sum.elim some fun (v21 : ST) => Option.bind a3 fun p25 => gd (sc v21 p25 = 11) (Option.bind (vlu_put bb p25 (some (sZ σ13)) v21) fun y28 => some ((some (), y28))))))))) else (Option.bind a1 fun p129 => gd (sc σ p129 = 12) (Option.bind (wr_number bb p129 a2 a4 σ) (tB (fun z => (none, z)) fun y133 σ134 => Option.bind a3 fun p135 => gd (sc σ134 p135 = 11) (Option.bind (vlu_put bb p135 y133 σ134) fun y138 => some ((some (), y138))))))))
set_option maxHeartbeats 4000000 in
theorem wr_take_ok {g : GE} (G : GG g) {D : Nat} (rec : Option Nat → Option Nat → Int → Int → ST → Option (Option Unit × ST)) (hrec : ∀ (d : Nat), D ≤ d → ∀ {τ : TT} (a1 : Option Nat) (a2 : Option Nat) (a3 : Int) (a4 : Int) (σ : ST) (Q' : VQ), Sm (V g mX11_read d 0 [(0, vr a1), (1, vr a2), (2, vi a3), (3, vi a4)] [] σ τ Q') (rec a1 a2 a3 a4 σ) (fun r => tQ Q' τ (fun _ : Unit => none) r)) {τ : TT} (d : Nat) (hd1 : D + 1 ≤ d) (hd2 : 9 ≤ d) (a1 : Option Nat) (a2 : Option Nat) (a3 : Option Nat) (a4 : Int) (a5 : Int)  (σ : ST) (Q : VQ) : Sm (V g mX11_take d 0 [(0, vr a1), (1, vr a2), (2, vr a3), (3, vi a4), (4, vi a5)] [] σ τ Q) (wr_take (gRm g) rec a1 a2 a3 a4 a5 σ) (fun r => tQ Q τ (fun _ : Unit => none) r) := by
  unfold wr_take
  refine sm_top (fun K hRET => ?_)
  refine sm_b (l' := [(0, vr a1), (1, vr a2), (2, vr a3), (3, vi a4), (4, vi a5)]) (st' := [vr a2]) (pc' := 1) [(.aload_n 1, vi 0, 1)] (by decide +kernel) rfl rfl ?_
  refine sm_de (fun p1 h2 => ?_)
  refine sm_st [vr (some p1)] (by rw [h2] <;> rfl) ?_
  refine sm_gd (fun h3 => ?_)
  refine sm_cv (N := mX8_isPlain) (d' := d - 1) (fun r => (some (vi r))) (fun _ => σ) (fun _ => τ) [] [] rfl (by decide +kernel) q1006 q1000 q1001 (Or.inl ⟨rfl, q1002⟩) (show okN yX8_isPlain 0 = true by decide +kernel) (fun H hR => hR.rv G.1 cd8 rfl h3) rfl rfl (by omega) rfl (fun Q' => fd_isPlain_ok G (d - 1) (by omega) p1 σ Q') (fun y4 => ?_)
  refine sm_gd (fun h5 => ?_)
  refine sm_case (V g mX11_take d 18 [(0, vr a1), (1, vr a2), (2, vr a3), (3, vi a4), (4, vi a5)] [] σ τ Q) (V g mX11_take d 7 [(0, vr a1), (1, vr a2), (2, vr a3), (3, vi a4), (4, vi a5)] [] σ τ Q) ?_ ?_ (fun f139 p140 n141 => ?_)
  · refine sm_b (l' := [(0, vr a1), (1, vr a2), (2, vr a3), (3, vi a4), (4, vi a5)]) (st' := [vi a4, vr a1]) (pc' := 20) [(.aload_n 0, vi 0, 19), (.iload_n 3, vi 0, 20)] (by decide +kernel) rfl rfl ?_
    refine sm_de (fun p8 h9 => ?_)
    refine sm_st [vi a4, vr (some p8)] (by rw [h9] <;> rfl) ?_
    refine sm_gd (fun h10 => ?_)
    refine sm_cvT (N := mX11_length) (d' := d - 1) (fun r : Int => some (vi r)) (fun z => (none, z)) [vi a4] [] rfl (by decide +kernel) q1071 q1073 qs28 (Or.inl ⟨rfl, q1074⟩) (show okN yX11_length 1 = true by decide +kernel) (fun H hR => hR.rv G.1 cd11 rfl h10) rfl rfl (by omega) rfl (fun Q' => wr_length_ok G (d - 1) (by omega) p8 a4 σ Q') (fun z h => hRET _ h) (fun y12 σ13 => ?_)
    refine sm_b (l' := [(0, vr a1), (1, vr a2), (2, vr a3), (3, vi a4), (4, vi a5), (5, vi y12)]) (st' := []) (pc' := 25) [(.istore 5, vi 0, 25)] (by decide +kernel) rfl rfl ?_
    refine sm_gd (fun h14 => ?_)
    refine sm_new cd12 rfl q1011 q1012 q159 (new_12 σ13) h14 (by decide +kernel) ?_
    refine sm_nms (fun σ15 => ?_)
    refine sm_b (l' := [(0, vr a1), (1, vr a2), (2, vr a3), (3, vi a4), (4, vi a5), (5, vi y12)]) (st' := [vr a2, vr (some (sZ σ13)), vr (some (sZ σ13))]) (pc' := 30) [(.dup, vi 0, 29), (.aload_n 1, vi 0, 30)] (by decide +kernel) rfl rfl ?_
    refine sm_ci (N := mX12_init) (d' := d - 1) [vr a2] [vr (some (sZ σ13))] rfl (by decide +kernel) q1013 q1014 rfl q1015 rfl rfl (show okN yX12_init 1 = true by decide +kernel) rfl rfl (by omega) rfl (fun Q' => sl_init_ok G (d - 1) (by omega) (sZ σ13) a2 σ15 Q') (fun y16 => ?_)
    refine sm_b (l' := [(0, vr a1), (1, vr a2), (2, vr a3), (3, vi a4), (4, vi a5), (5, vi y12), (6, vr (some (sZ σ13)))]) (st' := [vr a2]) (pc' := 36) [(.astore 6, vi 0, 35), (.aload_n 1, vi 0, 36)] (by decide +kernel) rfl rfl ?_
    refine sm_st [vr (some p1)] (by rw [h2] <;> rfl) ?_
    refine sm_gd (fun h17 => ?_)
    refine sm_gN (k := 9) (x := vr (sR y16 137 p1)) cd8 rfl h17 rfl q755 rfl (by decide +kernel) ?_
    refine sm_bindS (fun (v21 : ST) => V g mX11_take d 186 [(2, vr a3), (6, vr (some (sZ σ13)))] [] v21 τ Q) (fun v21 => ?_) (fun K22 o24 j23 => ?_)
    · refine sm_b (l' := [(2, vr a3), (6, vr (some (sZ σ13)))]) (st' := [vr (some (sZ σ13)), vr a3]) (pc' := 189) [(.aload_n 2, vi 0, 187), (.aload 6, vi 0, 189)] (by decide +kernel) rfl rfl ?_
      refine sm_de (fun p25 h26 => ?_)
      refine sm_st [vr (some (sZ σ13)), vr (some p25)] (by rw [h26] <;> rfl) ?_
      refine sm_gd (fun h27 => ?_)
      refine sm_cv (N := mX10_put) (d' := d - 1) (fun r => none) (fun r => r) (fun _ => τ) [vr (some (sZ σ13))] [] rfl (by decide +kernel) q1055 q1056 q1057 (Or.inl ⟨rfl, q1058⟩) (show okN yX10_put 1 = true by decide +kernel) (fun H hR => hR.rv G.1 cd10 rfl h27) rfl rfl (by omega) rfl (fun Q' => vlu_put_ok G (d - 1) (by omega) p25 (some (sZ σ13)) v21 Q') (fun y28 => ?_)
      exact sm_vret rfl (by decide +kernel) (fun h => hRET _ h)
    · refine sm_case (V g mX11_take d 42 [(0, vr a1), (1, vr a2), (2, vr a3), (3, vi a4), (4, vi a5), (5, vi y12), (6, vr (some (sZ σ13)))] [] y16 τ Q) (V g mX11_take d 109 [(0, vr a1), (1, vr a2), (2, vr a3), (3, vi a4), (4, vi a5), (5, vi y12), (6, vr (some (sZ σ13)))] [] y16 τ Q) ?_ ?_ (fun f125 p126 n127 => ?_)
      · refine sm_b (l' := [(0, vr a1), (1, vr a2), (2, vr a3), (3, vi a4), (4, vi a5), (5, vi y12), (6, vr (some (sZ σ13)))]) (st' := [vr (some (sZ σ13))]) (pc' := 44) [(.aload 6, vi 0, 44)] (by decide +kernel) rfl rfl ?_
        refine sm_gd (fun h29 => ?_)
        refine sm_newRowN (i := 75) (i2 := 77) q1075 rfl q1076 h29 (by omega) rfl (by decide +kernel) (by decide +kernel) (by decide +kernel) ?_
        refine sm_nms (fun σ30 => ?_)
        refine sm_gd (fun h31 => ?_)
        refine sm_pN (k := 2) (x := vr (some (sZ y16))) cd12 rfl h31 rfl q1029 rfl (nar_r _ rfl) (fit_r _ rfl) rfl (at_pR σ30 194 (sZ σ13) (some (sZ y16))) (fp_194 σ30 (sZ σ13) (some (sZ y16))) (by decide +kernel) ?_
        refine sm_nms (fun σ32 => ?_)
        refine sm_b (l' := [(0, vr a1), (1, vr a2), (2, vr a3), (3, vi a4), (4, vi a5), (5, vi y12), (6, vr (some (sZ σ13)))]) (st' := [vr (some (sZ σ13))]) (pc' := 56) [(.aload 6, vi 0, 56)] (by decide +kernel) rfl rfl ?_
        refine sm_gd (fun h33 => ?_)
        refine sm_gN (k := 2) (x := vr (sR σ32 194 (sZ σ13))) cd12 rfl h33 rfl q1029 rfl (by decide +kernel) ?_
        refine sm_b (l' := [(0, vr a1), (1, vr a2), (2, vr a3), (3, vi a4), (4, vi a5), (5, vi y12), (6, vr (some (sZ σ13)))]) (st' := [vr a1, vr (sR σ32 194 (sZ σ13))]) (pc' := 60) [(.aload_n 0, vi 0, 60)] (by decide +kernel) rfl rfl ?_
        refine sm_st [vr (some p8), vr (sR σ32 194 (sZ σ13))] (by rw [h9] <;> rfl) ?_
        refine sm_gd (fun h34 => ?_)
        refine sm_g (k := 0) (x := vr (sR σ32 176 p8)) cd11 rfl h34 rfl q970 rfl (by decide +kernel) ?_
        refine sm_b (l' := [(0, vr a1), (1, vr a2), (2, vr a3), (3, vi a4), (4, vi a5), (5, vi y12), (6, vr (some (sZ σ13)))]) (st' := [vr a1, vr (sR σ32 176 p8), vr (sR σ32 194 (sZ σ13))]) (pc' := 64) [(.aload_n 0, vi 0, 64)] (by decide +kernel) rfl rfl ?_
        refine sm_st [vr (some p8), vr (sR σ32 176 p8), vr (sR σ32 194 (sZ σ13))] (by rw [h9] <;> rfl) ?_
        refine sm_g (k := 1) (x := vi (sI σ32 177 p8)) cd11 rfl h34 rfl q971 rfl (by decide +kernel) ?_
        refine sm_b (l' := [(0, vr a1), (1, vr a2), (2, vr a3), (3, vi a4), (4, vi a5), (5, vi y12), (6, vr (some (sZ σ13)))]) (st' := [vi y12, vi (sI σ32 177 p8), vr (sR σ32 176 p8), vr (sR σ32 194 (sZ σ13))]) (pc' := 69) [(.iload 5, vi 0, 69)] (by decide +kernel) rfl rfl ?_
        refine sm_de (fun p35 h36 => ?_)
        refine sm_st [vi y12, vi (sI σ32 177 p8), vr (sR σ32 176 p8), vr (some p35)] (by rw [h36] <;> rfl) ?_
        refine sm_gd (fun h37 => ?_)
        refine sm_de (fun p38 h39 => ?_)
        refine sm_st [vi y12, vi (sI σ32 177 p8), vr (some p38), vr (some p35)] (by rw [h39] <;> rfl) ?_
        refine sm_cv (N := mX3_addAll) (d' := d - 1) (fun r => none) (fun r => r) (fun _ => τ) [vr (some p38), vi (sI σ32 177 p8), vi y12] [] rfl (by decide +kernel) q1077 q531 q532 (Or.inl ⟨rfl, q533⟩) (show okN yX3_addAll 3 = true by decide +kernel) (fun H hR => hR.rvR G.1 h37) rfl rfl (by omega) rfl (fun Q' => r_addA_ok G (d - 1) (by omega) p35 p38 (sI σ32 177 p8) y12 σ32 Q') (fun y40 => ?_)
        refine sm_b (l' := [(0, vr a1), (1, vr a2), (2, vr a3), (3, vi a4), (4, vi a5), (5, vi y12), (6, vr (some (sZ σ13)))]) (st' := [vr a2]) (pc' := 73) [(.aload_n 1, vi 0, 73)] (by decide +kernel) rfl rfl ?_
        refine sm_st [vr (some p1)] (by rw [h2] <;> rfl) ?_
        refine sm_gd (fun h41 => ?_)
        refine sm_gN (k := 4) (x := vi (sI y40 132 p1)) cd8 rfl h41 rfl q734 rfl (by decide +kernel) ?_
        refine sm_b (l' := [(0, vr a1), (1, vr a2), (2, vr a3), (3, vi a4), (4, vi a5), (5, vi y12), (6, vr (some (sZ σ13)))]) (st' := [vi 10, vi (sI y40 132 p1)]) (pc' := 78) [(.bipush 10, vi 10, 78)] (by decide +kernel) rfl rfl ?_
        refine sm_bind1 (fun (v52 : Int) => V g mX11_take d 97 [(0, vr a1), (2, vr a3), (5, vi y12), (6, vr (some (sZ σ13)))] [vi v52] y40 τ Q) (fun v52 => ?_) (fun K53 j54 => ?_)
        · refine sm_csTE (N := mX11_must) (d' := d - 1) (fun _ : Unit => none) (fun z => Sum.inl ((none, z))) [vi v52] [] rfl (by decide +kernel) q984 q985 q158 (Or.inl ⟨rfl, q986⟩) (show okN yX11_must 1 = true by decide +kernel) rfl rfl (by omega) rfl (fun Q' => wr_must_ok G (d - 1) (by omega) v52 y40 Q') (fun z h => hRET _ (o24 _ h)) (fun y57 σ58 => ?_)
          refine sm_b (l' := [(0, vr a1), (2, vr a3), (5, vi y12), (6, vr (some (sZ σ13)))]) (st' := [vi y12, vr a1]) (pc' := 103) [(.aload_n 0, vi 0, 101), (.iload 5, vi 0, 103)] (by decide +kernel) rfl rfl ?_
          refine sm_st [vi y12, vr (some p8)] (by rw [h9] <;> rfl) ?_
          refine sm_gd (fun h59 => ?_)
          refine sm_p (k := 1) (x := vi y12) cd11 rfl h59 rfl q971 rfl (nar_i _) (fit_i _) rfl (at_pI σ58 177 p8 y12) (fp_177 σ58 p8 y12) (by decide +kernel) ?_
          refine sm_nms (fun σ60 => ?_)
          refine sm_b (l' := [(0, vr a1), (2, vr a3), (5, vi y12), (6, vr (some (sZ σ13)))]) (st' := []) (pc' := 186) [(.goto 80, vi 0, 186)] (by decide +kernel) rfl rfl ?_
          refine sm_pick [1, 3] (l' := [(2, vr a3), (6, vr (some (sZ σ13)))]) rfl ?_
          exact sm_leaf (fun h => j23 _ h)
        · refine sm_gd (fun h42 => ?_)
          refine sm_gd (fun h44 => ?_)
          refine sm_gd (fun h45 => ?_)
          refine sm_gd (fun h47 => ?_)
          refine sm_gd (fun h48 => ?_)
          refine sm_gd (fun h49 => ?_)
          refine sm_case (V g mX11_take d 92 [(0, vr a1), (1, vr a2), (2, vr a3), (3, vi a4), (4, vi a5), (5, vi y12), (6, vr (some (sZ σ13)))] [] y40 τ Q) (V g mX11_take d 96 [(0, vr a1), (1, vr a2), (2, vr a3), (3, vi a4), (4, vi a5), (5, vi y12), (6, vr (some (sZ σ13)))] [] y40 τ Q) ?_ ?_ (fun f61 p62 n63 => ?_)
          · refine sm_b (l' := [(0, vr a1), (1, vr a2), (2, vr a3), (3, vi a4), (4, vi a5), (5, vi y12), (6, vr (some (sZ σ13)))]) (st' := [vi 1]) (pc' := 97) [(.iconst 1, vi 1, 93), (.goto 4, vi 0, 97)] (by decide +kernel) rfl rfl ?_
            refine sm_pick [0, 2, 5, 6] (l' := [(0, vr a1), (2, vr a3), (5, vi y12), (6, vr (some (sZ σ13)))]) rfl ?_
            exact sm_leaf (fun h => j54 _ h)
          · refine sm_b (l' := [(0, vr a1), (1, vr a2), (2, vr a3), (3, vi a4), (4, vi a5), (5, vi y12), (6, vr (some (sZ σ13)))]) (st' := [vi 0]) (pc' := 97) [(.iconst 0, vi 0, 97)] (by decide +kernel) rfl rfl ?_
            refine sm_pick [0, 2, 5, 6] (l' := [(0, vr a1), (2, vr a3), (5, vi y12), (6, vr (some (sZ σ13)))]) rfl ?_
            exact sm_leaf (fun h => j54 _ h)
          refine sm_icmp_eq (off := 14) (tgt := 92) h42 (by decide) (by decide +kernel) (fun c64 => ?_) (fun c64 => ?_)
          · exact p62 (Or.inl c64)
          · have w43 : ¬ ((sI y40 132 p1) = 10) := c64
            refine sm_b (l' := [(0, vr a1), (1, vr a2), (2, vr a3), (3, vi a4), (4, vi a5), (5, vi y12), (6, vr (some (sZ σ13)))]) (st' := [vr (some (sZ σ13))]) (pc' := 83) [(.aload 6, vi 0, 83)] (by decide +kernel) rfl rfl ?_
            refine sm_gN (k := 2) (x := vr (sR y40 194 (sZ σ13))) cd12 rfl (h44 w43) rfl q1029 rfl (by decide +kernel) ?_
            have q46 := (ad_some (h45 w43))
            refine sm_st [vr (some (ad (sR y40 194 (sZ σ13))))] (congrArg (fun z => [vr z]) q46) ?_
            refine sm_cvp (N := mX3_isText) (d' := d - 1) (fun r => (some (vi r))) (some (vi (vv (row_isText (ad (sR y40 194 (sZ σ13))) y40)))) (h48 w43) (fun y h => by rw [vv_some h]) [] [] rfl (by decide +kernel) q1078 q1079 q1080 (Or.inl ⟨rfl, q1081⟩) (show okN yX3_isText 0 = true by decide +kernel) (fun H hR => hR.rvR G.1 (h47 w43)) rfl rfl (by omega) rfl (fun Q' => row_isText_ok G (d - 1) (by omega) (ad (sR y40 194 (sZ σ13))) y40 Q') ?_
            refine sm_if_eq (off := 7) (tgt := 96) (h49 w43) (by decide +kernel) (fun c65 => ?_) (fun c65 => ?_)
            · exact n63 (fun q => q.elim c64 (fun q => q c65))
            · exact p62 (Or.inr c65)
      · refine sm_b (l' := [(0, vr a1), (1, vr a2), (2, vr a3), (3, vi a4), (4, vi a5), (5, vi y12), (6, vr (some (sZ σ13)))]) (st' := [vr a2]) (pc' := 110) [(.aload_n 1, vi 0, 110)] (by decide +kernel) rfl rfl ?_
        refine sm_st [vr (some p1)] (by rw [h2] <;> rfl) ?_
        refine sm_gN (k := 7) (x := vi (sI y16 135 p1)) cd8 rfl h17 rfl q746 rfl (by decide +kernel) ?_
        refine sm_bind1 (fun (v73 : Option Nat) => V g mX11_take d 125 [(0, vr a1), (1, vr a2), (2, vr a3), (4, vi a5), (5, vi y12), (6, vr (some (sZ σ13)))] [vr v73] y16 τ Q) (fun v73 => ?_) (fun K74 j75 => ?_)
        · refine sm_b (l' := [(0, vr a1), (1, vr a2), (2, vr a3), (4, vi a5), (5, vi y12), (6, vr (some (sZ σ13))), (7, vr v73)]) (st' := [vr v73, vr (some (sZ σ13))]) (pc' := 131) [(.astore 7, vi 0, 127), (.aload 6, vi 0, 129), (.aload 7, vi 0, 131)] (by decide +kernel) rfl rfl ?_
          refine sm_bind1 (fun (v82 : Option Nat × ST) => V g mX11_take d 153 [(0, vr a1), (2, vr a3), (4, vi a5), (5, vi y12), (6, vr (some (sZ σ13)))] [vr v82.1, vr (some (sZ σ13))] v82.2 τ Q) (fun v82 => ?_) (fun K83 j84 => ?_)
          · refine sm_gd (fun h86 => ?_)
            refine sm_pN (k := 3) (x := vr v82.1) cd12 rfl h86 rfl q1034 rfl (nar_r _ rfl) (fit_r _ rfl) rfl (at_pR v82.2 195 (sZ σ13) v82.1) (fp_195 v82.2 (sZ σ13) v82.1) (by decide +kernel) ?_
            refine sm_nms (fun σ87 => ?_)
            refine sm_b (l' := [(0, vr a1), (2, vr a3), (4, vi a5), (5, vi y12), (6, vr (some (sZ σ13)))]) (st' := [vi 8, vi a5]) (pc' := 160) [(.iload 4, vi 0, 158), (.bipush 8, vi 8, 160)] (by decide +kernel) rfl rfl ?_
            refine sm_bind1 (fun (v91 : Int) => V g mX11_take d 168 [(0, vr a1), (2, vr a3), (4, vi a5), (5, vi y12), (6, vr (some (sZ σ13)))] [vi v91] σ87 τ Q) (fun v91 => ?_) (fun K92 j93 => ?_)
            · refine sm_csTE (N := mX11_must) (d' := d - 1) (fun _ : Unit => none) (fun z => Sum.inl ((none, z))) [vi v91] [] rfl (by decide +kernel) q984 q985 q158 (Or.inl ⟨rfl, q986⟩) (show okN yX11_must 1 = true by decide +kernel) rfl rfl (by omega) rfl (fun Q' => wr_must_ok G (d - 1) (by omega) v91 σ87 Q') (fun z h => hRET _ (o24 _ h)) (fun y96 σ97 => ?_)
              refine sm_b (l' := [(0, vr a1), (2, vr a3), (4, vi a5), (5, vi y12), (6, vr (some (sZ σ13)))]) (st' := [vr (some (sZ σ13)), vr a1]) (pc' := 174) [(.aload_n 0, vi 0, 172), (.aload 6, vi 0, 174)] (by decide +kernel) rfl rfl ?_
              refine sm_gd (fun h98 => ?_)
              refine sm_gN (k := 3) (x := vr (sR σ97 195 (sZ σ13))) cd12 rfl h98 rfl q1034 rfl (by decide +kernel) ?_
              refine sm_b (l' := [(0, vr a1), (2, vr a3), (4, vi a5), (5, vi y12), (6, vr (some (sZ σ13)))]) (st' := [vi (a5 + 1), vi y12, vr (sR σ97 195 (sZ σ13)), vr a1]) (pc' := 183) [(.iload 5, vi 0, 179), (.iload 4, vi 0, 181), (.iconst 1, vi 1, 182), (.iadd, vi 0, 183)] (by decide +kernel) rfl rfl ?_
              refine sm_csT (N := mX11_read) (d' := d - 1) (fun _ : Unit => none) (fun z => Sum.inl ((none, z))) [vr a1, vr (sR σ97 195 (sZ σ13)), vi y12, vi (a5 + 1)] [] rfl (by decide +kernel) q1093 q978 q158 (Or.inl ⟨rfl, q979⟩) (show okN yX11_read 4 = true by decide +kernel) rfl rfl (by omega) rfl (fun Q' => hrec (d - 1) (by omega) a1 (sR σ97 195 (sZ σ13)) y12 (a5 + 1) σ97 Q') (fun z h => hRET _ (o24 _ h)) (fun y100 σ101 => ?_)
              refine sm_pick [1, 4] (l' := [(2, vr a3), (6, vr (some (sZ σ13)))]) rfl ?_
              exact sm_leaf (fun h => j23 _ h)
            · refine sm_gd (fun h88 => ?_)
              refine sm_case (V g mX11_take d 167 [(0, vr a1), (2, vr a3), (4, vi a5), (5, vi y12), (6, vr (some (sZ σ13)))] [] σ87 τ Q) (V g mX11_take d 163 [(0, vr a1), (2, vr a3), (4, vi a5), (5, vi y12), (6, vr (some (sZ σ13)))] [] σ87 τ Q) ?_ ?_ (fun f102 p103 n104 => ?_)
              · refine sm_b (l' := [(0, vr a1), (2, vr a3), (4, vi a5), (5, vi y12), (6, vr (some (sZ σ13)))]) (st' := [vi 0]) (pc' := 168) [(.iconst 0, vi 0, 168)] (by decide +kernel) rfl rfl ?_
                exact sm_leaf (fun h => j93 _ h)
              · refine sm_b (l' := [(0, vr a1), (2, vr a3), (4, vi a5), (5, vi y12), (6, vr (some (sZ σ13)))]) (st' := [vi 1]) (pc' := 168) [(.iconst 1, vi 1, 164), (.goto 4, vi 0, 168)] (by decide +kernel) rfl rfl ?_
                exact sm_leaf (fun h => j93 _ h)
              refine sm_icmp_ge (off := 7) (tgt := 167) h88 (by decide) (by decide +kernel) (fun c105 => ?_) (fun c105 => ?_)
              · exact p103 c105
              · exact n104 c105
          · refine sm_case (V g mX11_take d 134 [(0, vr a1), (1, vr a2), (2, vr a3), (4, vi a5), (5, vi y12), (6, vr (some (sZ σ13))), (7, vr v73)] [vr (some (sZ σ13))] y16 τ Q) (V g mX11_take d 148 [(0, vr a1), (1, vr a2), (2, vr a3), (4, vi a5), (5, vi y12), (6, vr (some (sZ σ13))), (7, vr v73)] [vr (some (sZ σ13))] y16 τ Q) ?_ ?_ (fun f113 p114 n115 => ?_)
            · refine sm_gd (fun h106 => ?_)
              refine sm_new cd10 rfl q1091 q940 q157 (new_10 y16) h106 (by decide +kernel) ?_
              refine sm_nms (fun σ107 => ?_)
              refine sm_b (l' := [(0, vr a1), (1, vr a2), (2, vr a3), (4, vi a5), (5, vi y12), (6, vr (some (sZ σ13))), (7, vr v73)]) (st' := [vr a2, vr (some (sZ y16)), vr (some (sZ y16)), vr (some (sZ σ13))]) (pc' := 139) [(.dup, vi 0, 138), (.aload_n 1, vi 0, 139)] (by decide +kernel) rfl rfl ?_
              refine sm_st [vr (some p1), vr (some (sZ y16)), vr (some (sZ y16)), vr (some (sZ σ13))] (by rw [h2] <;> rfl) ?_
              refine sm_gd (fun h108 => ?_)
              refine sm_gN (k := 9) (x := vr (sR σ107 137 p1)) cd8 rfl h108 rfl q755 rfl (by decide +kernel) ?_
              refine sm_ci (N := mX10_init) (d' := d - 1) [vr (sR σ107 137 p1)] [vr (some (sZ y16)), vr (some (sZ σ13))] rfl (by decide +kernel) q1092 q942 rfl q943 rfl rfl (show okN yX10_init 1 = true by decide +kernel) rfl rfl (by omega) rfl (fun Q' => vlu_init_ok G (d - 1) (by omega) (sZ y16) (sR σ107 137 p1) σ107 Q') (fun y109 => ?_)
              refine sm_b (l' := [(0, vr a1), (1, vr a2), (2, vr a3), (4, vi a5), (5, vi y12), (6, vr (some (sZ σ13))), (7, vr v73)]) (st' := [vr (some (sZ y16)), vr (some (sZ σ13))]) (pc' := 153) [(.goto 8, vi 0, 153)] (by decide +kernel) rfl rfl ?_
              refine sm_pick [0, 2, 3, 4, 5] (l' := [(0, vr a1), (2, vr a3), (4, vi a5), (5, vi y12), (6, vr (some (sZ σ13)))]) rfl ?_
              exact sm_leaf (fun h => j84 _ h)
            · refine sm_b (l' := [(0, vr a1), (1, vr a2), (2, vr a3), (4, vi a5), (5, vi y12), (6, vr (some (sZ σ13))), (7, vr v73)]) (st' := [vr v73, vr (some (sZ σ13))]) (pc' := 150) [(.aload 7, vi 0, 150)] (by decide +kernel) rfl rfl ?_
              refine sm_de (fun p110 h111 => ?_)
              refine sm_st [vr (some p110), vr (some (sZ σ13))] (by rw [h111] <;> rfl) ?_
              refine sm_gd (fun h112 => ?_)
              refine sm_gN (k := 3) (x := vr (sR y16 195 p110)) cd12 rfl h112 rfl q1034 rfl (by decide +kernel) ?_
              refine sm_pick [0, 2, 3, 4, 5] (l' := [(0, vr a1), (2, vr a3), (4, vi a5), (5, vi y12), (6, vr (some (sZ σ13)))]) rfl ?_
              exact sm_leaf (fun h => j84 _ h)
            refine sm_ifnonnull (off := 17) (tgt := 148) (by decide +kernel) (fun c116 => ?_) (fun c116 => ?_)
            · exact n115 c116
            · exact p114 c116
        · refine sm_gd (fun h66 => ?_)
          refine sm_case (V g mX11_take d 120 [(0, vr a1), (1, vr a2), (2, vr a3), (3, vi a4), (4, vi a5), (5, vi y12), (6, vr (some (sZ σ13)))] [] y16 τ Q) (V g mX11_take d 116 [(0, vr a1), (1, vr a2), (2, vr a3), (3, vi a4), (4, vi a5), (5, vi y12), (6, vr (some (sZ σ13)))] [] y16 τ Q) ?_ ?_ (fun f121 p122 n123 => ?_)
          · refine sm_b (l' := [(0, vr a1), (1, vr a2), (2, vr a3), (3, vi a4), (4, vi a5), (5, vi y12), (6, vr (some (sZ σ13)))]) (st' := [vr a2, vr a3]) (pc' := 122) [(.aload_n 2, vi 0, 121), (.aload_n 1, vi 0, 122)] (by decide +kernel) rfl rfl ?_
            refine sm_de (fun p117 h118 => ?_)
            refine sm_st [vr a2, vr (some p117)] (by rw [h118] <;> rfl) ?_
            refine sm_gd (fun h119 => ?_)
            refine sm_cv (N := mX10_get) (d' := d - 1) (fun r => (some (vr r))) (fun _ => y16) (fun _ => τ) [vr a2] [] rfl (by decide +kernel) q1087 q1088 q1089 (Or.inl ⟨rfl, q1090⟩) (show okN yX10_get 1 = true by decide +kernel) (fun H hR => hR.rv G.1 cd10 rfl h119) rfl rfl (by omega) rfl (fun Q' => vlu_get_ok G (d - 1) (by omega) p117 a2 y16 Q') (fun y120 => ?_)
            refine sm_pick [0, 1, 2, 4, 5, 6] (l' := [(0, vr a1), (1, vr a2), (2, vr a3), (4, vi a5), (5, vi y12), (6, vr (some (sZ σ13)))]) rfl ?_
            exact sm_leaf (fun h => j75 _ h)
          · refine sm_b (l' := [(0, vr a1), (1, vr a2), (2, vr a3), (3, vi a4), (4, vi a5), (5, vi y12), (6, vr (some (sZ σ13)))]) (st' := [vr none]) (pc' := 125) [(.aconst_null, vi 0, 117), (.goto 8, vi 0, 125)] (by decide +kernel) rfl rfl ?_
            refine sm_pick [0, 1, 2, 4, 5, 6] (l' := [(0, vr a1), (1, vr a2), (2, vr a3), (4, vi a5), (5, vi y12), (6, vr (some (sZ σ13)))]) rfl ?_
            exact sm_leaf (fun h => j75 _ h)
          refine sm_if_eq (off := 7) (tgt := 120) h66 (by decide +kernel) (fun c124 => ?_) (fun c124 => ?_)
          · exact p122 c124
          · exact n123 c124
      refine sm_ifnonnull (off := 70) (tgt := 109) (by decide +kernel) (fun c128 => ?_) (fun c128 => ?_)
      · exact n127 c128
      · exact p126 c128
  · refine sm_b (l' := [(0, vr a1), (1, vr a2), (2, vr a3), (3, vi a4), (4, vi a5)]) (st' := [vi a4, vr a2, vr a1, vr a3]) (pc' := 11) [(.aload_n 2, vi 0, 8), (.aload_n 0, vi 0, 9), (.aload_n 1, vi 0, 10), (.iload_n 3, vi 0, 11)] (by decide +kernel) rfl rfl ?_
    refine sm_de (fun p129 h130 => ?_)
    refine sm_st [vi a4, vr a2, vr (some p129), vr a3] (by rw [h130] <;> rfl) ?_
    refine sm_gd (fun h131 => ?_)
    refine sm_cvT (N := mX11_number) (d' := d - 1) (fun r : Option Nat => some (vr r)) (fun z => (none, z)) [vr a2, vi a4] [vr a3] rfl (by decide +kernel) q1007 q1009 qs25 (Or.inl ⟨rfl, q1010⟩) (show okN yX11_number 2 = true by decide +kernel) (fun H hR => hR.rv G.1 cd11 rfl h131) rfl rfl (by omega) rfl (fun Q' => wr_number_ok G (d - 1) (by omega) p129 a2 a4 σ Q') (fun z h => hRET _ h) (fun y133 σ134 => ?_)
    refine sm_de (fun p135 h136 => ?_)
    refine sm_st [vr y133, vr (some p135)] (by rw [h136] <;> rfl) ?_
    refine sm_gd (fun h137 => ?_)
    refine sm_cv (N := mX10_put) (d' := d - 1) (fun r => none) (fun r => r) (fun _ => τ) [vr y133] [] rfl (by decide +kernel) q1055 q1056 q1057 (Or.inl ⟨rfl, q1058⟩) (show okN yX10_put 1 = true by decide +kernel) (fun H hR => hR.rv G.1 cd10 rfl h137) rfl rfl (by omega) rfl (fun Q' => vlu_put_ok G (d - 1) (by omega) p135 y133 σ134 Q') (fun y138 => ?_)
    exact sm_vret rfl (by decide +kernel) (fun h => hRET _ h)
  refine sm_if_eq (off := 14) (tgt := 18) h5 (by decide +kernel) (fun c142 => ?_) (fun c142 => ?_)
  · exact p140 c142
  · exact n141 c142
def wr_read_L138 (bb : Nat × Nat) (rec : Option Nat → Option Nat → Int → Int → ST → Option (Option Unit × ST)) (u0 : Option Nat) (u1 : Option Nat) (u2 : Int) (u3 : Int) (u9 : Option Nat) (u10 : Int) : Nat → ST → Option (((Option Unit × ST) ⊕ (ST)) ⊕ (ST))
  | 0, _ => none
  | n + 1, σ => Option.bind u0 fun p72 => gd (sc σ p72 = 12) (gd (rg (sI σ 177 p72)) (gd (rg u10) (if u10 ≤ (sI σ 177 p72) then (some (Sum.inr σ)) else (Option.bind (wr_number bb p72 u9 u10 σ) (tB (fun z => Sum.inl (Sum.inl ((none, z)))) fun y79 σ80 => Option.bind u1 fun p81 => gd (sc σ80 p81 = 11) (Option.bind (vlu_put bb p81 y79 σ80) fun y84 => wr_read_L138 bb rec u0 u1 u2 u3 u9 u10 n y84))))))
def wr_read_L0 (bb : Nat × Nat) (rec : Option Nat → Option Nat → Int → Int → ST → Option (Option Unit × ST)) (u0 : Option Nat) (u1 : Option Nat) (u2 : Int) (u3 : Int) : Nat → ST → Option (Option Unit × ST)
  | 0, _ => none
  | n + 1, σ => Option.bind u0 fun p1 => gd (sc σ p1 = 12) (gd (rg (sI σ 177 p1)) (gd (rg u2) (if u2 ≤ (sI σ 177 p1) then (some ((some (), σ))) else (Option.bind (wr_varint bb p1 u2 σ) (tB (fun z => (none, z)) fun y9 σ10 => nm (lI (y9 &&& 7)) fun x11 => nm (lUsh y9 3) fun x12 => Option.bind (if (x12 ≤ 0) ∨ (536870911 < x12) then (some 0) else (gd (rg x11) (if (x11 < 3) ∨ (x11 = 5) then (some 1) else (some 0)))) fun (v16 : Int) => Option.bind (s_must bb v16 σ10) (tB (fun z => (none, z)) fun y21 σ22 => Option.bind u1 fun p23 => gd (sc σ22 p23 = 11) (Option.bind (sR σ22 160 p23) fun p26 => gd (sc σ22 p26 = 7) (Option.bind (mt_byNumber p26 x12 σ22) fun y29 => Option.bind (gd (¬ (y29 = none) → ¬ y29 = none) (gd (¬ (y29 = none) → sc σ22 (ad y29) = 9) (gd (¬ (y29 = none) → ok (fd_wire (ad y29) σ22)) (gd (¬ (y29 = none) → rg x11) (gd (¬ (y29 = none) → rg (vv (fd_wire (ad y29) σ22))) (if (y29 = none) ∨ (¬ (x11 = (vv (fd_wire (ad y29) σ22)))) then (gd (¬ (y29 = none) → ¬ y29 = none) (gd (¬ (y29 = none) → sc σ22 (ad y29) = 9) (gd (¬ (y29 = none) → rg (sI σ22 135 (ad y29))) (gd (¬ ((y29 = none) ∨ ((sI σ22 135 (ad y29)) = 0)) → ¬ y29 = none) (gd (¬ ((y29 = none) ∨ ((sI σ22 135 (ad y29)) = 0)) → sc σ22 (ad y29) = 9) (gd (¬ ((y29 = none) ∨ ((sI σ22 135 (ad y29)) = 0)) → ok (fd_isPlain (ad y29) σ22)) (gd (¬ ((y29 = none) ∨ ((sI σ22 135 (ad y29)) = 0)) → rg (vv (fd_isPlain (ad y29) σ22))) (gd (¬ (((y29 = none) ∨ ((sI σ22 135 (ad y29)) = 0)) ∨ ((vv (fd_isPlain (ad y29) σ22)) = 0)) → rg x11) (if (((y29 = none) ∨ ((sI σ22 135 (ad y29)) = 0)) ∨ ((vv (fd_isPlain (ad y29) σ22)) = 0)) ∨ (¬ (x11 = 2)) then (gd (sc σ22 p1 = 12) (Option.bind (wr_skip bb p1 x11 u2 σ22) (tB (fun z => Sum.inl ((none, z))) fun y60 σ61 => some (Sum.inr σ61)))) else (gd (sc σ22 p1 = 12) (Option.bind (wr_length bb p1 u2 σ22) (tB (fun z => Sum.inl ((none, z))) fun y64 σ65 => Option.bind (wr_read_L138 bb rec u0 u1 u2 u3 y29 y64 FU σ65) (Sum.elim some fun (v66 : ST) => some (Sum.inr v66)))))))))))))) else (Option.bind (wr_take bb rec u0 y29 u1 u2 u3 σ22) (tB (fun z => Sum.inl ((none, z))) fun y97 σ98 => some (Sum.inr σ98))))))))) (Sum.elim some fun (v39 : ST) => wr_read_L0 bb rec u0 u1 u2 u3 n v39)))))))))
def wr_readb (bb : Nat × Nat) (rec : Option Nat → Option Nat → Int → Int → ST → Option (Option Unit × ST)) (a1 : Option Nat) (a2 : Option Nat) (a3 : Int) (a4 : Int) (σ : ST) : Option (Option Unit × ST) := wr_read_L0 bb rec a1 a2 a3 a4 FU σ
set_option maxHeartbeats 4000000 in
theorem wr_read_L138_ok {g : GE} (G : GG g) {D : Nat} (rec : Option Nat → Option Nat → Int → Int → ST → Option (Option Unit × ST)) (hrec : ∀ (d : Nat), D ≤ d → ∀ {τ : TT} (a1 : Option Nat) (a2 : Option Nat) (a3 : Int) (a4 : Int) (σ : ST) (Q' : VQ), Sm (V g mX11_read d 0 [(0, vr a1), (1, vr a2), (2, vi a3), (3, vi a4)] [] σ τ Q') (rec a1 a2 a3 a4 σ) (fun r => tQ Q' τ (fun _ : Unit => none) r)) {τ : TT} {Q : VQ} (d : Nat) (hd1 : D + 2 ≤ d) (hd2 : 10 ≤ d) (u0 : Option Nat) (u1 : Option Nat) (u2 : Int) (u3 : Int) (u9 : Option Nat) (u10 : Int)  {K : ((Option Unit × ST) ⊕ (ST)) ⊕ (ST) → Prop} (hRET : ∀ r : Option Unit × ST, K (Sum.inl (Sum.inl r)) → tQ Q τ (fun _ : Unit => none) r) (hE162 : ∀ v71 : ST, K (Sum.inr v71) → V g mX11_read d 162 [(0, vr u0), (1, vr u1), (2, vi u2), (3, vi u3)] [] v71 τ Q) : ∀ (n : Nat) (σ : ST), Sm (V g mX11_read d 138 [(0, vr u0), (1, vr u1), (2, vi u2), (3, vi u3), (9, vr u9), (10, vi u10)] [] σ τ Q) (wr_read_L138 (gRm g) rec u0 u1 u2 u3 u9 u10 n σ) K := by
  intro n
  induction n with
  | zero => intro σ; exact sm_none
  | succ n ih =>
    intro σ
    rw [wr_read_L138.eq_2]
    refine sm_b (l' := [(0, vr u0), (1, vr u1), (2, vi u2), (3, vi u3), (9, vr u9), (10, vi u10)]) (st' := [vr u0]) (pc' := 139) [(.aload_n 0, vi 0, 139)] (by decide +kernel) rfl rfl ?_
    refine sm_de (fun p72 h73 => ?_)
    refine sm_st [vr (some p72)] (by rw [h73] <;> rfl) ?_
    refine sm_gd (fun h74 => ?_)
    refine sm_g (k := 1) (x := vi (sI σ 177 p72)) cd11 rfl h74 rfl q971 rfl (by decide +kernel) ?_
    refine sm_b (l' := [(0, vr u0), (1, vr u1), (2, vi u2), (3, vi u3), (9, vr u9), (10, vi u10)]) (st' := [vi u10, vi (sI σ 177 p72)]) (pc' := 144) [(.iload 10, vi 0, 144)] (by decide +kernel) rfl rfl ?_
    refine sm_gd (fun h75 => ?_)
    refine sm_gd (fun h76 => ?_)
    refine sm_case (V g mX11_read d 162 [(0, vr u0), (1, vr u1), (2, vi u2), (3, vi u3), (9, vr u9), (10, vi u10)] [] σ τ Q) (V g mX11_read d 147 [(0, vr u0), (1, vr u1), (2, vi u2), (3, vi u3), (9, vr u9), (10, vi u10)] [] σ τ Q) ?_ ?_ (fun f85 p86 n87 => ?_)
    · refine sm_pick [0, 1, 2, 3] (l' := [(0, vr u0), (1, vr u1), (2, vi u2), (3, vi u3)]) rfl ?_
      exact sm_leaf (fun h => hE162 _ h)
    · refine sm_b (l' := [(0, vr u0), (1, vr u1), (2, vi u2), (3, vi u3), (9, vr u9), (10, vi u10)]) (st' := [vi u10, vr u9, vr u0, vr u1]) (pc' := 153) [(.aload_n 1, vi 0, 148), (.aload_n 0, vi 0, 149), (.aload 9, vi 0, 151), (.iload 10, vi 0, 153)] (by decide +kernel) rfl rfl ?_
      refine sm_st [vi u10, vr u9, vr (some p72), vr u1] (by rw [h73] <;> rfl) ?_
      refine sm_cvT (N := mX11_number) (d' := d - 1) (fun r : Option Nat => some (vr r)) (fun z => Sum.inl (Sum.inl ((none, z)))) [vr u9, vi u10] [vr u1] rfl (by decide +kernel) q1007 q1009 qs25 (Or.inl ⟨rfl, q1010⟩) (show okN yX11_number 2 = true by decide +kernel) (fun H hR => hR.rv G.1 cd11 rfl h74) rfl rfl (by omega) rfl (fun Q' => wr_number_ok G (d - 1) (by omega) p72 u9 u10 σ Q') (fun z h => hRET _ h) (fun y79 σ80 => ?_)
      refine sm_de (fun p81 h82 => ?_)
      refine sm_st [vr y79, vr (some p81)] (by rw [h82] <;> rfl) ?_
      refine sm_gd (fun h83 => ?_)
      refine sm_cv (N := mX10_put) (d' := d - 1) (fun r => none) (fun r => r) (fun _ => τ) [vr y79] [] rfl (by decide +kernel) q1055 q1056 q1057 (Or.inl ⟨rfl, q1058⟩) (show okN yX10_put 1 = true by decide +kernel) (fun H hR => hR.rv G.1 cd10 rfl h83) rfl rfl (by omega) rfl (fun Q' => vlu_put_ok G (d - 1) (by omega) p81 y79 σ80 Q') (fun y84 => ?_)
      refine sm_b (l' := [(0, vr u0), (1, vr u1), (2, vi u2), (3, vi u3), (9, vr u9), (10, vi u10)]) (st' := []) (pc' := 138) [(.goto (-21), vi 0, 138)] (by decide +kernel) rfl rfl ?_
      exact ih y84
    refine sm_icmp_ge (off := 18) (tgt := 162) h75 h76 (by decide +kernel) (fun c88 => ?_) (fun c88 => ?_)
    · exact p86 c88
    · exact n87 c88
set_option maxHeartbeats 4000000 in
theorem wr_read_L0_ok {g : GE} (G : GG g) {D : Nat} (rec : Option Nat → Option Nat → Int → Int → ST → Option (Option Unit × ST)) (hrec : ∀ (d : Nat), D ≤ d → ∀ {τ : TT} (a1 : Option Nat) (a2 : Option Nat) (a3 : Int) (a4 : Int) (σ : ST) (Q' : VQ), Sm (V g mX11_read d 0 [(0, vr a1), (1, vr a2), (2, vi a3), (3, vi a4)] [] σ τ Q') (rec a1 a2 a3 a4 σ) (fun r => tQ Q' τ (fun _ : Unit => none) r)) {τ : TT} {Q : VQ} (d : Nat) (hd1 : D + 2 ≤ d) (hd2 : 10 ≤ d) (u0 : Option Nat) (u1 : Option Nat) (u2 : Int) (u3 : Int)  {K : Option Unit × ST → Prop} (hRET : ∀ r : Option Unit × ST, K (r) → tQ Q τ (fun _ : Unit => none) r) : ∀ (n : Nat) (σ : ST), Sm (V g mX11_read d 0 [(0, vr u0), (1, vr u1), (2, vi u2), (3, vi u3)] [] σ τ Q) (wr_read_L0 (gRm g) rec u0 u1 u2 u3 n σ) K := by
  intro n
  induction n with
  | zero => intro σ; exact sm_none
  | succ n ih =>
    intro σ
    rw [wr_read_L0.eq_2]
    refine sm_b (l' := [(0, vr u0), (1, vr u1), (2, vi u2), (3, vi u3)]) (st' := [vr u0]) (pc' := 1) [(.aload_n 0, vi 0, 1)] (by decide +kernel) rfl rfl ?_
    refine sm_de (fun p1 h2 => ?_)
    refine sm_st [vr (some p1)] (by rw [h2] <;> rfl) ?_
    refine sm_gd (fun h3 => ?_)
    refine sm_g (k := 1) (x := vi (sI σ 177 p1)) cd11 rfl h3 rfl q971 rfl (by decide +kernel) ?_
    refine sm_b (l' := [(0, vr u0), (1, vr u1), (2, vi u2), (3, vi u3)]) (st' := [vi u2, vi (sI σ 177 p1)]) (pc' := 5) [(.iload_n 2, vi 0, 5)] (by decide +kernel) rfl rfl ?_
    refine sm_gd (fun h4 => ?_)
    refine sm_gd (fun h5 => ?_)
    refine sm_case (V g mX11_read d 175 [(0, vr u0), (1, vr u1), (2, vi u2), (3, vi u3)] [] σ τ Q) (V g mX11_read d 8 [(0, vr u0), (1, vr u1), (2, vi u2), (3, vi u3)] [] σ τ Q) ?_ ?_ (fun f117 p118 n119 => ?_)
    · exact sm_vret rfl (by decide +kernel) (fun h => hRET _ h)
    · refine sm_b (l' := [(0, vr u0), (1, vr u1), (2, vi u2), (3, vi u3)]) (st' := [vi u2, vr u0]) (pc' := 10) [(.aload_n 0, vi 0, 9), (.iload_n 2, vi 0, 10)] (by decide +kernel) rfl rfl ?_
      refine sm_st [vi u2, vr (some p1)] (by rw [h2] <;> rfl) ?_
      refine sm_cvT (N := mX11_varint) (d' := d - 1) (fun r : Int64 => some (vl r)) (fun z => (none, z)) [vi u2] [] rfl (by decide +kernel) q980 q982 qs24 (Or.inl ⟨rfl, q983⟩) (show okN yX11_varint 1 = true by decide +kernel) (fun H hR => hR.rv G.1 cd11 rfl h3) rfl rfl (by omega) rfl (fun Q' => wr_varint_ok G (d - 1) (by omega) p1 u2 σ Q') (fun z h => hRET _ h) (fun y9 σ10 => ?_)
      refine sm_b (l' := [(0, vr u0), (1, vr u1), (2, vi u2), (3, vi u3), (4, vl y9)]) (st' := [vl y9]) (pc' := 17) [(.lstore 4, vi 0, 15), (.lload 4, vi 0, 17)] (by decide +kernel) rfl rfl ?_
      refine sm_ldc2 (by decide +kernel) q989 ?_
      refine sm_b (l' := [(0, vr u0), (1, vr u1), (2, vi u2), (3, vi u3), (4, vl y9)]) (st' := [vi (lI (y9 &&& 7))]) (pc' := 22) [(.land, vi 0, 21), (.l2i, vi 0, 22)] (by decide +kernel) rfl rfl ?_
      refine sm_nmi (fun x11 => ?_)
      refine sm_b (l' := [(0, vr u0), (1, vr u1), (2, vi u2), (3, vi u3), (4, vl y9), (6, vi x11)]) (st' := [vl (lUsh y9 3)]) (pc' := 28) [(.istore 6, vi 0, 24), (.lload 4, vi 0, 26), (.iconst 3, vi 3, 27), (.lushr, vi 0, 28)] (by decide +kernel) rfl rfl ?_
      refine sm_nml (fun x12 => ?_)
      refine sm_b (l' := [(0, vr u0), (1, vr u1), (2, vi u2), (3, vi u3), (4, vl y9), (6, vi x11), (7, vl x12)]) (st' := [vl 0, vl x12]) (pc' := 33) [(.lstore 7, vi 0, 30), (.lload 7, vi 0, 32), (.lconst 0, vl 0, 33)] (by decide +kernel) rfl rfl ?_
      refine sm_bind1 (fun (v16 : Int) => V g mX11_read d 63 [(0, vr u0), (1, vr u1), (2, vi u2), (3, vi u3), (6, vi x11), (7, vl x12)] [vi v16] σ10 τ Q) (fun v16 => ?_) (fun K17 j18 => ?_)
      · refine sm_csTE (N := mX11_must) (d' := d - 1) (fun _ : Unit => none) (fun z => (none, z)) [vi v16] [] rfl (by decide +kernel) q984 q985 q158 (Or.inl ⟨rfl, q986⟩) (show okN yX11_must 1 = true by decide +kernel) rfl rfl (by omega) rfl (fun Q' => wr_must_ok G (d - 1) (by omega) v16 σ10 Q') (fun z h => hRET _ h) (fun y21 σ22 => ?_)
        refine sm_b (l' := [(0, vr u0), (1, vr u1), (2, vi u2), (3, vi u3), (6, vi x11), (7, vl x12)]) (st' := [vr u1]) (pc' := 67) [(.aload_n 1, vi 0, 67)] (by decide +kernel) rfl rfl ?_
        refine sm_de (fun p23 h24 => ?_)
        refine sm_st [vr (some p23)] (by rw [h24] <;> rfl) ?_
        refine sm_gd (fun h25 => ?_)
        refine sm_gN (k := 0) (x := vr (sR σ22 160 p23)) cd10 rfl h25 rfl q948 rfl (by decide +kernel) ?_
        refine sm_b (l' := [(0, vr u0), (1, vr u1), (2, vi u2), (3, vi u3), (6, vi x11), (7, vl x12)]) (st' := [vl x12, vr (sR σ22 160 p23)]) (pc' := 72) [(.lload 7, vi 0, 72)] (by decide +kernel) rfl rfl ?_
        refine sm_de (fun p26 h27 => ?_)
        refine sm_st [vl x12, vr (some p26)] (by rw [h27] <;> rfl) ?_
        refine sm_gd (fun h28 => ?_)
        refine sm_cv (N := mX6_byNumber) (d' := d - 1) (fun r => (some (vr r))) (fun _ => σ22) (fun _ => τ) [vl x12] [] rfl (by decide +kernel) q991 q992 q993 (Or.inl ⟨rfl, q994⟩) (show okN yX6_byNumber 1 = true by decide +kernel) (fun H hR => hR.rv G.1 cd6 rfl h28) rfl rfl (by omega) rfl (fun Q' => mt_byNumber_ok G (d - 1) (by omega) p26 x12 σ22 Q') (fun y29 => ?_)
        refine sm_b (l' := [(0, vr u0), (1, vr u1), (2, vi u2), (3, vi u3), (6, vi x11), (7, vl x12), (9, vr y29)]) (st' := [vr y29]) (pc' := 79) [(.astore 9, vi 0, 77), (.aload 9, vi 0, 79)] (by decide +kernel) rfl rfl ?_
        refine sm_bindS (fun (v39 : ST) => V g mX11_read d 172 [(0, vr u0), (1, vr u1), (2, vi u2), (3, vi u3)] [] v39 τ Q) (fun v39 => ?_) (fun K40 o42 j41 => ?_)
        · refine sm_b (l' := [(0, vr u0), (1, vr u1), (2, vi u2), (3, vi u3)]) (st' := []) (pc' := 0) [(.goto (-172), vi 0, 0)] (by decide +kernel) rfl rfl ?_
          exact ih v39
        · refine sm_gd (fun h31 => ?_)
          refine sm_gd (fun h33 => ?_)
          refine sm_gd (fun h34 => ?_)
          refine sm_gd (fun h35 => ?_)
          refine sm_gd (fun h36 => ?_)
          refine sm_case (V g mX11_read d 104 [(0, vr u0), (1, vr u1), (2, vi u2), (3, vi u3), (6, vi x11), (7, vl x12), (9, vr y29)] [] σ22 τ Q) (V g mX11_read d 92 [(0, vr u0), (1, vr u1), (2, vi u2), (3, vi u3), (6, vi x11), (7, vl x12), (9, vr y29)] [] σ22 τ Q) ?_ ?_ (fun f99 p100 n101 => ?_)
          · refine sm_b (l' := [(0, vr u0), (1, vr u1), (2, vi u2), (3, vi u3), (6, vi x11), (7, vl x12), (9, vr y29)]) (st' := [vr y29]) (pc' := 106) [(.aload 9, vi 0, 106)] (by decide +kernel) rfl rfl ?_
            refine sm_gd (fun h44 => ?_)
            refine sm_gd (fun h46 => ?_)
            refine sm_gd (fun h47 => ?_)
            refine sm_gd (fun h49 => ?_)
            refine sm_gd (fun h51 => ?_)
            refine sm_gd (fun h52 => ?_)
            refine sm_gd (fun h53 => ?_)
            refine sm_gd (fun h55 => ?_)
            refine sm_case (V g mX11_read d 165 [(0, vr u0), (1, vr u1), (2, vi u2), (3, vi u3), (6, vi x11), (7, vl x12), (9, vr y29)] [] σ22 τ Q) (V g mX11_read d 131 [(0, vr u0), (1, vr u1), (2, vi u2), (3, vi u3), (6, vi x11), (7, vl x12), (9, vr y29)] [] σ22 τ Q) ?_ ?_ (fun f89 p90 n91 => ?_)
            · refine sm_b (l' := [(0, vr u0), (1, vr u1), (2, vi u2), (3, vi u3), (6, vi x11), (7, vl x12), (9, vr y29)]) (st' := [vi u2, vi x11, vr u0]) (pc' := 169) [(.aload_n 0, vi 0, 166), (.iload 6, vi 0, 168), (.iload_n 2, vi 0, 169)] (by decide +kernel) rfl rfl ?_
              refine sm_st [vi u2, vi x11, vr (some p1)] (by rw [h2] <;> rfl) ?_
              refine sm_gd (fun h58 => ?_)
              refine sm_cvT (N := mX11_skip) (d' := d - 1) (fun _ : Unit => none) (fun z => Sum.inl ((none, z))) [vi x11, vi u2] [] rfl (by decide +kernel) q1094 q1096 qs30 (Or.inl ⟨rfl, q1097⟩) (show okN yX11_skip 2 = true by decide +kernel) (fun H hR => hR.rv G.1 cd11 rfl h58) rfl rfl (by omega) rfl (fun Q' => wr_skip_ok G (d - 1) (by omega) p1 x11 u2 σ22 Q') (fun z h => hRET _ (o42 _ h)) (fun y60 σ61 => ?_)
              refine sm_pick [0, 1, 2, 3] (l' := [(0, vr u0), (1, vr u1), (2, vi u2), (3, vi u3)]) rfl ?_
              exact sm_leaf (fun h => j41 _ h)
            · refine sm_b (l' := [(0, vr u0), (1, vr u1), (2, vi u2), (3, vi u3), (6, vi x11), (7, vl x12), (9, vr y29)]) (st' := [vi u2, vr u0]) (pc' := 133) [(.aload_n 0, vi 0, 132), (.iload_n 2, vi 0, 133)] (by decide +kernel) rfl rfl ?_
              refine sm_st [vi u2, vr (some p1)] (by rw [h2] <;> rfl) ?_
              refine sm_gd (fun h62 => ?_)
              refine sm_cvT (N := mX11_length) (d' := d - 1) (fun r : Int => some (vi r)) (fun z => Sum.inl ((none, z))) [vi u2] [] rfl (by decide +kernel) q1071 q1073 qs28 (Or.inl ⟨rfl, q1074⟩) (show okN yX11_length 1 = true by decide +kernel) (fun H hR => hR.rv G.1 cd11 rfl h62) rfl rfl (by omega) rfl (fun Q' => wr_length_ok G (d - 1) (by omega) p1 u2 σ22 Q') (fun z h => hRET _ (o42 _ h)) (fun y64 σ65 => ?_)
              refine sm_b (l' := [(0, vr u0), (1, vr u1), (2, vi u2), (3, vi u3), (6, vi x11), (7, vl x12), (9, vr y29), (10, vi y64)]) (st' := []) (pc' := 138) [(.istore 10, vi 0, 138)] (by decide +kernel) rfl rfl ?_
              refine sm_bindS (fun (v66 : ST) => V g mX11_read d 162 [(0, vr u0), (1, vr u1), (2, vi u2), (3, vi u3)] [] v66 τ Q) (fun v66 => ?_) (fun K67 o69 j68 => ?_)
              · refine sm_b (l' := [(0, vr u0), (1, vr u1), (2, vi u2), (3, vi u3)]) (st' := []) (pc' := 172) [(.goto 10, vi 0, 172)] (by decide +kernel) rfl rfl ?_
                exact sm_leaf (fun h => j41 _ h)
              · refine sm_pick [0, 1, 2, 3, 6, 7] (l' := [(0, vr u0), (1, vr u1), (2, vi u2), (3, vi u3), (9, vr y29), (10, vi y64)]) rfl ?_
                exact wr_read_L138_ok G rec hrec d hd1 hd2 u0 u1 u2 u3 y29 y64  (fun r h => hRET _ (o42 _ (o69 _ h))) (fun _ h => j68 _ h) FU σ65
            refine sm_ifnull (off := 59) (tgt := 165) (by decide +kernel) (fun c92 => ?_) (fun c92 => ?_)
            · exact p90 (Or.inl (Or.inl (Or.inl c92)))
            · have w43 : ¬ (y29 = none) := c92
              refine sm_b (l' := [(0, vr u0), (1, vr u1), (2, vi u2), (3, vi u3), (6, vi x11), (7, vl x12), (9, vr y29)]) (st' := [vr y29]) (pc' := 111) [(.aload 9, vi 0, 111)] (by decide +kernel) rfl rfl ?_
              have q45 := (ad_some (h44 w43))
              refine sm_st [vr (some (ad y29))] (congrArg (fun z => [vr z]) q45) ?_
              refine sm_gN (k := 7) (x := vi (sI σ22 135 (ad y29))) cd8 rfl (h46 w43) rfl q746 rfl (by decide +kernel) ?_
              refine sm_if_eq (off := 51) (tgt := 165) (h47 w43) (by decide +kernel) (fun c93 => ?_) (fun c93 => ?_)
              · exact p90 (Or.inl (Or.inl (Or.inr c93)))
              · have w48 : ¬ ((y29 = none) ∨ ((sI σ22 135 (ad y29)) = 0)) := (fun q => q.elim c92 c93)
                refine sm_b (l' := [(0, vr u0), (1, vr u1), (2, vi u2), (3, vi u3), (6, vi x11), (7, vl x12), (9, vr y29)]) (st' := [vr y29]) (pc' := 119) [(.aload 9, vi 0, 119)] (by decide +kernel) rfl rfl ?_
                have q50 := (ad_some (h49 w48))
                refine sm_st [vr (some (ad y29))] (congrArg (fun z => [vr z]) q50) ?_
                refine sm_cvp (N := mX8_isPlain) (d' := d - 1) (fun r => (some (vi r))) (some (vi (vv (fd_isPlain (ad y29) σ22)))) (h52 w48) (fun y h => by rw [vv_some h]) [] [] rfl (by decide +kernel) q1006 q1000 q1001 (Or.inl ⟨rfl, q1002⟩) (show okN yX8_isPlain 0 = true by decide +kernel) (fun H hR => hR.rv G.1 cd8 rfl (h51 w48)) rfl rfl (by omega) rfl (fun Q' => fd_isPlain_ok G (d - 1) (by omega) (ad y29) σ22 Q') ?_
                refine sm_if_eq (off := 43) (tgt := 165) (h53 w48) (by decide +kernel) (fun c94 => ?_) (fun c94 => ?_)
                · exact p90 (Or.inl (Or.inr c94))
                · have w54 : ¬ (((y29 = none) ∨ ((sI σ22 135 (ad y29)) = 0)) ∨ ((vv (fd_isPlain (ad y29) σ22)) = 0)) := (fun q => q.elim (fun q => q.elim c92 c93) c94)
                  refine sm_b (l' := [(0, vr u0), (1, vr u1), (2, vi u2), (3, vi u3), (6, vi x11), (7, vl x12), (9, vr y29)]) (st' := [vi 2, vi x11]) (pc' := 128) [(.iload 6, vi 0, 127), (.iconst 2, vi 2, 128)] (by decide +kernel) rfl rfl ?_
                  refine sm_icmp_ne (off := 37) (tgt := 165) (h55 w54) (by decide) (by decide +kernel) (fun c95 => ?_) (fun c95 => ?_)
                  · exact p90 (Or.inr c95)
                  · exact n91 (fun q => q.elim (fun q => q.elim (fun q => q.elim c92 c93) c94) (fun q => q c95))
          · refine sm_b (l' := [(0, vr u0), (1, vr u1), (2, vi u2), (3, vi u3), (6, vi x11), (7, vl x12), (9, vr y29)]) (st' := [vi u3, vi u2, vr u1, vr y29, vr u0]) (pc' := 98) [(.aload_n 0, vi 0, 93), (.aload 9, vi 0, 95), (.aload_n 1, vi 0, 96), (.iload_n 2, vi 0, 97), (.iload_n 3, vi 0, 98)] (by decide +kernel) rfl rfl ?_
            refine sm_csT (N := mX11_take) (d' := d - 1) (fun _ : Unit => none) (fun z => Sum.inl ((none, z))) [vr u0, vr y29, vr u1, vi u2, vi u3] [] rfl (by decide +kernel) q1003 q1004 q158 (Or.inl ⟨rfl, q1005⟩) (show okN yX11_take 5 = true by decide +kernel) rfl rfl (by omega) rfl (fun Q' => wr_take_ok G (D := D) rec hrec (d - 1) (by omega) (by omega) u0 y29 u1 u2 u3 σ22 Q') (fun z h => hRET _ (o42 _ h)) (fun y97 σ98 => ?_)
            refine sm_b (l' := [(0, vr u0), (1, vr u1), (2, vi u2), (3, vi u3), (6, vi x11), (7, vl x12), (9, vr y29)]) (st' := []) (pc' := 172) [(.goto 71, vi 0, 172)] (by decide +kernel) rfl rfl ?_
            refine sm_pick [0, 1, 2, 3] (l' := [(0, vr u0), (1, vr u1), (2, vi u2), (3, vi u3)]) rfl ?_
            exact sm_leaf (fun h => j41 _ h)
          refine sm_ifnull (off := 25) (tgt := 104) (by decide +kernel) (fun c102 => ?_) (fun c102 => ?_)
          · exact p100 (Or.inl c102)
          · have w30 : ¬ (y29 = none) := c102
            refine sm_b (l' := [(0, vr u0), (1, vr u1), (2, vi u2), (3, vi u3), (6, vi x11), (7, vl x12), (9, vr y29)]) (st' := [vr y29, vi x11]) (pc' := 86) [(.iload 6, vi 0, 84), (.aload 9, vi 0, 86)] (by decide +kernel) rfl rfl ?_
            have q32 := (ad_some (h31 w30))
            refine sm_st [vr (some (ad y29)), vi x11] (congrArg (fun z => [vr z, vi x11]) q32) ?_
            refine sm_cvp (N := mX8_wire) (d' := d - 1) (fun r => (some (vi r))) (some (vi (vv (fd_wire (ad y29) σ22)))) (h34 w30) (fun y h => by rw [vv_some h]) [] [vi x11] rfl (by decide +kernel) q995 q996 q997 (Or.inl ⟨rfl, q998⟩) (show okN yX8_wire 0 = true by decide +kernel) (fun H hR => hR.rv G.1 cd8 rfl (h33 w30)) rfl rfl (by omega) rfl (fun Q' => fd_wire_ok G (d - 1) (by omega) (ad y29) σ22 Q') ?_
            refine sm_icmp_ne (off := 15) (tgt := 104) (h35 w30) (h36 w30) (by decide +kernel) (fun c103 => ?_) (fun c103 => ?_)
            · exact p100 (Or.inr c103)
            · exact n101 (fun q => q.elim c102 (fun q => q c103))
      · refine sm_case (V g mX11_read d 62 [(0, vr u0), (1, vr u1), (2, vi u2), (3, vi u3), (4, vl y9), (6, vi x11), (7, vl x12)] [] σ10 τ Q) (V g mX11_read d 46 [(0, vr u0), (1, vr u1), (2, vi u2), (3, vi u3), (4, vl y9), (6, vi x11), (7, vl x12)] [] σ10 τ Q) ?_ ?_ (fun f112 p113 n114 => ?_)
        · refine sm_b (l' := [(0, vr u0), (1, vr u1), (2, vi u2), (3, vi u3), (4, vl y9), (6, vi x11), (7, vl x12)]) (st' := [vi 0]) (pc' := 63) [(.iconst 0, vi 0, 63)] (by decide +kernel) rfl rfl ?_
          refine sm_pick [0, 1, 2, 3, 5, 6] (l' := [(0, vr u0), (1, vr u1), (2, vi u2), (3, vi u3), (6, vi x11), (7, vl x12)]) rfl ?_
          exact sm_leaf (fun h => j18 _ h)
        · refine sm_b (l' := [(0, vr u0), (1, vr u1), (2, vi u2), (3, vi u3), (4, vl y9), (6, vi x11), (7, vl x12)]) (st' := [vi 3, vi x11]) (pc' := 49) [(.iload 6, vi 0, 48), (.iconst 3, vi 3, 49)] (by decide +kernel) rfl rfl ?_
          refine sm_gd (fun h104 => ?_)
          refine sm_case (V g mX11_read d 58 [(0, vr u0), (1, vr u1), (2, vi u2), (3, vi u3), (4, vl y9), (6, vi x11), (7, vl x12)] [] σ10 τ Q) (V g mX11_read d 62 [(0, vr u0), (1, vr u1), (2, vi u2), (3, vi u3), (4, vl y9), (6, vi x11), (7, vl x12)] [] σ10 τ Q) ?_ ?_ (fun f107 p108 n109 => ?_)
          · refine sm_b (l' := [(0, vr u0), (1, vr u1), (2, vi u2), (3, vi u3), (4, vl y9), (6, vi x11), (7, vl x12)]) (st' := [vi 1]) (pc' := 63) [(.iconst 1, vi 1, 59), (.goto 4, vi 0, 63)] (by decide +kernel) rfl rfl ?_
            refine sm_pick [0, 1, 2, 3, 5, 6] (l' := [(0, vr u0), (1, vr u1), (2, vi u2), (3, vi u3), (6, vi x11), (7, vl x12)]) rfl ?_
            exact sm_leaf (fun h => j18 _ h)
          · refine sm_b (l' := [(0, vr u0), (1, vr u1), (2, vi u2), (3, vi u3), (4, vl y9), (6, vi x11), (7, vl x12)]) (st' := [vi 0]) (pc' := 63) [(.iconst 0, vi 0, 63)] (by decide +kernel) rfl rfl ?_
            refine sm_pick [0, 1, 2, 3, 5, 6] (l' := [(0, vr u0), (1, vr u1), (2, vi u2), (3, vi u3), (6, vi x11), (7, vl x12)]) rfl ?_
            exact sm_leaf (fun h => j18 _ h)
          refine sm_icmp_lt (off := 9) (tgt := 58) h104 (by decide) (by decide +kernel) (fun c110 => ?_) (fun c110 => ?_)
          · exact p108 (Or.inl c110)
          · refine sm_b (l' := [(0, vr u0), (1, vr u1), (2, vi u2), (3, vi u3), (4, vl y9), (6, vi x11), (7, vl x12)]) (st' := [vi 5, vi x11]) (pc' := 55) [(.iload 6, vi 0, 54), (.iconst 5, vi 5, 55)] (by decide +kernel) rfl rfl ?_
            refine sm_icmp_ne (off := 7) (tgt := 62) h104 (by decide) (by decide +kernel) (fun c111 => ?_) (fun c111 => ?_)
            · exact n109 (fun q => q.elim c110 c111)
            · exact p108 (Or.inr c111)
        refine sm_lc_le (off := 28) (tgt := 62) (by decide +kernel) (by decide +kernel) (fun c115 => ?_) (fun c115 => ?_)
        · exact p113 (Or.inl c115)
        · refine sm_b (l' := [(0, vr u0), (1, vr u1), (2, vi u2), (3, vi u3), (4, vl y9), (6, vi x11), (7, vl x12)]) (st' := [vl x12]) (pc' := 39) [(.lload 7, vi 0, 39)] (by decide +kernel) rfl rfl ?_
          refine sm_ldc2 (by decide +kernel) q990 ?_
          refine sm_lc_gt (off := 19) (tgt := 62) (by decide +kernel) (by decide +kernel) (fun c116 => ?_) (fun c116 => ?_)
          · exact p113 (Or.inr c116)
          · exact n114 (fun q => q.elim c115 c116)
    refine sm_icmp_ge (off := 170) (tgt := 175) h4 h5 (by decide +kernel) (fun c120 => ?_) (fun c120 => ?_)
    · exact p118 c120
    · exact n119 c120
set_option maxHeartbeats 4000000 in
theorem wr_readb_ok {g : GE} (G : GG g) {D : Nat} (rec : Option Nat → Option Nat → Int → Int → ST → Option (Option Unit × ST)) (hrec : ∀ (d : Nat), D ≤ d → ∀ {τ : TT} (a1 : Option Nat) (a2 : Option Nat) (a3 : Int) (a4 : Int) (σ : ST) (Q' : VQ), Sm (V g mX11_read d 0 [(0, vr a1), (1, vr a2), (2, vi a3), (3, vi a4)] [] σ τ Q') (rec a1 a2 a3 a4 σ) (fun r => tQ Q' τ (fun _ : Unit => none) r)) {τ : TT} (d : Nat) (hd1 : D + 2 ≤ d) (hd2 : 10 ≤ d) (a1 : Option Nat) (a2 : Option Nat) (a3 : Int) (a4 : Int)  (σ : ST) (Q : VQ) : Sm (V g mX11_read d 0 [(0, vr a1), (1, vr a2), (2, vi a3), (3, vi a4)] [] σ τ Q) (wr_readb (gRm g) rec a1 a2 a3 a4 σ) (fun r => tQ Q τ (fun _ : Unit => none) r) := by
  unfold wr_readb
  refine sm_top (fun K hRET => ?_)
  exact wr_read_L0_ok G rec hrec d hd1 hd2 a1 a2 a3 a4  (fun r h => hRET _ h) FU σ
def wr_read (bb : Nat × Nat) : Nat → Option Nat → Option Nat → Int → Int → ST → Option (Option Unit × ST)
  | 0 => fun _ _ _ _ _ => none
  | n + 1 => fun a1 a2 a3 a4 σ => wr_readb bb (wr_read bb n) a1 a2 a3 a4 σ
set_option maxHeartbeats 4000000 in
theorem wr_read_ok {g : GE} (G : GG g) (n : Nat) : ∀ (d : Nat), 10 + 2 * n ≤ d → ∀ {τ : TT} (a1 : Option Nat) (a2 : Option Nat) (a3 : Int) (a4 : Int) (σ : ST) (Q : VQ), Sm (V g mX11_read d 0 [(0, vr a1), (1, vr a2), (2, vi a3), (3, vi a4)] [] σ τ Q) (wr_read (gRm g) n a1 a2 a3 a4 σ) (fun r => tQ Q τ (fun _ : Unit => none) r) := by
  induction n with
  | zero => intro d hd τ a1 a2 a3 a4 σ Q; exact sm_none
  | succ n ih =>
    intro d hd τ a1 a2 a3 a4 σ Q
    exact wr_readb_ok G (D := 10 + 2 * n) (wr_read (gRm g) n) ih d (by omega) (by omega) a1 a2 a3 a4 σ Q
def vlu_of_L2 (u0 : Option Nat) (σ : ST) : Nat → Option Nat → Option (Option Nat)
  | 0, _ => none
  | n + 1, w2 => gd (¬ (w2 = none) → ¬ w2 = none) (gd (¬ (w2 = none) → sc σ (ad w2) = 13) (if (w2 = none) ∨ ((sR σ 192 (ad w2)) = u0) then (some w2) else (Option.bind w2 fun p10 => gd (sc σ p10 = 13) (nm (sR σ 196 p10) fun x13 => vlu_of_L2 u0 σ n x13))))
def vlu_of (a1 : Option Nat) (a2 : Option Nat) (σ : ST) : Option (Option Nat) := vlu_of_L2 a1 σ FU a2
set_option maxHeartbeats 4000000 in
theorem vlu_of_L2_ok {g : GE} (G : GG g) {τ : TT} {Q : VQ} (d : Nat) (hd1 : 0 ≤ d) (u0 : Option Nat) (σ : ST)  {K : Option Nat → Prop} (hRET : ∀ r : Option Nat, K (r) → Q.1 (some (vr r)) σ τ) : ∀ (n : Nat) (w2 : Option Nat), Sm (V g mX10_of d 2 [(0, vr u0), (2, vr w2)] [] σ τ Q) (vlu_of_L2 u0 σ n w2) K := by
  intro n
  induction n with
  | zero => intro w2; exact sm_none
  | succ n ih =>
    intro w2
    rw [vlu_of_L2.eq_2]
    refine sm_b (l' := [(0, vr u0), (2, vr w2)]) (st' := [vr w2]) (pc' := 3) [(.aload_n 2, vi 0, 3)] (by decide +kernel) rfl rfl ?_
    refine sm_gd (fun h2 => ?_)
    refine sm_gd (fun h4 => ?_)
    refine sm_case (V g mX10_of d 22 [(0, vr u0), (2, vr w2)] [] σ τ Q) (V g mX10_of d 14 [(0, vr u0), (2, vr w2)] [] σ τ Q) ?_ ?_ (fun f14 p15 n16 => ?_)
    · refine sm_b (l' := [(0, vr u0), (2, vr w2)]) (st' := [vr w2]) (pc' := 23) [(.aload_n 2, vi 0, 23)] (by decide +kernel) rfl rfl ?_
      exact sm_aret rfl rfl (by decide +kernel) (fun h => hRET _ h)
    · refine sm_b (l' := [(0, vr u0), (2, vr w2)]) (st' := [vr w2]) (pc' := 15) [(.aload_n 2, vi 0, 15)] (by decide +kernel) rfl rfl ?_
      refine sm_de (fun p10 h11 => ?_)
      refine sm_st [vr (some p10)] (by rw [h11] <;> rfl) ?_
      refine sm_gd (fun h12 => ?_)
      refine sm_gN (k := 4) (x := vr (sR σ 196 p10)) cd12 rfl h12 rfl q1036 rfl (by decide +kernel) ?_
      refine sm_nmr (fun x13 => ?_)
      refine sm_b (l' := [(0, vr u0), (2, vr x13)]) (st' := []) (pc' := 2) [(.astore_n 2, vi 0, 19), (.goto (-17), vi 0, 2)] (by decide +kernel) rfl rfl ?_
      exact ih x13
    refine sm_ifnull (off := 19) (tgt := 22) (by decide +kernel) (fun c17 => ?_) (fun c17 => ?_)
    · exact p15 (Or.inl c17)
    · have w1 : ¬ (w2 = none) := c17
      refine sm_b (l' := [(0, vr u0), (2, vr w2)]) (st' := [vr w2]) (pc' := 7) [(.aload_n 2, vi 0, 7)] (by decide +kernel) rfl rfl ?_
      have q3 := (ad_some (h2 w1))
      refine sm_st [vr (some (ad w2))] (congrArg (fun z => [vr z]) q3) ?_
      refine sm_gN (k := 0) (x := vr (sR σ 192 (ad w2))) cd12 rfl (h4 w1) rfl q1018 rfl (by decide +kernel) ?_
      refine sm_b (l' := [(0, vr u0), (2, vr w2)]) (st' := [vr u0, vr (sR σ 192 (ad w2))]) (pc' := 11) [(.aload_n 0, vi 0, 11)] (by decide +kernel) rfl rfl ?_
      refine sm_acmp_eq (off := 11) (tgt := 22) (by decide +kernel) (fun c18 => ?_) (fun c18 => ?_)
      · exact p15 (Or.inr c18)
      · exact n16 (fun q => q.elim c17 c18)
set_option maxHeartbeats 4000000 in
theorem vlu_of_ok {g : GE} (G : GG g) {τ : TT} (d : Nat) (hd1 : 0 ≤ d) (a1 : Option Nat) (a2 : Option Nat)  (σ : ST) (Q : VQ) : Sm (V g mX10_of d 0 [(0, vr a1), (1, vr a2)] [] σ τ Q) (vlu_of a1 a2 σ) (fun r => Q.1 (some (vr r)) σ τ) := by
  unfold vlu_of
  refine sm_top (fun K hRET => ?_)
  refine sm_b (l' := [(0, vr a1), (1, vr a2), (2, vr a2)]) (st' := []) (pc' := 2) [(.aload_n 1, vi 0, 1), (.astore_n 2, vi 0, 2)] (by decide +kernel) rfl rfl ?_
  refine sm_pick [0, 2] (l' := [(0, vr a1), (2, vr a2)]) rfl ?_
  exact vlu_of_L2_ok G d hd1 a1 σ  (fun r h => hRET _ h) FU a2
def row_addText_L2 (bb : Nat × Nat) (u0 : Nat) (u1 : Nat) : Nat → Int → ST → Option (ST)
  | 0, _, _ => none
  | n + 1, w2, σ => gd (rg w2) (if (((slen u1 : Nat) : Int)) ≤ w2 then (some σ) else (gd (ib w2 (slen u1)) (gd (sc σ u0 = 4) (Option.bind (r_add bb u0 (((sch u1 w2.toNat : Nat) : Int)) σ) fun y7 => row_addText_L2 bb u0 u1 n (w2 + 1) y7))))
def row_addText (bb : Nat × Nat) (a0 : Nat) (a1 : Nat) (σ : ST) : Option (ST) := row_addText_L2 bb a0 a1 FU 0 σ
set_option maxHeartbeats 4000000 in
theorem row_addText_L2_ok {g : GE} (G : GG g) {τ : TT} {Q : VQ} (d : Nat) (hd1 : 6 ≤ d) (u0 : Nat) (u1 : Nat)  {K : ST → Prop} (hRET : ∀ r : ST, K (r) → Q.1 none r τ) : ∀ (n : Nat) (w2 : Int) (σ : ST), Sm (V g mX3_addText d 2 [(0, vr (some u0)), (1, vr (some (gK g u1))), (2, vi w2)] [] σ τ Q) (row_addText_L2 (gRm g) u0 u1 n w2 σ) K := by
  intro n
  induction n with
  | zero => intro w2 σ; exact sm_none
  | succ n ih =>
    intro w2 σ
    rw [row_addText_L2.eq_2]
    refine sm_b (l' := [(0, vr (some u0)), (1, vr (some (gK g u1))), (2, vi w2)]) (st' := [vr (some (gK g u1)), vi w2]) (pc' := 4) [(.iload_n 2, vi 0, 3), (.aload_n 1, vi 0, 4)] (by decide +kernel) rfl rfl ?_
    refine sm_slen (k := u1) G [vi w2] rfl (by decide +kernel) q865 (by omega) rfl ?_
    refine sm_gd (fun h1 => ?_)
    refine sm_case (V g mX3_addText d 25 [(0, vr (some u0)), (1, vr (some (gK g u1))), (2, vi w2)] [] σ τ Q) (V g mX3_addText d 10 [(0, vr (some u0)), (1, vr (some (gK g u1))), (2, vi w2)] [] σ τ Q) ?_ ?_ (fun f8 p9 n10 => ?_)
    · exact sm_vret rfl (by decide +kernel) (fun h => hRET _ h)
    · refine sm_b (l' := [(0, vr (some u0)), (1, vr (some (gK g u1))), (2, vi w2)]) (st' := [vi w2, vr (some (gK g u1)), vr (some u0)]) (pc' := 13) [(.aload_n 0, vi 0, 11), (.aload_n 1, vi 0, 12), (.iload_n 2, vi 0, 13)] (by decide +kernel) rfl rfl ?_
      refine sm_gd (fun h5 => ?_)
      refine sm_scha (k := u1) G [vr (some u0)] rfl (by decide +kernel) q866 h5 (by omega) rfl ?_
      refine sm_gd (fun h6 => ?_)
      refine sm_cv (N := mX3_add) (d' := d - 1) (fun r => none) (fun r => r) (fun _ => τ) [vi (((sch u1 w2.toNat : Nat) : Int))] [] rfl (by decide +kernel) q534 q535 q536 (Or.inl ⟨rfl, q537⟩) (show okN yX3_add 1 = true by decide +kernel) (fun H hR => hR.rvR G.1 h6) rfl rfl (by omega) rfl (fun Q' => r_add_ok G (d - 1) (by omega) u0 (((sch u1 w2.toNat : Nat) : Int)) σ Q') (fun y7 => ?_)
      refine sm_b (l' := [(0, vr (some u0)), (1, vr (some (gK g u1))), (2, vi (w2 + 1))]) (st' := []) (pc' := 2) [(.iinc 2 1, vi 1, 22), (.goto (-20), vi 0, 2)] (by decide +kernel) rfl rfl ?_
      exact ih (w2 + 1) y7
    refine sm_icmp_ge (off := 18) (tgt := 25) h1 (slen_rg _) (by decide +kernel) (fun c11 => ?_) (fun c11 => ?_)
    · exact p9 c11
    · exact n10 c11
set_option maxHeartbeats 4000000 in
theorem row_addText_ok {g : GE} (G : GG g) {τ : TT} (d : Nat) (hd1 : 6 ≤ d) (a0 : Nat) (a1 : Nat)  (σ : ST) (Q : VQ) : Sm (V g mX3_addText d 0 [(0, vr (some a0)), (1, vr (some (gK g a1)))] [] σ τ Q) (row_addText (gRm g) a0 a1 σ) (fun r => Q.1 none r τ) := by
  unfold row_addText
  refine sm_top (fun K hRET => ?_)
  refine sm_b (l' := [(0, vr (some a0)), (1, vr (some (gK g a1))), (2, vi 0)]) (st' := []) (pc' := 2) [(.iconst 0, vi 0, 1), (.istore_n 2, vi 0, 2)] (by decide +kernel) rfl rfl ?_
  exact row_addText_L2_ok G d hd1 a0 a1  (fun r h => hRET _ h) FU 0 σ
def jw_control (bb : Nat × Nat) (a1 : Option Nat) (a2 : Int) (σ : ST) : Option (ST) := Option.bind a1 fun p1 => gd (sc σ p1 = 4) (Option.bind (r_add bb p1 92 σ) fun y4 => gd (rg a2) (if a2 = 8 then (gd (sc y4 p1 = 4) (Option.bind (r_add bb p1 98 y4) fun y9 => some y9)) else (if a2 = 9 then (gd (sc y4 p1 = 4) (Option.bind (r_add bb p1 116 y4) fun y13 => some y13)) else (if a2 = 10 then (gd (sc y4 p1 = 4) (Option.bind (r_add bb p1 110 y4) fun y17 => some y17)) else (if a2 = 12 then (gd (sc y4 p1 = 4) (Option.bind (r_add bb p1 102 y4) fun y21 => some y21)) else (if a2 = 13 then (gd (sc y4 p1 = 4) (Option.bind (r_add bb p1 114 y4) fun y25 => some y25)) else (gd (sc y4 p1 = 4) (Option.bind (row_addText bb p1 0 y4) fun y27 => gd (ib (iShr a2 4) (slen 1)) (gd (sc y27 p1 = 4) (Option.bind (r_add bb p1 (((sch 1 (iShr a2 4).toNat : Nat) : Int)) y27) fun y30 => gd (ib (iAnd a2 15) (slen 1)) (gd (sc y30 p1 = 4) (Option.bind (r_add bb p1 (((sch 1 (iAnd a2 15).toNat : Nat) : Int)) y30) fun y33 => some y33))))))))))))
set_option maxHeartbeats 4000000 in
theorem jw_control_ok {g : GE} (G : GG g) {τ : TT} (d : Nat) (hd1 : 7 ≤ d) (a1 : Option Nat) (a2 : Int)  (σ : ST) (Q : VQ) : Sm (V g mX13_control d 0 [(0, vr a1), (1, vi a2)] [] σ τ Q) (jw_control (gRm g) a1 a2 σ) (fun r => Q.1 none r τ) := by
  unfold jw_control
  refine sm_top (fun K hRET => ?_)
  refine sm_b (l' := [(0, vr a1), (1, vi a2)]) (st' := [vi 92, vr a1]) (pc' := 3) [(.aload_n 0, vi 0, 1), (.bipush 92, vi 92, 3)] (by decide +kernel) rfl rfl ?_
  refine sm_de (fun p1 h2 => ?_)
  refine sm_st [vi 92, vr (some p1)] (by rw [h2] <;> rfl) ?_
  refine sm_gd (fun h3 => ?_)
  refine sm_cv (N := mX3_add) (d' := d - 1) (fun r => none) (fun r => r) (fun _ => τ) [vi 92] [] rfl (by decide +kernel) q1105 q535 q536 (Or.inl ⟨rfl, q537⟩) (show okN yX3_add 1 = true by decide +kernel) (fun H hR => hR.rvR G.1 h3) rfl rfl (by omega) rfl (fun Q' => r_add_ok G (d - 1) (by omega) p1 92 σ Q') (fun y4 => ?_)
  refine sm_b (l' := [(0, vr a1), (1, vi a2)]) (st' := [vi a2]) (pc' := 7) [(.iload_n 1, vi 0, 7)] (by decide +kernel) rfl rfl ?_
  refine sm_gd (fun h5 => ?_)
  refine sm_if (fun c6 => ?_) (fun c6 => ?_)
  · refine sm_dflt (V g mX13_control d 44 [(0, vr a1), (1, vi a2)] [] y4 τ Q) ?_ (fun f7 => ?_)
    · refine sm_b (l' := [(0, vr a1), (1, vi a2)]) (st' := [vi 98, vr a1]) (pc' := 47) [(.aload_n 0, vi 0, 45), (.bipush 98, vi 98, 47)] (by decide +kernel) rfl rfl ?_
      refine sm_st [vi 98, vr (some p1)] (by rw [h2] <;> rfl) ?_
      refine sm_gd (fun h8 => ?_)
      refine sm_cv (N := mX3_add) (d' := d - 1) (fun r => none) (fun r => r) (fun _ => τ) [vi 98] [] rfl (by decide +kernel) q1105 q535 q536 (Or.inl ⟨rfl, q537⟩) (show okN yX3_add 1 = true by decide +kernel) (fun H hR => hR.rvR G.1 h8) rfl rfl (by omega) rfl (fun Q' => r_add_ok G (d - 1) (by omega) p1 98 y4 Q') (fun y9 => ?_)
      refine sm_b (l' := [(0, vr a1), (1, vi a2)]) (st' := []) (pc' := 120) [(.goto 70, vi 0, 120)] (by decide +kernel) rfl rfl ?_
      exact sm_vret rfl (by decide +kernel) (fun h => hRET _ h)
    exact sm_tcase (df := 82) (lo := 8) (hi := 13) (os := #[37, 46, 55, 82, 64, 73]) (n := 37) (k := 8) (off := 37) (tgt := 44) (by decide +kernel) c6 f7
  · refine sm_if (fun c10 => ?_) (fun c10 => ?_)
    · refine sm_dflt (V g mX13_control d 53 [(0, vr a1), (1, vi a2)] [] y4 τ Q) ?_ (fun f11 => ?_)
      · refine sm_b (l' := [(0, vr a1), (1, vi a2)]) (st' := [vi 116, vr a1]) (pc' := 56) [(.aload_n 0, vi 0, 54), (.bipush 116, vi 116, 56)] (by decide +kernel) rfl rfl ?_
        refine sm_st [vi 116, vr (some p1)] (by rw [h2] <;> rfl) ?_
        refine sm_gd (fun h12 => ?_)
        refine sm_cv (N := mX3_add) (d' := d - 1) (fun r => none) (fun r => r) (fun _ => τ) [vi 116] [] rfl (by decide +kernel) q1105 q535 q536 (Or.inl ⟨rfl, q537⟩) (show okN yX3_add 1 = true by decide +kernel) (fun H hR => hR.rvR G.1 h12) rfl rfl (by omega) rfl (fun Q' => r_add_ok G (d - 1) (by omega) p1 116 y4 Q') (fun y13 => ?_)
        refine sm_b (l' := [(0, vr a1), (1, vi a2)]) (st' := []) (pc' := 120) [(.goto 61, vi 0, 120)] (by decide +kernel) rfl rfl ?_
        exact sm_vret rfl (by decide +kernel) (fun h => hRET _ h)
      exact sm_tcase (df := 82) (lo := 8) (hi := 13) (os := #[37, 46, 55, 82, 64, 73]) (n := 37) (k := 9) (off := 46) (tgt := 53) (by decide +kernel) c10 f11
    · refine sm_if (fun c14 => ?_) (fun c14 => ?_)
      · refine sm_dflt (V g mX13_control d 62 [(0, vr a1), (1, vi a2)] [] y4 τ Q) ?_ (fun f15 => ?_)
        · refine sm_b (l' := [(0, vr a1), (1, vi a2)]) (st' := [vi 110, vr a1]) (pc' := 65) [(.aload_n 0, vi 0, 63), (.bipush 110, vi 110, 65)] (by decide +kernel) rfl rfl ?_
          refine sm_st [vi 110, vr (some p1)] (by rw [h2] <;> rfl) ?_
          refine sm_gd (fun h16 => ?_)
          refine sm_cv (N := mX3_add) (d' := d - 1) (fun r => none) (fun r => r) (fun _ => τ) [vi 110] [] rfl (by decide +kernel) q1105 q535 q536 (Or.inl ⟨rfl, q537⟩) (show okN yX3_add 1 = true by decide +kernel) (fun H hR => hR.rvR G.1 h16) rfl rfl (by omega) rfl (fun Q' => r_add_ok G (d - 1) (by omega) p1 110 y4 Q') (fun y17 => ?_)
          refine sm_b (l' := [(0, vr a1), (1, vi a2)]) (st' := []) (pc' := 120) [(.goto 52, vi 0, 120)] (by decide +kernel) rfl rfl ?_
          exact sm_vret rfl (by decide +kernel) (fun h => hRET _ h)
        exact sm_tcase (df := 82) (lo := 8) (hi := 13) (os := #[37, 46, 55, 82, 64, 73]) (n := 37) (k := 10) (off := 55) (tgt := 62) (by decide +kernel) c14 f15
      · refine sm_if (fun c18 => ?_) (fun c18 => ?_)
        · refine sm_dflt (V g mX13_control d 71 [(0, vr a1), (1, vi a2)] [] y4 τ Q) ?_ (fun f19 => ?_)
          · refine sm_b (l' := [(0, vr a1), (1, vi a2)]) (st' := [vi 102, vr a1]) (pc' := 74) [(.aload_n 0, vi 0, 72), (.bipush 102, vi 102, 74)] (by decide +kernel) rfl rfl ?_
            refine sm_st [vi 102, vr (some p1)] (by rw [h2] <;> rfl) ?_
            refine sm_gd (fun h20 => ?_)
            refine sm_cv (N := mX3_add) (d' := d - 1) (fun r => none) (fun r => r) (fun _ => τ) [vi 102] [] rfl (by decide +kernel) q1105 q535 q536 (Or.inl ⟨rfl, q537⟩) (show okN yX3_add 1 = true by decide +kernel) (fun H hR => hR.rvR G.1 h20) rfl rfl (by omega) rfl (fun Q' => r_add_ok G (d - 1) (by omega) p1 102 y4 Q') (fun y21 => ?_)
            refine sm_b (l' := [(0, vr a1), (1, vi a2)]) (st' := []) (pc' := 120) [(.goto 43, vi 0, 120)] (by decide +kernel) rfl rfl ?_
            exact sm_vret rfl (by decide +kernel) (fun h => hRET _ h)
          exact sm_tcase (df := 82) (lo := 8) (hi := 13) (os := #[37, 46, 55, 82, 64, 73]) (n := 37) (k := 12) (off := 64) (tgt := 71) (by decide +kernel) c18 f19
        · refine sm_if (fun c22 => ?_) (fun c22 => ?_)
          · refine sm_dflt (V g mX13_control d 80 [(0, vr a1), (1, vi a2)] [] y4 τ Q) ?_ (fun f23 => ?_)
            · refine sm_b (l' := [(0, vr a1), (1, vi a2)]) (st' := [vi 114, vr a1]) (pc' := 83) [(.aload_n 0, vi 0, 81), (.bipush 114, vi 114, 83)] (by decide +kernel) rfl rfl ?_
              refine sm_st [vi 114, vr (some p1)] (by rw [h2] <;> rfl) ?_
              refine sm_gd (fun h24 => ?_)
              refine sm_cv (N := mX3_add) (d' := d - 1) (fun r => none) (fun r => r) (fun _ => τ) [vi 114] [] rfl (by decide +kernel) q1105 q535 q536 (Or.inl ⟨rfl, q537⟩) (show okN yX3_add 1 = true by decide +kernel) (fun H hR => hR.rvR G.1 h24) rfl rfl (by omega) rfl (fun Q' => r_add_ok G (d - 1) (by omega) p1 114 y4 Q') (fun y25 => ?_)
              refine sm_b (l' := [(0, vr a1), (1, vi a2)]) (st' := []) (pc' := 120) [(.goto 34, vi 0, 120)] (by decide +kernel) rfl rfl ?_
              exact sm_vret rfl (by decide +kernel) (fun h => hRET _ h)
            exact sm_tcase (df := 82) (lo := 8) (hi := 13) (os := #[37, 46, 55, 82, 64, 73]) (n := 37) (k := 13) (off := 73) (tgt := 80) (by decide +kernel) c22 f23
          · refine sm_dflt (V g mX13_control d 89 [(0, vr a1), (1, vi a2)] [] y4 τ Q) ?_ (fun f34 => ?_)
            · refine sm_b (l' := [(0, vr a1), (1, vi a2)]) (st' := [vr a1]) (pc' := 90) [(.aload_n 0, vi 0, 90)] (by decide +kernel) rfl rfl ?_
              refine sm_str (k := 0) G rfl (by decide +kernel) ?_
              refine sm_st [vr (some (gK g 0)), vr (some p1)] (by rw [h2] <;> rfl) ?_
              refine sm_gd (fun h26 => ?_)
              refine sm_cv (N := mX3_addText) (d' := d - 1) (fun r => none) (fun r => r) (fun _ => τ) [vr (some (gK g 0))] [] rfl (by decide +kernel) q1118 q1119 q1120 (Or.inl ⟨rfl, q1121⟩) (show okN yX3_addText 1 = true by decide +kernel) (fun H hR => hR.rvR G.1 h26) rfl rfl (by omega) rfl (fun Q' => row_addText_ok G (d - 1) (by omega) p1 0 y4 Q') (fun y27 => ?_)
              refine sm_b (l' := [(0, vr a1), (1, vi a2)]) (st' := [vr a1]) (pc' := 96) [(.aload_n 0, vi 0, 96)] (by decide +kernel) rfl rfl ?_
              refine sm_str (k := 1) G rfl (by decide +kernel) ?_
              refine sm_b (l' := [(0, vr a1), (1, vi a2)]) (st' := [vi (iShr a2 4), vr (some (gK g 1)), vr a1]) (pc' := 101) [(.iload_n 1, vi 0, 99), (.iconst 4, vi 4, 100), (.ishr, vi 0, 101)] (by decide +kernel) rfl rfl ?_
              refine sm_gd (fun h28 => ?_)
              refine sm_scha (k := 1) G [vr a1] rfl (by decide +kernel) q1123 h28 (by omega) rfl ?_
              refine sm_st [vi (((sch 1 (iShr a2 4).toNat : Nat) : Int)), vr (some p1)] (by rw [h2] <;> rfl) ?_
              refine sm_gd (fun h29 => ?_)
              refine sm_cv (N := mX3_add) (d' := d - 1) (fun r => none) (fun r => r) (fun _ => τ) [vi (((sch 1 (iShr a2 4).toNat : Nat) : Int))] [] rfl (by decide +kernel) q1105 q535 q536 (Or.inl ⟨rfl, q537⟩) (show okN yX3_add 1 = true by decide +kernel) (fun H hR => hR.rvR G.1 h29) rfl rfl (by omega) rfl (fun Q' => r_add_ok G (d - 1) (by omega) p1 (((sch 1 (iShr a2 4).toNat : Nat) : Int)) y27 Q') (fun y30 => ?_)
              refine sm_b (l' := [(0, vr a1), (1, vi a2)]) (st' := [vr a1]) (pc' := 108) [(.aload_n 0, vi 0, 108)] (by decide +kernel) rfl rfl ?_
              refine sm_str (k := 1) G rfl (by decide +kernel) ?_
              refine sm_b (l' := [(0, vr a1), (1, vi a2)]) (st' := [vi (iAnd a2 15), vr (some (gK g 1)), vr a1]) (pc' := 114) [(.iload_n 1, vi 0, 111), (.bipush 15, vi 15, 113), (.iand, vi 0, 114)] (by decide +kernel) rfl rfl ?_
              refine sm_gd (fun h31 => ?_)
              refine sm_scha (k := 1) G [vr a1] rfl (by decide +kernel) q1123 h31 (by omega) rfl ?_
              refine sm_st [vi (((sch 1 (iAnd a2 15).toNat : Nat) : Int)), vr (some p1)] (by rw [h2] <;> rfl) ?_
              refine sm_gd (fun h32 => ?_)
              refine sm_cv (N := mX3_add) (d' := d - 1) (fun r => none) (fun r => r) (fun _ => τ) [vi (((sch 1 (iAnd a2 15).toNat : Nat) : Int))] [] rfl (by decide +kernel) q1105 q535 q536 (Or.inl ⟨rfl, q537⟩) (show okN yX3_add 1 = true by decide +kernel) (fun H hR => hR.rvR G.1 h32) rfl rfl (by omega) rfl (fun Q' => r_add_ok G (d - 1) (by omega) p1 (((sch 1 (iAnd a2 15).toNat : Nat) : Int)) y30 Q') (fun y33 => ?_)
              exact sm_vret rfl (by decide +kernel) (fun h => hRET _ h)
            by_cases c35 : a2 = 11
            · exact sm_tcase (df := 82) (lo := 8) (hi := 13) (os := #[37, 46, 55, 82, 64, 73]) (n := 37) (k := 11) (off := 82) (tgt := 89) (by decide +kernel) c35 f34
            exact sm_tdef (df := 82) (lo := 8) (hi := 13) (os := #[37, 46, 55, 82, 64, 73]) (n := 37) (tgt := 89) h5 (by decide +kernel) (by omega) f34
