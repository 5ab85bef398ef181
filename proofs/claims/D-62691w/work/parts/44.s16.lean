set_option maxRecDepth 100000
/-! the system: X14_slot, X14_inner, X14_row, X14_field -/
def jr_slot (bb : Nat × Nat) (a0 : Nat) (a1 : Option Nat) (σ : ST) : Option (Option (Option Nat) × ST) := gd (sc σ a0 = 14) (Option.bind (jr_blanks bb a0 σ) fun y2 => gd (rm bb y2 5) (nm (nO y2 13 5) fun σ4 => Option.bind (sl_init bb (sZ y2) a1 σ4) fun y5 => Option.bind a1 fun p6 => gd (sc y5 p6 = 9) (gd (rg (sI y5 132 p6)) (if (sI y5 132 p6) = 8 then (gd (sc y5 a0 = 14) (Option.bind (jr_passesWord bb a0 6 y5) fun y13 => Option.bind (gd (rg y13.1) (if y13.1 = 0 then (gd (sc y13.2 a0 = 14) (Option.bind (jr_passesWord bb a0 7 y13.2) fun y37 => gd (rg y37.1) (if y37.1 = 0 then (some ((0, y37.2))) else (some ((1, y37.2)))))) else (some ((1, y13.2))))) fun (v16 : Int × ST) => Option.bind (s_must bb v16.1 v16.2) (tB (fun z => (none, z)) fun y21 σ22 => Option.bind (gd (rg y13.1) (if y13.1 = 0 then (some 0) else (some 1))) fun (v26 : Int64) => gd (sc σ22 (sZ y2) = 13) (nm (pJ σ22 193 (sZ y2) v26) fun σ31 => some ((some (some (sZ y2)), σ31)))))) else (if (sI y5 132 p6) = 9 then (gd (sc y5 a0 = 14) (Option.bind (jr_string bb a0 y5) (tB (fun z => (none, z)) fun y52 σ53 => Option.bind y52 fun p54 => gd (sc σ53 p54 = 4) (Option.bind (row_copy bb p54 σ53) fun y57 => gd (sc y57.2 (sZ y2) = 13) (nm (pR y57.2 194 (sZ y2) y57.1) fun σ59 => some ((some (some (sZ y2)), σ59))))))) else (if (sI y5 132 p6) = 10 then (gd (sc y5 a0 = 14) (Option.bind (jr_string bb a0 y5) (tB (fun z => (none, z)) fun y64 σ65 => Option.bind (b64_read bb y64 σ65) fun y66 => gd (sc y66.2 (sZ y2) = 13) (nm (pR y66.2 194 (sZ y2) y66.1) fun σ68 => gd (sc σ68 (sZ y2) = 13) (Option.bind (if (sR σ68 194 (sZ y2)) = none then (some 0) else (some 1)) fun (v72 : Int) => Option.bind (s_must bb v72 σ68) (tB (fun z => (none, z)) fun y77 σ78 => some ((some (some (sZ y2)), σ78)))))))) else (gd ((sI y5 132 p6) = 32 → sc y5 a0 = 14) (gd ((sI y5 132 p6) = 32 → ok (jr_look a0 y5)) (gd ((sI y5 132 p6) = 32 → rg (vv (jr_look a0 y5))) (if ((sI y5 132 p6) = 32) ∧ ((vv (jr_look a0 y5)) = 34) then (gd (sc y5 a0 = 14) (Option.bind (jr_string bb a0 y5) (tB (fun z => (none, z)) fun y94 σ95 => Option.bind (sR y5 138 p6) fun p96 => gd (sc σ95 p96 = 8) (Option.bind (et_valueOf p96 y94 σ95) fun y99 => Option.bind (gd (rg y99) (if y99 < 0 then (some 0) else (some 1))) fun (v103 : Int) => Option.bind (s_must bb v103 σ95) (tB (fun z => (none, z)) fun y108 σ109 => gd (sc σ109 p6 = 9) (Option.bind (sR σ109 138 p6) fun p111 => gd (sc σ109 p111 = 8) (Option.bind (sR σ109 115 p111) fun p114 => gd (sc σ109 p114 = 102) (gd (ib y99 (sN σ109 p114)) (gd (sc σ109 (sZ y2) = 13) (nm (pJ σ109 193 (sZ y2) (iL (sE σ109 p114 y99.toNat))) fun σ119 => some ((some (some (sZ y2)), σ119)))))))))))) else (gd (sc y5 a0 = 14) (Option.bind (jr_look a0 y5) fun y125 => Option.bind (gd (rg y125) (if y125 = 34 then (Option.bind (jr_string bb a0 y5) (tB (fun z => Sum.inl ((none, z))) fun y178 σ179 => some (Sum.inr ((y178, σ179))))) else (Option.bind (jr_number bb a0 y5) fun y180 => some (Sum.inr ((y180.1, y180.2)))))) (Sum.elim some fun (v129 : Option Nat × ST) => Option.bind (sR y5 212 a0) fun p133 => gd (sc v129.2 p133 = 15) (Option.bind (wh_read bb p133 v129.1 v129.2) fun y136 => gd (sc y136 a0 = 14) (Option.bind (sR y136 212 a0) fun p138 => gd (sc y136 p138 = 15) (Option.bind (gd (rg (sI y136 224 p138)) (gd (¬ ((sI y136 224 p138) = 0) → sc y136 p6 = 9) (gd (¬ ((sI y136 224 p138) = 0) → ok (wh_fits p138 (sI y136 132 p6) y136)) (gd (¬ ((sI y136 224 p138) = 0) → rg (vv (wh_fits p138 (sI y136 132 p6) y136))) (if ((sI y136 224 p138) = 0) ∨ ((vv (wh_fits p138 (sI y136 132 p6) y136)) = 0) then (some 0) else (some 1)))))) fun (v148 : Int) => Option.bind (s_must bb v148 y136) (tB (fun z => (none, z)) fun y153 σ154 => gd (sc σ154 a0 = 14) (Option.bind (sR σ154 212 a0) fun p156 => gd (sc σ154 p156 = 15) (Option.bind (gd (rg (sI σ154 225 p156)) (if (sI σ154 225 p156) = 0 then (some ((sJ σ154 226 p156))) else (some ((-(sJ σ154 226 p156)))))) fun (v162 : Int64) => gd (sc σ154 (sZ y2) = 13) (nm (pJ σ154 193 (sZ y2) v162) fun σ167 => some ((some (some (sZ y2)), σ167))))))))))))))))))))))
set_option maxHeartbeats 4000000 in
theorem jr_slot_ok {g : GE} (G : GG g) {τ : TT} (d : Nat) (hd1 : 11 ≤ d) (a0 : Nat) (a1 : Option Nat)  (σ : ST) (Q : VQ) : Sm (V g mX14_slot d 0 [(0, vr (some a0)), (1, vr a1)] [] σ τ Q) (jr_slot (gRm g) a0 a1 σ) (fun r => tQ Q τ (fun r : Option Nat => some (vr r)) r) := by
  unfold jr_slot
  refine sm_top (fun K hRET => ?_)
  refine sm_b (l' := [(0, vr (some a0)), (1, vr a1)]) (st' := [vr (some a0)]) (pc' := 1) [(.aload_n 0, vi 0, 1)] (by decide +kernel) rfl rfl ?_
  refine sm_gd (fun h1 => ?_)
  refine sm_cv (N := mX14_blanks) (d' := d - 1) (fun r => none) (fun r => r) (fun _ => τ) [] [] rfl (by decide +kernel) q1229 q1231 qs34 (Or.inl ⟨rfl, q1232⟩) (show okN yX14_blanks 0 = true by decide +kernel) (fun H hR => hR.rv G.1 cd13 rfl h1) rfl rfl (by omega) rfl (fun Q' => jr_blanks_ok G (d - 1) (by omega) a0 σ Q') (fun y2 => ?_)
  refine sm_gd (fun h3 => ?_)
  refine sm_new cd12 rfl q1302 q1012 q159 (new_12 y2) h3 (by decide +kernel) ?_
  refine sm_nms (fun σ4 => ?_)
  refine sm_b (l' := [(0, vr (some a0)), (1, vr a1)]) (st' := [vr a1, vr (some (sZ y2)), vr (some (sZ y2))]) (pc' := 9) [(.dup, vi 0, 8), (.aload_n 1, vi 0, 9)] (by decide +kernel) rfl rfl ?_
  refine sm_ci (N := mX12_init) (d' := d - 1) [vr a1] [vr (some (sZ y2))] rfl (by decide +kernel) q1303 q1014 rfl q1015 rfl rfl (show okN yX12_init 1 = true by decide +kernel) rfl rfl (by omega) rfl (fun Q' => sl_init_ok G (d - 1) (by omega) (sZ y2) a1 σ4 Q') (fun y5 => ?_)
  refine sm_b (l' := [(0, vr (some a0)), (1, vr a1), (2, vr (some (sZ y2)))]) (st' := [vr a1]) (pc' := 14) [(.astore_n 2, vi 0, 13), (.aload_n 1, vi 0, 14)] (by decide +kernel) rfl rfl ?_
  refine sm_de (fun p6 h7 => ?_)
  refine sm_st [vr (some p6)] (by rw [h7] <;> rfl) ?_
  refine sm_gd (fun h8 => ?_)
  refine sm_gN (k := 4) (x := vi (sI y5 132 p6)) cd8 rfl h8 rfl q736 rfl (by decide +kernel) ?_
  refine sm_b (l' := [(0, vr (some a0)), (1, vr a1), (2, vr (some (sZ y2)))]) (st' := [vi 8, vi (sI y5 132 p6)]) (pc' := 19) [(.bipush 8, vi 8, 19)] (by decide +kernel) rfl rfl ?_
  refine sm_gd (fun h9 => ?_)
  refine sm_case (V g mX14_slot d 22 [(0, vr (some a0)), (1, vr a1), (2, vr (some (sZ y2)))] [] y5 τ Q) (V g mX14_slot d 66 [(0, vr (some a0)), (1, vr a1), (2, vr (some (sZ y2)))] [] y5 τ Q) ?_ ?_ (fun f198 p199 n200 => ?_)
  · refine sm_b (l' := [(0, vr (some a0)), (1, vr a1), (2, vr (some (sZ y2)))]) (st' := [vr (some a0)]) (pc' := 23) [(.aload_n 0, vi 0, 23)] (by decide +kernel) rfl rfl ?_
    refine sm_str (k := 6) G rfl (by decide +kernel) ?_
    refine sm_gd (fun h12 => ?_)
    refine sm_cv (N := mX14_passesWord) (d' := d - 1) (fun r => (some (vi r.1))) (fun r => r.2) (fun _ => τ) [vr (some (gK g 6))] [] rfl (by decide +kernel) q1284 q1286 qs42 (Or.inl ⟨rfl, q1287⟩) (show okN yX14_passesWord 1 = true by decide +kernel) (fun H hR => hR.rv G.1 cd13 rfl h12) rfl rfl (by omega) rfl (fun Q' => jr_passesWord_ok G (d - 1) (by omega) a0 6 y5 Q') (fun y13 => ?_)
    refine sm_b (l' := [(0, vr (some a0)), (1, vr a1), (2, vr (some (sZ y2))), (3, vi y13.1)]) (st' := [vi y13.1]) (pc' := 30) [(.istore_n 3, vi 0, 29), (.iload_n 3, vi 0, 30)] (by decide +kernel) rfl rfl ?_
    refine sm_bind1 (fun (v16 : Int × ST) => V g mX14_slot d 47 [(2, vr (some (sZ y2))), (3, vi y13.1)] [vi v16.1] v16.2 τ Q) (fun v16 => ?_) (fun K17 j18 => ?_)
    · refine sm_csTE (N := mX14_must) (d' := d - 1) (fun _ : Unit => none) (fun z => (none, z)) [vi v16.1] [] rfl (by decide +kernel) q1237 q1238 q162 (Or.inl ⟨rfl, q1239⟩) (show okN yX14_must 1 = true by decide +kernel) rfl rfl (by omega) rfl (fun Q' => jr_must_ok G (d - 1) (by omega) v16.1 v16.2 Q') (fun z h => hRET _ h) (fun y21 σ22 => ?_)
      refine sm_b (l' := [(2, vr (some (sZ y2))), (3, vi y13.1)]) (st' := [vi y13.1, vr (some (sZ y2))]) (pc' := 52) [(.aload_n 2, vi 0, 51), (.iload_n 3, vi 0, 52)] (by decide +kernel) rfl rfl ?_
      refine sm_bind1 (fun (v26 : Int64) => V g mX14_slot d 60 [(2, vr (some (sZ y2)))] [vl v26, vr (some (sZ y2))] σ22 τ Q) (fun v26 => ?_) (fun K27 j28 => ?_)
      · refine sm_gd (fun h30 => ?_)
        refine sm_pN (k := 1) (x := vl v26) cd12 rfl h30 rfl q1025 rfl (nar_j _) (fit_j _) rfl (at_pJ σ22 193 (sZ y2) v26) (fp_193 σ22 (sZ y2) v26) (by decide +kernel) ?_
        refine sm_nms (fun σ31 => ?_)
        refine sm_b (l' := [(2, vr (some (sZ y2)))]) (st' := [vr (some (sZ y2))]) (pc' := 278) [(.goto 214, vi 0, 277), (.aload_n 2, vi 0, 278)] (by decide +kernel) rfl rfl ?_
        exact sm_aret rfl rfl (by decide +kernel) (fun h => hRET _ h)
      · refine sm_gd (fun h23 => ?_)
        refine sm_case (V g mX14_slot d 59 [(2, vr (some (sZ y2))), (3, vi y13.1)] [vr (some (sZ y2))] σ22 τ Q) (V g mX14_slot d 55 [(2, vr (some (sZ y2))), (3, vi y13.1)] [vr (some (sZ y2))] σ22 τ Q) ?_ ?_ (fun f32 p33 n34 => ?_)
        · refine sm_b (l' := [(2, vr (some (sZ y2))), (3, vi y13.1)]) (st' := [vl 0, vr (some (sZ y2))]) (pc' := 60) [(.lconst 0, vl 0, 60)] (by decide +kernel) rfl rfl ?_
          refine sm_pick [0] (l' := [(2, vr (some (sZ y2)))]) rfl ?_
          exact sm_leaf (fun h => j28 _ h)
        · refine sm_b (l' := [(2, vr (some (sZ y2))), (3, vi y13.1)]) (st' := [vl 1, vr (some (sZ y2))]) (pc' := 60) [(.lconst 1, vl 1, 56), (.goto 4, vi 0, 60)] (by decide +kernel) rfl rfl ?_
          refine sm_pick [0] (l' := [(2, vr (some (sZ y2)))]) rfl ?_
          exact sm_leaf (fun h => j28 _ h)
        refine sm_if_eq (off := 7) (tgt := 59) h23 (by decide +kernel) (fun c35 => ?_) (fun c35 => ?_)
        · exact p33 c35
        · exact n34 c35
    · refine sm_gd (fun h14 => ?_)
      refine sm_case (V g mX14_slot d 33 [(0, vr (some a0)), (1, vr a1), (2, vr (some (sZ y2))), (3, vi y13.1)] [] y13.2 τ Q) (V g mX14_slot d 42 [(0, vr (some a0)), (1, vr a1), (2, vr (some (sZ y2))), (3, vi y13.1)] [] y13.2 τ Q) ?_ ?_ (fun f44 p45 n46 => ?_)
      · refine sm_b (l' := [(0, vr (some a0)), (1, vr a1), (2, vr (some (sZ y2))), (3, vi y13.1)]) (st' := [vr (some a0)]) (pc' := 34) [(.aload_n 0, vi 0, 34)] (by decide +kernel) rfl rfl ?_
        refine sm_str (k := 7) G rfl (by decide +kernel) ?_
        refine sm_gd (fun h36 => ?_)
        refine sm_cv (N := mX14_passesWord) (d' := d - 1) (fun r => (some (vi r.1))) (fun r => r.2) (fun _ => τ) [vr (some (gK g 7))] [] rfl (by decide +kernel) q1284 q1286 qs42 (Or.inl ⟨rfl, q1287⟩) (show okN yX14_passesWord 1 = true by decide +kernel) (fun H hR => hR.rv G.1 cd13 rfl h36) rfl rfl (by omega) rfl (fun Q' => jr_passesWord_ok G (d - 1) (by omega) a0 7 y13.2 Q') (fun y37 => ?_)
        refine sm_gd (fun h38 => ?_)
        refine sm_case (V g mX14_slot d 46 [(0, vr (some a0)), (1, vr a1), (2, vr (some (sZ y2))), (3, vi y13.1)] [] y37.2 τ Q) (V g mX14_slot d 42 [(0, vr (some a0)), (1, vr a1), (2, vr (some (sZ y2))), (3, vi y13.1)] [] y37.2 τ Q) ?_ ?_ (fun f40 p41 n42 => ?_)
        · refine sm_b (l' := [(0, vr (some a0)), (1, vr a1), (2, vr (some (sZ y2))), (3, vi y13.1)]) (st' := [vi 0]) (pc' := 47) [(.iconst 0, vi 0, 47)] (by decide +kernel) rfl rfl ?_
          refine sm_pick [2, 3] (l' := [(2, vr (some (sZ y2))), (3, vi y13.1)]) rfl ?_
          exact sm_leaf (fun h => j18 _ h)
        · refine sm_b (l' := [(0, vr (some a0)), (1, vr a1), (2, vr (some (sZ y2))), (3, vi y13.1)]) (st' := [vi 1]) (pc' := 47) [(.iconst 1, vi 1, 43), (.goto 4, vi 0, 47)] (by decide +kernel) rfl rfl ?_
          refine sm_pick [2, 3] (l' := [(2, vr (some (sZ y2))), (3, vi y13.1)]) rfl ?_
          exact sm_leaf (fun h => j18 _ h)
        refine sm_if_eq (off := 7) (tgt := 46) h38 (by decide +kernel) (fun c43 => ?_) (fun c43 => ?_)
        · exact p41 c43
        · exact n42 c43
      · refine sm_b (l' := [(0, vr (some a0)), (1, vr a1), (2, vr (some (sZ y2))), (3, vi y13.1)]) (st' := [vi 1]) (pc' := 47) [(.iconst 1, vi 1, 43), (.goto 4, vi 0, 47)] (by decide +kernel) rfl rfl ?_
        refine sm_pick [2, 3] (l' := [(2, vr (some (sZ y2))), (3, vi y13.1)]) rfl ?_
        exact sm_leaf (fun h => j18 _ h)
      refine sm_if_ne (off := 12) (tgt := 42) h14 (by decide +kernel) (fun c47 => ?_) (fun c47 => ?_)
      · exact n46 c47
      · exact p45 c47
  · refine sm_b (l' := [(0, vr (some a0)), (1, vr a1), (2, vr (some (sZ y2)))]) (st' := [vr a1]) (pc' := 67) [(.aload_n 1, vi 0, 67)] (by decide +kernel) rfl rfl ?_
    refine sm_st [vr (some p6)] (by rw [h7] <;> rfl) ?_
    refine sm_gN (k := 4) (x := vi (sI y5 132 p6)) cd8 rfl h8 rfl q736 rfl (by decide +kernel) ?_
    refine sm_b (l' := [(0, vr (some a0)), (1, vr a1), (2, vr (some (sZ y2)))]) (st' := [vi 9, vi (sI y5 132 p6)]) (pc' := 72) [(.bipush 9, vi 9, 72)] (by decide +kernel) rfl rfl ?_
    refine sm_case (V g mX14_slot d 75 [(0, vr (some a0)), (1, vr a1), (2, vr (some (sZ y2)))] [] y5 τ Q) (V g mX14_slot d 89 [(0, vr (some a0)), (1, vr a1), (2, vr (some (sZ y2)))] [] y5 τ Q) ?_ ?_ (fun f194 p195 n196 => ?_)
    · refine sm_b (l' := [(0, vr (some a0)), (1, vr a1), (2, vr (some (sZ y2)))]) (st' := [vr (some a0), vr (some (sZ y2))]) (pc' := 77) [(.aload_n 2, vi 0, 76), (.aload_n 0, vi 0, 77)] (by decide +kernel) rfl rfl ?_
      refine sm_gd (fun h50 => ?_)
      refine sm_cvT (N := mX14_string) (d' := d - 1) (fun r : Option Nat => some (vr r)) (fun z => (none, z)) [] [vr (some (sZ y2))] rfl (by decide +kernel) q1250 q1252 qs38 (Or.inl ⟨rfl, q1253⟩) (show okN yX14_string 0 = true by decide +kernel) (fun H hR => hR.rv G.1 cd13 rfl h50) rfl rfl (by omega) rfl (fun Q' => jr_string_ok G (d - 1) (by omega) a0 y5 Q') (fun z h => hRET _ h) (fun y52 σ53 => ?_)
      refine sm_de (fun p54 h55 => ?_)
      refine sm_st [vr (some p54), vr (some (sZ y2))] (by rw [h55] <;> rfl) ?_
      refine sm_gd (fun h56 => ?_)
      refine sm_cv (N := mX3_copy) (d' := d - 1) (fun r => (some (vr r.1))) (fun r => r.2) (fun _ => τ) [] [vr (some (sZ y2))] rfl (by decide +kernel) q1306 q1307 q1308 (Or.inl ⟨rfl, q1309⟩) (show okN yX3_copy 0 = true by decide +kernel) (fun H hR => hR.rvR G.1 h56) rfl rfl (by omega) rfl (fun Q' => row_copy_ok G (d - 1) (by omega) p54 σ53 Q') (fun y57 => ?_)
      refine sm_gd (fun h58 => ?_)
      refine sm_pN (k := 2) (x := vr y57.1) cd12 rfl h58 rfl q1030 rfl (nar_r _ rfl) (fit_r _ rfl) rfl (at_pR y57.2 194 (sZ y2) y57.1) (fp_194 y57.2 (sZ y2) y57.1) (by decide +kernel) ?_
      refine sm_nms (fun σ59 => ?_)
      refine sm_b (l' := [(0, vr (some a0)), (1, vr a1), (2, vr (some (sZ y2)))]) (st' := [vr (some (sZ y2))]) (pc' := 278) [(.goto 191, vi 0, 277), (.aload_n 2, vi 0, 278)] (by decide +kernel) rfl rfl ?_
      exact sm_aret rfl rfl (by decide +kernel) (fun h => hRET _ h)
    · refine sm_b (l' := [(0, vr (some a0)), (1, vr a1), (2, vr (some (sZ y2)))]) (st' := [vr a1]) (pc' := 90) [(.aload_n 1, vi 0, 90)] (by decide +kernel) rfl rfl ?_
      refine sm_st [vr (some p6)] (by rw [h7] <;> rfl) ?_
      refine sm_gN (k := 4) (x := vi (sI y5 132 p6)) cd8 rfl h8 rfl q736 rfl (by decide +kernel) ?_
      refine sm_b (l' := [(0, vr (some a0)), (1, vr a1), (2, vr (some (sZ y2)))]) (st' := [vi 10, vi (sI y5 132 p6)]) (pc' := 95) [(.bipush 10, vi 10, 95)] (by decide +kernel) rfl rfl ?_
      refine sm_case (V g mX14_slot d 98 [(0, vr (some a0)), (1, vr a1), (2, vr (some (sZ y2)))] [] y5 τ Q) (V g mX14_slot d 127 [(0, vr (some a0)), (1, vr a1), (2, vr (some (sZ y2)))] [] y5 τ Q) ?_ ?_ (fun f190 p191 n192 => ?_)
      · refine sm_b (l' := [(0, vr (some a0)), (1, vr a1), (2, vr (some (sZ y2)))]) (st' := [vr (some a0), vr (some (sZ y2))]) (pc' := 100) [(.aload_n 2, vi 0, 99), (.aload_n 0, vi 0, 100)] (by decide +kernel) rfl rfl ?_
        refine sm_gd (fun h62 => ?_)
        refine sm_cvT (N := mX14_string) (d' := d - 1) (fun r : Option Nat => some (vr r)) (fun z => (none, z)) [] [vr (some (sZ y2))] rfl (by decide +kernel) q1250 q1252 qs38 (Or.inl ⟨rfl, q1253⟩) (show okN yX14_string 0 = true by decide +kernel) (fun H hR => hR.rv G.1 cd13 rfl h62) rfl rfl (by omega) rfl (fun Q' => jr_string_ok G (d - 1) (by omega) a0 y5 Q') (fun z h => hRET _ h) (fun y64 σ65 => ?_)
        refine sm_cs (N := mX16_read) (d' := d - 1) (fun r => (some (vr r.1))) (fun r => r.2) (fun _ => τ) [vr y64] [vr (some (sZ y2))] rfl (by decide +kernel) q1313 q1314 q164 (Or.inl ⟨rfl, q1315⟩) (show okN yX16_read 1 = true by decide +kernel) rfl rfl (by omega) rfl (fun Q' => b64_read_ok G (d - 1) (by omega) y64 σ65 Q') (fun y66 => ?_)
        refine sm_gd (fun h67 => ?_)
        refine sm_pN (k := 2) (x := vr y66.1) cd12 rfl h67 rfl q1030 rfl (nar_r _ rfl) (fit_r _ rfl) rfl (at_pR y66.2 194 (sZ y2) y66.1) (fp_194 y66.2 (sZ y2) y66.1) (by decide +kernel) ?_
        refine sm_nms (fun σ68 => ?_)
        refine sm_b (l' := [(0, vr (some a0)), (1, vr a1), (2, vr (some (sZ y2)))]) (st' := [vr (some (sZ y2))]) (pc' := 110) [(.aload_n 2, vi 0, 110)] (by decide +kernel) rfl rfl ?_
        refine sm_gd (fun h69 => ?_)
        refine sm_gN (k := 2) (x := vr (sR σ68 194 (sZ y2))) cd12 rfl h69 rfl q1030 rfl (by decide +kernel) ?_
        refine sm_bind1 (fun (v72 : Int) => V g mX14_slot d 121 [(2, vr (some (sZ y2)))] [vi v72] σ68 τ Q) (fun v72 => ?_) (fun K73 j74 => ?_)
        · refine sm_csTE (N := mX14_must) (d' := d - 1) (fun _ : Unit => none) (fun z => (none, z)) [vi v72] [] rfl (by decide +kernel) q1237 q1238 q162 (Or.inl ⟨rfl, q1239⟩) (show okN yX14_must 1 = true by decide +kernel) rfl rfl (by omega) rfl (fun Q' => jr_must_ok G (d - 1) (by omega) v72 σ68 Q') (fun z h => hRET _ h) (fun y77 σ78 => ?_)
          refine sm_b (l' := [(2, vr (some (sZ y2)))]) (st' := [vr (some (sZ y2))]) (pc' := 278) [(.goto 153, vi 0, 277), (.aload_n 2, vi 0, 278)] (by decide +kernel) rfl rfl ?_
          exact sm_aret rfl rfl (by decide +kernel) (fun h => hRET _ h)
        · refine sm_case (V g mX14_slot d 120 [(0, vr (some a0)), (1, vr a1), (2, vr (some (sZ y2)))] [] σ68 τ Q) (V g mX14_slot d 116 [(0, vr (some a0)), (1, vr a1), (2, vr (some (sZ y2)))] [] σ68 τ Q) ?_ ?_ (fun f79 p80 n81 => ?_)
          · refine sm_b (l' := [(0, vr (some a0)), (1, vr a1), (2, vr (some (sZ y2)))]) (st' := [vi 0]) (pc' := 121) [(.iconst 0, vi 0, 121)] (by decide +kernel) rfl rfl ?_
            refine sm_pick [2] (l' := [(2, vr (some (sZ y2)))]) rfl ?_
            exact sm_leaf (fun h => j74 _ h)
          · refine sm_b (l' := [(0, vr (some a0)), (1, vr a1), (2, vr (some (sZ y2)))]) (st' := [vi 1]) (pc' := 121) [(.iconst 1, vi 1, 117), (.goto 4, vi 0, 121)] (by decide +kernel) rfl rfl ?_
            refine sm_pick [2] (l' := [(2, vr (some (sZ y2)))]) rfl ?_
            exact sm_leaf (fun h => j74 _ h)
          refine sm_ifnull (off := 7) (tgt := 120) (by decide +kernel) (fun c82 => ?_) (fun c82 => ?_)
          · exact p80 c82
          · exact n81 c82
      · refine sm_b (l' := [(0, vr (some a0)), (1, vr a1), (2, vr (some (sZ y2)))]) (st' := [vr a1]) (pc' := 128) [(.aload_n 1, vi 0, 128)] (by decide +kernel) rfl rfl ?_
        refine sm_st [vr (some p6)] (by rw [h7] <;> rfl) ?_
        refine sm_gN (k := 4) (x := vi (sI y5 132 p6)) cd8 rfl h8 rfl q736 rfl (by decide +kernel) ?_
        refine sm_b (l' := [(0, vr (some a0)), (1, vr a1), (2, vr (some (sZ y2)))]) (st' := [vi 32, vi (sI y5 132 p6)]) (pc' := 133) [(.bipush 32, vi 32, 133)] (by decide +kernel) rfl rfl ?_
        refine sm_gd (fun h84 => ?_)
        refine sm_gd (fun h85 => ?_)
        refine sm_gd (fun h86 => ?_)
        refine sm_case (V g mX14_slot d 145 [(0, vr (some a0)), (1, vr a1), (2, vr (some (sZ y2)))] [] y5 τ Q) (V g mX14_slot d 186 [(0, vr (some a0)), (1, vr a1), (2, vr (some (sZ y2)))] [] y5 τ Q) ?_ ?_ (fun f185 p186 n187 => ?_)
        · refine sm_b (l' := [(0, vr (some a0)), (1, vr a1), (2, vr (some (sZ y2)))]) (st' := [vr a1]) (pc' := 146) [(.aload_n 1, vi 0, 146)] (by decide +kernel) rfl rfl ?_
          refine sm_st [vr (some p6)] (by rw [h7] <;> rfl) ?_
          refine sm_gN (k := 10) (x := vr (sR y5 138 p6)) cd8 rfl h8 rfl q761 rfl (by decide +kernel) ?_
          refine sm_b (l' := [(0, vr (some a0)), (1, vr a1), (2, vr (some (sZ y2)))]) (st' := [vr (some a0), vr (sR y5 138 p6)]) (pc' := 150) [(.aload_n 0, vi 0, 150)] (by decide +kernel) rfl rfl ?_
          refine sm_gd (fun h92 => ?_)
          refine sm_cvT (N := mX14_string) (d' := d - 1) (fun r : Option Nat => some (vr r)) (fun z => (none, z)) [] [vr (sR y5 138 p6)] rfl (by decide +kernel) q1250 q1252 qs38 (Or.inl ⟨rfl, q1253⟩) (show okN yX14_string 0 = true by decide +kernel) (fun H hR => hR.rv G.1 cd13 rfl h92) rfl rfl (by omega) rfl (fun Q' => jr_string_ok G (d - 1) (by omega) a0 y5 Q') (fun z h => hRET _ h) (fun y94 σ95 => ?_)
          refine sm_de (fun p96 h97 => ?_)
          refine sm_st [vr y94, vr (some p96)] (by rw [h97] <;> rfl) ?_
          refine sm_gd (fun h98 => ?_)
          refine sm_cv (N := mX7_valueOf) (d' := d - 1) (fun r => (some (vi r))) (fun _ => σ95) (fun _ => τ) [vr y94] [] rfl (by decide +kernel) q1323 q1324 q1325 (Or.inl ⟨rfl, q1326⟩) (show okN yX7_valueOf 1 = true by decide +kernel) (fun H hR => hR.rv G.1 cd7 rfl h98) rfl rfl (by omega) rfl (fun Q' => et_valueOf_ok G (d - 1) (by omega) p96 y94 σ95 Q') (fun y99 => ?_)
          refine sm_b (l' := [(0, vr (some a0)), (1, vr a1), (2, vr (some (sZ y2))), (3, vi y99)]) (st' := [vi y99]) (pc' := 158) [(.istore_n 3, vi 0, 157), (.iload_n 3, vi 0, 158)] (by decide +kernel) rfl rfl ?_
          refine sm_bind1 (fun (v103 : Int) => V g mX14_slot d 166 [(1, vr a1), (2, vr (some (sZ y2))), (3, vi y99)] [vi v103] σ95 τ Q) (fun v103 => ?_) (fun K104 j105 => ?_)
          · refine sm_csTE (N := mX14_must) (d' := d - 1) (fun _ : Unit => none) (fun z => (none, z)) [vi v103] [] rfl (by decide +kernel) q1237 q1238 q162 (Or.inl ⟨rfl, q1239⟩) (show okN yX14_must 1 = true by decide +kernel) rfl rfl (by omega) rfl (fun Q' => jr_must_ok G (d - 1) (by omega) v103 σ95 Q') (fun z h => hRET _ h) (fun y108 σ109 => ?_)
            refine sm_b (l' := [(1, vr a1), (2, vr (some (sZ y2))), (3, vi y99)]) (st' := [vr a1, vr (some (sZ y2))]) (pc' := 171) [(.aload_n 2, vi 0, 170), (.aload_n 1, vi 0, 171)] (by decide +kernel) rfl rfl ?_
            refine sm_st [vr (some p6), vr (some (sZ y2))] (by rw [h7] <;> rfl) ?_
            refine sm_gd (fun h110 => ?_)
            refine sm_gN (k := 10) (x := vr (sR σ109 138 p6)) cd8 rfl h110 rfl q761 rfl (by decide +kernel) ?_
            refine sm_de (fun p111 h112 => ?_)
            refine sm_st [vr (some p111), vr (some (sZ y2))] (by rw [h112] <;> rfl) ?_
            refine sm_gd (fun h113 => ?_)
            refine sm_gN (k := 3) (x := vr (sR σ109 115 p111)) cd7 rfl h113 rfl q673 rfl (by decide +kernel) ?_
            refine sm_b (l' := [(1, vr a1), (2, vr (some (sZ y2))), (3, vi y99)]) (st' := [vi y99, vr (sR σ109 115 p111), vr (some (sZ y2))]) (pc' := 178) [(.iload_n 3, vi 0, 178)] (by decide +kernel) rfl rfl ?_
            refine sm_de (fun p114 h115 => ?_)
            refine sm_st [vi y99, vr (some p114), vr (some (sZ y2))] (by rw [h115] <;> rfl) ?_
            refine sm_gd (fun h116 => ?_)
            refine sm_gd (fun h117 => ?_)
            refine sm_el h116 h117 (by decide +kernel) ?_
            refine sm_b (l' := [(1, vr a1), (2, vr (some (sZ y2))), (3, vi y99)]) (st' := [vl (iL (sE σ109 p114 y99.toNat)), vr (some (sZ y2))]) (pc' := 180) [(.i2l, vi 0, 180)] (by decide +kernel) rfl rfl ?_
            refine sm_gd (fun h118 => ?_)
            refine sm_pN (k := 1) (x := vl (iL (sE σ109 p114 y99.toNat))) cd12 rfl h118 rfl q1025 rfl (nar_j _) (fit_j _) rfl (at_pJ σ109 193 (sZ y2) (iL (sE σ109 p114 y99.toNat))) (fp_193 σ109 (sZ y2) (iL (sE σ109 p114 y99.toNat))) (by decide +kernel) ?_
            refine sm_nms (fun σ119 => ?_)
            refine sm_b (l' := [(1, vr a1), (2, vr (some (sZ y2))), (3, vi y99)]) (st' := [vr (some (sZ y2))]) (pc' := 278) [(.goto 94, vi 0, 277), (.aload_n 2, vi 0, 278)] (by decide +kernel) rfl rfl ?_
            exact sm_aret rfl rfl (by decide +kernel) (fun h => hRET _ h)
          · refine sm_gd (fun h100 => ?_)
            refine sm_case (V g mX14_slot d 165 [(0, vr (some a0)), (1, vr a1), (2, vr (some (sZ y2))), (3, vi y99)] [] σ95 τ Q) (V g mX14_slot d 161 [(0, vr (some a0)), (1, vr a1), (2, vr (some (sZ y2))), (3, vi y99)] [] σ95 τ Q) ?_ ?_ (fun f120 p121 n122 => ?_)
            · refine sm_b (l' := [(0, vr (some a0)), (1, vr a1), (2, vr (some (sZ y2))), (3, vi y99)]) (st' := [vi 0]) (pc' := 166) [(.iconst 0, vi 0, 166)] (by decide +kernel) rfl rfl ?_
              refine sm_pick [1, 2, 3] (l' := [(1, vr a1), (2, vr (some (sZ y2))), (3, vi y99)]) rfl ?_
              exact sm_leaf (fun h => j105 _ h)
            · refine sm_b (l' := [(0, vr (some a0)), (1, vr a1), (2, vr (some (sZ y2))), (3, vi y99)]) (st' := [vi 1]) (pc' := 166) [(.iconst 1, vi 1, 162), (.goto 4, vi 0, 166)] (by decide +kernel) rfl rfl ?_
              refine sm_pick [1, 2, 3] (l' := [(1, vr a1), (2, vr (some (sZ y2))), (3, vi y99)]) rfl ?_
              exact sm_leaf (fun h => j105 _ h)
            refine sm_if_lt (off := 7) (tgt := 165) h100 (by decide +kernel) (fun c123 => ?_) (fun c123 => ?_)
            · exact p121 c123
            · exact n122 c123
        · refine sm_b (l' := [(0, vr (some a0)), (1, vr a1), (2, vr (some (sZ y2)))]) (st' := [vr (some a0)]) (pc' := 187) [(.aload_n 0, vi 0, 187)] (by decide +kernel) rfl rfl ?_
          refine sm_gd (fun h124 => ?_)
          refine sm_g (k := 4) (x := vr (sR y5 212 a0)) cd13 rfl h124 rfl q1204 rfl (by decide +kernel) ?_
          refine sm_b (l' := [(0, vr (some a0)), (1, vr a1), (2, vr (some (sZ y2)))]) (st' := [vr (some a0), vr (sR y5 212 a0)]) (pc' := 191) [(.aload_n 0, vi 0, 191)] (by decide +kernel) rfl rfl ?_
          refine sm_cv (N := mX14_look) (d' := d - 1) (fun r => (some (vi r))) (fun _ => y5) (fun _ => τ) [] [vr (sR y5 212 a0)] rfl (by decide +kernel) q1233 q1235 qs35 (Or.inl ⟨rfl, q1236⟩) (show okN yX14_look 0 = true by decide +kernel) (fun H hR => hR.rv G.1 cd13 rfl h124) rfl rfl (by omega) rfl (fun Q' => jr_look_ok G (d - 1) (by omega) a0 y5 Q') (fun y125 => ?_)
          refine sm_b (l' := [(0, vr (some a0)), (1, vr a1), (2, vr (some (sZ y2)))]) (st' := [vi 34, vi y125, vr (sR y5 212 a0)]) (pc' := 196) [(.bipush 34, vi 34, 196)] (by decide +kernel) rfl rfl ?_
          refine sm_bindS (fun (v129 : Option Nat × ST) => V g mX14_slot d 210 [(0, vr (some a0)), (1, vr a1), (2, vr (some (sZ y2)))] [vr v129.1, vr (sR y5 212 a0)] v129.2 τ Q) (fun v129 => ?_) (fun K130 o132 j131 => ?_)
          · refine sm_de (fun p133 h134 => ?_)
            refine sm_st [vr v129.1, vr (some p133)] (by rw [h134] <;> rfl) ?_
            refine sm_gd (fun h135 => ?_)
            refine sm_cv (N := mX15_read) (d' := d - 1) (fun r => none) (fun r => r) (fun _ => τ) [vr v129.1] [] rfl (by decide +kernel) q1335 q1336 q1337 (Or.inl ⟨rfl, q1338⟩) (show okN yX15_read 1 = true by decide +kernel) (fun H hR => hR.rv G.1 cd14 rfl h135) rfl rfl (by omega) rfl (fun Q' => wh_read_ok G (d - 1) (by omega) p133 v129.1 v129.2 Q') (fun y136 => ?_)
            refine sm_b (l' := [(0, vr (some a0)), (1, vr a1), (2, vr (some (sZ y2)))]) (st' := [vr (some a0)]) (pc' := 214) [(.aload_n 0, vi 0, 214)] (by decide +kernel) rfl rfl ?_
            refine sm_gd (fun h137 => ?_)
            refine sm_g (k := 4) (x := vr (sR y136 212 a0)) cd13 rfl h137 rfl q1204 rfl (by decide +kernel) ?_
            refine sm_de (fun p138 h139 => ?_)
            refine sm_st [vr (some p138)] (by rw [h139] <;> rfl) ?_
            refine sm_gd (fun h140 => ?_)
            refine sm_gN (k := 0) (x := vi (sI y136 224 p138)) cd14 rfl h140 rfl q1188 rfl (by decide +kernel) ?_
            refine sm_bind1 (fun (v148 : Int) => V g mX14_slot d 242 [(0, vr (some a0)), (2, vr (some (sZ y2)))] [vi v148] y136 τ Q) (fun v148 => ?_) (fun K149 j150 => ?_)
            · refine sm_csTE (N := mX14_must) (d' := d - 1) (fun _ : Unit => none) (fun z => (none, z)) [vi v148] [] rfl (by decide +kernel) q1237 q1238 q162 (Or.inl ⟨rfl, q1239⟩) (show okN yX14_must 1 = true by decide +kernel) rfl rfl (by omega) rfl (fun Q' => jr_must_ok G (d - 1) (by omega) v148 y136 Q') (fun z h => hRET _ h) (fun y153 σ154 => ?_)
              refine sm_b (l' := [(0, vr (some a0)), (2, vr (some (sZ y2)))]) (st' := [vr (some a0), vr (some (sZ y2))]) (pc' := 247) [(.aload_n 2, vi 0, 246), (.aload_n 0, vi 0, 247)] (by decide +kernel) rfl rfl ?_
              refine sm_gd (fun h155 => ?_)
              refine sm_g (k := 4) (x := vr (sR σ154 212 a0)) cd13 rfl h155 rfl q1204 rfl (by decide +kernel) ?_
              refine sm_de (fun p156 h157 => ?_)
              refine sm_st [vr (some p156), vr (some (sZ y2))] (by rw [h157] <;> rfl) ?_
              refine sm_gd (fun h158 => ?_)
              refine sm_gN (k := 1) (x := vi (sI σ154 225 p156)) cd14 rfl h158 rfl q1190 rfl (by decide +kernel) ?_
              refine sm_bind1 (fun (v162 : Int64) => V g mX14_slot d 274 [(2, vr (some (sZ y2)))] [vl v162, vr (some (sZ y2))] σ154 τ Q) (fun v162 => ?_) (fun K163 j164 => ?_)
              · refine sm_gd (fun h166 => ?_)
                refine sm_pN (k := 1) (x := vl v162) cd12 rfl h166 rfl q1025 rfl (nar_j _) (fit_j _) rfl (at_pJ σ154 193 (sZ y2) v162) (fp_193 σ154 (sZ y2) v162) (by decide +kernel) ?_
                refine sm_nms (fun σ167 => ?_)
                refine sm_b (l' := [(2, vr (some (sZ y2)))]) (st' := [vr (some (sZ y2))]) (pc' := 278) [(.aload_n 2, vi 0, 278)] (by decide +kernel) rfl rfl ?_
                exact sm_aret rfl rfl (by decide +kernel) (fun h => hRET _ h)
              · refine sm_gd (fun h159 => ?_)
                refine sm_case (V g mX14_slot d 267 [(0, vr (some a0)), (2, vr (some (sZ y2)))] [vr (some (sZ y2))] σ154 τ Q) (V g mX14_slot d 256 [(0, vr (some a0)), (2, vr (some (sZ y2)))] [vr (some (sZ y2))] σ154 τ Q) ?_ ?_ (fun f168 p169 n170 => ?_)
                · refine sm_b (l' := [(0, vr (some a0)), (2, vr (some (sZ y2)))]) (st' := [vr (some a0), vr (some (sZ y2))]) (pc' := 268) [(.aload_n 0, vi 0, 268)] (by decide +kernel) rfl rfl ?_
                  refine sm_g (k := 4) (x := vr (sR σ154 212 a0)) cd13 rfl h155 rfl q1204 rfl (by decide +kernel) ?_
                  refine sm_st [vr (some p156), vr (some (sZ y2))] (by rw [h157] <;> rfl) ?_
                  refine sm_gN (k := 2) (x := vl (sJ σ154 226 p156)) cd14 rfl h158 rfl q1192 rfl (by decide +kernel) ?_
                  refine sm_pick [1] (l' := [(2, vr (some (sZ y2)))]) rfl ?_
                  exact sm_leaf (fun h => j164 _ h)
                · refine sm_b (l' := [(0, vr (some a0)), (2, vr (some (sZ y2)))]) (st' := [vr (some a0), vr (some (sZ y2))]) (pc' := 257) [(.aload_n 0, vi 0, 257)] (by decide +kernel) rfl rfl ?_
                  refine sm_g (k := 4) (x := vr (sR σ154 212 a0)) cd13 rfl h155 rfl q1204 rfl (by decide +kernel) ?_
                  refine sm_st [vr (some p156), vr (some (sZ y2))] (by rw [h157] <;> rfl) ?_
                  refine sm_gN (k := 2) (x := vl (sJ σ154 226 p156)) cd14 rfl h158 rfl q1192 rfl (by decide +kernel) ?_
                  refine sm_b (l' := [(0, vr (some a0)), (2, vr (some (sZ y2)))]) (st' := [vl (-(sJ σ154 226 p156)), vr (some (sZ y2))]) (pc' := 274) [(.lneg, vi 0, 264), (.goto 10, vi 0, 274)] (by decide +kernel) rfl rfl ?_
                  refine sm_pick [1] (l' := [(2, vr (some (sZ y2)))]) rfl ?_
                  exact sm_leaf (fun h => j164 _ h)
                refine sm_if_eq (off := 14) (tgt := 267) h159 (by decide +kernel) (fun c171 => ?_) (fun c171 => ?_)
                · exact p169 c171
                · exact n170 c171
            · refine sm_gd (fun h141 => ?_)
              refine sm_gd (fun h143 => ?_)
              refine sm_gd (fun h144 => ?_)
              refine sm_gd (fun h145 => ?_)
              refine sm_case (V g mX14_slot d 241 [(0, vr (some a0)), (1, vr a1), (2, vr (some (sZ y2)))] [] y136 τ Q) (V g mX14_slot d 237 [(0, vr (some a0)), (1, vr a1), (2, vr (some (sZ y2)))] [] y136 τ Q) ?_ ?_ (fun f172 p173 n174 => ?_)
              · refine sm_b (l' := [(0, vr (some a0)), (1, vr a1), (2, vr (some (sZ y2)))]) (st' := [vi 0]) (pc' := 242) [(.iconst 0, vi 0, 242)] (by decide +kernel) rfl rfl ?_
                refine sm_pick [0, 2] (l' := [(0, vr (some a0)), (2, vr (some (sZ y2)))]) rfl ?_
                exact sm_leaf (fun h => j150 _ h)
              · refine sm_b (l' := [(0, vr (some a0)), (1, vr a1), (2, vr (some (sZ y2)))]) (st' := [vi 1]) (pc' := 242) [(.iconst 1, vi 1, 238), (.goto 4, vi 0, 242)] (by decide +kernel) rfl rfl ?_
                refine sm_pick [0, 2] (l' := [(0, vr (some a0)), (2, vr (some (sZ y2)))]) rfl ?_
                exact sm_leaf (fun h => j150 _ h)
              refine sm_if_eq (off := 21) (tgt := 241) h141 (by decide +kernel) (fun c175 => ?_) (fun c175 => ?_)
              · exact p173 (Or.inl c175)
              · have w142 : ¬ ((sI y136 224 p138) = 0) := c175
                refine sm_b (l' := [(0, vr (some a0)), (1, vr a1), (2, vr (some (sZ y2)))]) (st' := [vr (some a0)]) (pc' := 224) [(.aload_n 0, vi 0, 224)] (by decide +kernel) rfl rfl ?_
                refine sm_g (k := 4) (x := vr (sR y136 212 a0)) cd13 rfl h137 rfl q1204 rfl (by decide +kernel) ?_
                refine sm_b (l' := [(0, vr (some a0)), (1, vr a1), (2, vr (some (sZ y2)))]) (st' := [vr a1, vr (sR y136 212 a0)]) (pc' := 228) [(.aload_n 1, vi 0, 228)] (by decide +kernel) rfl rfl ?_
                refine sm_st [vr (some p6), vr (sR y136 212 a0)] (by rw [h7] <;> rfl) ?_
                refine sm_gN (k := 4) (x := vi (sI y136 132 p6)) cd8 rfl (h143 w142) rfl q736 rfl (by decide +kernel) ?_
                refine sm_st [vi (sI y136 132 p6), vr (some p138)] (by rw [h139] <;> rfl) ?_
                refine sm_cvp (N := mX15_fits) (d' := d - 1) (fun r => (some (vi r))) (some (vi (vv (wh_fits p138 (sI y136 132 p6) y136)))) (h144 w142) (fun y h => by rw [vv_some h]) [vi (sI y136 132 p6)] [] rfl (by decide +kernel) q1359 q1360 q1361 (Or.inl ⟨rfl, q1362⟩) (show okN yX15_fits 1 = true by decide +kernel) (fun H hR => hR.rv G.1 cd14 rfl h140) rfl rfl (by omega) rfl (fun Q' => wh_fits_ok G (d - 1) (by omega) p138 (sI y136 132 p6) y136 Q') ?_
                refine sm_if_eq (off := 7) (tgt := 241) (h145 w142) (by decide +kernel) (fun c176 => ?_) (fun c176 => ?_)
                · exact p173 (Or.inr c176)
                · exact n174 (fun q => q.elim c175 c176)
          · refine sm_gd (fun h126 => ?_)
            refine sm_case (V g mX14_slot d 199 [(0, vr (some a0)), (1, vr a1), (2, vr (some (sZ y2)))] [vr (sR y5 212 a0)] y5 τ Q) (V g mX14_slot d 206 [(0, vr (some a0)), (1, vr a1), (2, vr (some (sZ y2)))] [vr (sR y5 212 a0)] y5 τ Q) ?_ ?_ (fun f181 p182 n183 => ?_)
            · refine sm_b (l' := [(0, vr (some a0)), (1, vr a1), (2, vr (some (sZ y2)))]) (st' := [vr (some a0), vr (sR y5 212 a0)]) (pc' := 200) [(.aload_n 0, vi 0, 200)] (by decide +kernel) rfl rfl ?_
              refine sm_cvT (N := mX14_string) (d' := d - 1) (fun r : Option Nat => some (vr r)) (fun z => Sum.inl ((none, z))) [] [vr (sR y5 212 a0)] rfl (by decide +kernel) q1250 q1252 qs38 (Or.inl ⟨rfl, q1253⟩) (show okN yX14_string 0 = true by decide +kernel) (fun H hR => hR.rv G.1 cd13 rfl h124) rfl rfl (by omega) rfl (fun Q' => jr_string_ok G (d - 1) (by omega) a0 y5 Q') (fun z h => hRET _ (o132 _ h)) (fun y178 σ179 => ?_)
              refine sm_b (l' := [(0, vr (some a0)), (1, vr a1), (2, vr (some (sZ y2)))]) (st' := [vr y178, vr (sR y5 212 a0)]) (pc' := 210) [(.goto 7, vi 0, 210)] (by decide +kernel) rfl rfl ?_
              exact sm_leaf (fun h => j131 _ h)
            · refine sm_b (l' := [(0, vr (some a0)), (1, vr a1), (2, vr (some (sZ y2)))]) (st' := [vr (some a0), vr (sR y5 212 a0)]) (pc' := 207) [(.aload_n 0, vi 0, 207)] (by decide +kernel) rfl rfl ?_
              refine sm_cv (N := mX14_number) (d' := d - 1) (fun r => (some (vr r.1))) (fun r => r.2) (fun _ => τ) [] [vr (sR y5 212 a0)] rfl (by decide +kernel) q1328 q1330 qs45 (Or.inl ⟨rfl, q1331⟩) (show okN yX14_number 0 = true by decide +kernel) (fun H hR => hR.rv G.1 cd13 rfl h124) rfl rfl (by omega) rfl (fun Q' => jr_number_ok G (d - 1) (by omega) a0 y5 Q') (fun y180 => ?_)
              exact sm_leaf (fun h => j131 _ h)
            refine sm_icmp_ne (off := 10) (tgt := 206) h126 (by decide) (by decide +kernel) (fun c184 => ?_) (fun c184 => ?_)
            · exact n183 c184
            · exact p182 c184
        refine sm_icmp_ne (off := 53) (tgt := 186) h9 (by decide) (by decide +kernel) (fun c188 => ?_) (fun c188 => ?_)
        · exact n187 (fun q => c188 q.1)
        · have w83 : (sI y5 132 p6) = 32 := c188
          refine sm_b (l' := [(0, vr (some a0)), (1, vr a1), (2, vr (some (sZ y2)))]) (st' := [vr (some a0)]) (pc' := 137) [(.aload_n 0, vi 0, 137)] (by decide +kernel) rfl rfl ?_
          refine sm_cvp (N := mX14_look) (d' := d - 1) (fun r => (some (vi r))) (some (vi (vv (jr_look a0 y5)))) (h85 w83) (fun y h => by rw [vv_some h]) [] [] rfl (by decide +kernel) q1233 q1235 qs35 (Or.inl ⟨rfl, q1236⟩) (show okN yX14_look 0 = true by decide +kernel) (fun H hR => hR.rv G.1 cd13 rfl (h84 w83)) rfl rfl (by omega) rfl (fun Q' => jr_look_ok G (d - 1) (by omega) a0 y5 Q') ?_
          refine sm_b (l' := [(0, vr (some a0)), (1, vr a1), (2, vr (some (sZ y2)))]) (st' := [vi 34, vi (vv (jr_look a0 y5))]) (pc' := 142) [(.bipush 34, vi 34, 142)] (by decide +kernel) rfl rfl ?_
          refine sm_icmp_ne (off := 44) (tgt := 186) (h86 w83) (by decide) (by decide +kernel) (fun c189 => ?_) (fun c189 => ?_)
          · exact n187 (fun q => c189 q.2)
          · exact p186 ⟨c188, c189⟩
      refine sm_icmp_ne (off := 32) (tgt := 127) h9 (by decide) (by decide +kernel) (fun c193 => ?_) (fun c193 => ?_)
      · exact n192 c193
      · exact p191 c193
    refine sm_icmp_ne (off := 17) (tgt := 89) h9 (by decide) (by decide +kernel) (fun c197 => ?_) (fun c197 => ?_)
    · exact n196 c197
    · exact p195 c197
  refine sm_icmp_ne (off := 47) (tgt := 66) h9 (by decide) (by decide +kernel) (fun c201 => ?_) (fun c201 => ?_)
  · exact n200 c201
  · exact p199 c201
def jr_inner (bb : Nat × Nat) (rec : Option Nat → Option Nat → Int → ST → Option (Option (Option Nat) × ST)) (a1 : Option Nat) (a2 : Option Nat) (a3 : Int) (σ : ST) : Option (Option (Option Nat) × ST) := Option.bind (gd (rg a3) (if 8 ≤ a3 then (some 0) else (some 1))) fun (v4 : Int) => Option.bind (s_must bb v4 σ) (tB (fun z => (none, z)) fun y9 σ10 => gd (rm bb σ10 5) (nm (nO σ10 13 5) fun σ12 => Option.bind (sl_init bb (sZ σ10) a2 σ12) fun y13 => Option.bind a2 fun p14 => gd (sc y13 p14 = 9) (Option.bind (rec a1 (sR y13 137 p14) (a3 + 1) y13) (tB (fun z => (none, z)) fun y18 σ19 => gd (sc σ19 (sZ σ10) = 13) (nm (pR σ19 195 (sZ σ10) y18) fun σ21 => some ((some (some (sZ σ10)), σ21)))))))
set_option maxHeartbeats 4000000 in
theorem jr_inner_ok {g : GE} (G : GG g) {D : Nat} (rec : Option Nat → Option Nat → Int → ST → Option (Option (Option Nat) × ST)) (hrec : ∀ (d : Nat), D ≤ d → ∀ {τ : TT} (a1 : Option Nat) (a2 : Option Nat) (a3 : Int) (σ : ST) (Q' : VQ), Sm (V g mX14_object d 0 [(0, vr a1), (1, vr a2), (2, vi a3)] [] σ τ Q') (rec a1 a2 a3 σ) (fun r => tQ Q' τ (fun r : Option Nat => some (vr r)) r)) {τ : TT} (d : Nat) (hd1 : D + 1 ≤ d) (hd2 : 7 ≤ d) (a1 : Option Nat) (a2 : Option Nat) (a3 : Int)  (σ : ST) (Q : VQ) : Sm (V g mX14_inner d 0 [(0, vr a1), (1, vr a2), (2, vi a3)] [] σ τ Q) (jr_inner (gRm g) rec a1 a2 a3 σ) (fun r => tQ Q τ (fun r : Option Nat => some (vr r)) r) := by
  unfold jr_inner
  refine sm_top (fun K hRET => ?_)
  refine sm_b (l' := [(0, vr a1), (1, vr a2), (2, vi a3)]) (st' := [vi 8, vi a3]) (pc' := 3) [(.iload_n 2, vi 0, 1), (.bipush 8, vi 8, 3)] (by decide +kernel) rfl rfl ?_
  refine sm_bind1 (fun (v4 : Int) => V g mX14_inner d 11 [(0, vr a1), (1, vr a2), (2, vi a3)] [vi v4] σ τ Q) (fun v4 => ?_) (fun K5 j6 => ?_)
  · refine sm_csTE (N := mX14_must) (d' := d - 1) (fun _ : Unit => none) (fun z => (none, z)) [vi v4] [] rfl (by decide +kernel) q1237 q1238 q162 (Or.inl ⟨rfl, q1239⟩) (show okN yX14_must 1 = true by decide +kernel) rfl rfl (by omega) rfl (fun Q' => jr_must_ok G (d - 1) (by omega) v4 σ Q') (fun z h => hRET _ h) (fun y9 σ10 => ?_)
    refine sm_gd (fun h11 => ?_)
    refine sm_new cd12 rfl q1302 q1012 q159 (new_12 σ10) h11 (by decide +kernel) ?_
    refine sm_nms (fun σ12 => ?_)
    refine sm_b (l' := [(0, vr a1), (1, vr a2), (2, vi a3)]) (st' := [vr a2, vr (some (sZ σ10)), vr (some (sZ σ10))]) (pc' := 19) [(.dup, vi 0, 18), (.aload_n 1, vi 0, 19)] (by decide +kernel) rfl rfl ?_
    refine sm_ci (N := mX12_init) (d' := d - 1) [vr a2] [vr (some (sZ σ10))] rfl (by decide +kernel) q1303 q1014 rfl q1015 rfl rfl (show okN yX12_init 1 = true by decide +kernel) rfl rfl (by omega) rfl (fun Q' => sl_init_ok G (d - 1) (by omega) (sZ σ10) a2 σ12 Q') (fun y13 => ?_)
    refine sm_b (l' := [(0, vr a1), (1, vr a2), (2, vi a3), (3, vr (some (sZ σ10)))]) (st' := [vr a2, vr a1, vr (some (sZ σ10))]) (pc' := 26) [(.astore_n 3, vi 0, 23), (.aload_n 3, vi 0, 24), (.aload_n 0, vi 0, 25), (.aload_n 1, vi 0, 26)] (by decide +kernel) rfl rfl ?_
    refine sm_de (fun p14 h15 => ?_)
    refine sm_st [vr (some p14), vr a1, vr (some (sZ σ10))] (by rw [h15] <;> rfl) ?_
    refine sm_gd (fun h16 => ?_)
    refine sm_gN (k := 9) (x := vr (sR y13 137 p14)) cd8 rfl h16 rfl q757 rfl (by decide +kernel) ?_
    refine sm_b (l' := [(0, vr a1), (1, vr a2), (2, vi a3), (3, vr (some (sZ σ10)))]) (st' := [vi (a3 + 1), vr (sR y13 137 p14), vr a1, vr (some (sZ σ10))]) (pc' := 32) [(.iload_n 2, vi 0, 30), (.iconst 1, vi 1, 31), (.iadd, vi 0, 32)] (by decide +kernel) rfl rfl ?_
    refine sm_csT (N := mX14_object) (d' := d - 1) (fun r : Option Nat => some (vr r)) (fun z => (none, z)) [vr a1, vr (sR y13 137 p14), vi (a3 + 1)] [vr (some (sZ σ10))] rfl (by decide +kernel) q1220 q1221 q162 (Or.inl ⟨rfl, q1222⟩) (show okN yX14_object 3 = true by decide +kernel) rfl rfl (by omega) rfl (fun Q' => hrec (d - 1) (by omega) a1 (sR y13 137 p14) (a3 + 1) y13 Q') (fun z h => hRET _ h) (fun y18 σ19 => ?_)
    refine sm_gd (fun h20 => ?_)
    refine sm_pN (k := 3) (x := vr y18) cd12 rfl h20 rfl q1035 rfl (nar_r _ rfl) (fit_r _ rfl) rfl (at_pR σ19 195 (sZ σ10) y18) (fp_195 σ19 (sZ σ10) y18) (by decide +kernel) ?_
    refine sm_nms (fun σ21 => ?_)
    refine sm_b (l' := [(0, vr a1), (1, vr a2), (2, vi a3), (3, vr (some (sZ σ10)))]) (st' := [vr (some (sZ σ10))]) (pc' := 39) [(.aload_n 3, vi 0, 39)] (by decide +kernel) rfl rfl ?_
    exact sm_aret rfl rfl (by decide +kernel) (fun h => hRET _ h)
  · refine sm_gd (fun h1 => ?_)
    refine sm_case (V g mX14_inner d 10 [(0, vr a1), (1, vr a2), (2, vi a3)] [] σ τ Q) (V g mX14_inner d 6 [(0, vr a1), (1, vr a2), (2, vi a3)] [] σ τ Q) ?_ ?_ (fun f22 p23 n24 => ?_)
    · refine sm_b (l' := [(0, vr a1), (1, vr a2), (2, vi a3)]) (st' := [vi 0]) (pc' := 11) [(.iconst 0, vi 0, 11)] (by decide +kernel) rfl rfl ?_
      exact sm_leaf (fun h => j6 _ h)
    · refine sm_b (l' := [(0, vr a1), (1, vr a2), (2, vi a3)]) (st' := [vi 1]) (pc' := 11) [(.iconst 1, vi 1, 7), (.goto 4, vi 0, 11)] (by decide +kernel) rfl rfl ?_
      exact sm_leaf (fun h => j6 _ h)
    refine sm_icmp_ge (off := 7) (tgt := 10) h1 (by decide) (by decide +kernel) (fun c25 => ?_) (fun c25 => ?_)
    · exact p23 c25
    · exact n24 c25
def jr_row_L16 (bb : Nat × Nat) (rec : Option Nat → Option Nat → Int → ST → Option (Option (Option Nat) × ST)) (u0 : Nat) (u1 : Option Nat) (u2 : Option Nat) (u3 : Int) : Nat → ST → Option ((Option Unit × ST) ⊕ (ST))
  | 0, _ => none
  | n + 1, σ => Option.bind u1 fun p18 => gd (sc σ p18 = 9) (Option.bind (if (sR σ 137 p18) = none then (gd (sc σ u0 = 14) (Option.bind (jr_slot bb u0 u1 σ) (tB (fun z => Sum.inl (Sum.inl ((none, z)))) fun y40 σ41 => some (Sum.inr ((y40, σ41)))))) else (Option.bind (jr_inner bb rec (some u0) u1 u3 σ) (tB (fun z => Sum.inl (Sum.inl ((none, z)))) fun y43 σ44 => some (Sum.inr ((y43, σ44)))))) (Sum.elim some fun (v23 : Option Nat × ST) => Option.bind u2 fun p27 => gd (sc v23.2 p27 = 11) (Option.bind (vlu_put bb p27 v23.1 v23.2) fun y30 => gd (sc y30 u0 = 14) (Option.bind (jr_passes bb u0 44 y30) fun y32 => gd (rg y32.1) (if y32.1 = 0 then (some (Sum.inr y32.2)) else (jr_row_L16 bb rec u0 u1 u2 u3 n y32.2))))))
def jr_row (bb : Nat × Nat) (rec : Option Nat → Option Nat → Int → ST → Option (Option (Option Nat) × ST)) (a0 : Nat) (a1 : Option Nat) (a2 : Option Nat) (a3 : Int) (σ : ST) : Option (Option Unit × ST) := gd (sc σ a0 = 14) (Option.bind (jr_sign bb a0 91 σ) (tB (fun z => (none, z)) fun y3 σ4 => gd (sc σ4 a0 = 14) (Option.bind (jr_passes bb a0 93 σ4) fun y6 => gd (rg y6.1) (if y6.1 = 0 then (Option.bind (jr_row_L16 bb rec a0 a1 a2 a3 FU y6.2) (Sum.elim some fun (v9 : ST) => gd (sc v9 a0 = 14) (Option.bind (jr_sign bb a0 93 v9) (tB (fun z => (none, z)) fun y15 σ16 => some ((some (), σ16)))))) else (some ((some (), y6.2)))))))
set_option maxHeartbeats 4000000 in
theorem jr_row_L16_ok {g : GE} (G : GG g) {D : Nat} (rec : Option Nat → Option Nat → Int → ST → Option (Option (Option Nat) × ST)) (hrec : ∀ (d : Nat), D ≤ d → ∀ {τ : TT} (a1 : Option Nat) (a2 : Option Nat) (a3 : Int) (σ : ST) (Q' : VQ), Sm (V g mX14_object d 0 [(0, vr a1), (1, vr a2), (2, vi a3)] [] σ τ Q') (rec a1 a2 a3 σ) (fun r => tQ Q' τ (fun r : Option Nat => some (vr r)) r)) {τ : TT} {Q : VQ} (d : Nat) (hd1 : D + 2 ≤ d) (hd2 : 12 ≤ d) (u0 : Nat) (u1 : Option Nat) (u2 : Option Nat) (u3 : Int)  {K : (Option Unit × ST) ⊕ (ST) → Prop} (hRET : ∀ r : Option Unit × ST, K (Sum.inl r) → tQ Q τ (fun _ : Unit => none) r) (hE50 : ∀ v17 : ST, K (Sum.inr v17) → V g mX14_row d 50 [(0, vr (some u0))] [] v17 τ Q) : ∀ (n : Nat) (σ : ST), Sm (V g mX14_row d 16 [(0, vr (some u0)), (1, vr u1), (2, vr u2), (3, vi u3)] [] σ τ Q) (jr_row_L16 (gRm g) rec u0 u1 u2 u3 n σ) K := by
  intro n
  induction n with
  | zero => intro σ; exact sm_none
  | succ n ih =>
    intro σ
    rw [jr_row_L16.eq_2]
    refine sm_b (l' := [(0, vr (some u0)), (1, vr u1), (2, vr u2), (3, vi u3)]) (st' := [vr u1, vr u2]) (pc' := 18) [(.aload_n 2, vi 0, 17), (.aload_n 1, vi 0, 18)] (by decide +kernel) rfl rfl ?_
    refine sm_de (fun p18 h19 => ?_)
    refine sm_st [vr (some p18), vr u2] (by rw [h19] <;> rfl) ?_
    refine sm_gd (fun h20 => ?_)
    refine sm_gN (k := 9) (x := vr (sR σ 137 p18)) cd8 rfl h20 rfl q757 rfl (by decide +kernel) ?_
    refine sm_bindS (fun (v23 : Option Nat × ST) => V g mX14_row d 38 [(0, vr (some u0)), (1, vr u1), (2, vr u2), (3, vi u3)] [vr v23.1, vr u2] v23.2 τ Q) (fun v23 => ?_) (fun K24 o26 j25 => ?_)
    · refine sm_de (fun p27 h28 => ?_)
      refine sm_st [vr v23.1, vr (some p27)] (by rw [h28] <;> rfl) ?_
      refine sm_gd (fun h29 => ?_)
      refine sm_cv (N := mX10_put) (d' := d - 1) (fun r => none) (fun r => r) (fun _ => τ) [vr v23.1] [] rfl (by decide +kernel) q1371 q1056 q1057 (Or.inl ⟨rfl, q1058⟩) (show okN yX10_put 1 = true by decide +kernel) (fun H hR => hR.rv G.1 cd10 rfl h29) rfl rfl (by omega) rfl (fun Q' => vlu_put_ok G (d - 1) (by omega) p27 v23.1 v23.2 Q') (fun y30 => ?_)
      refine sm_b (l' := [(0, vr (some u0)), (1, vr u1), (2, vr u2), (3, vi u3)]) (st' := [vi 44, vr (some u0)]) (pc' := 44) [(.aload_n 0, vi 0, 42), (.bipush 44, vi 44, 44)] (by decide +kernel) rfl rfl ?_
      refine sm_gd (fun h31 => ?_)
      refine sm_cv (N := mX14_passes) (d' := d - 1) (fun r => (some (vi r.1))) (fun r => r.2) (fun _ => τ) [vi 44] [] rfl (by decide +kernel) q1242 q1244 qs36 (Or.inl ⟨rfl, q1245⟩) (show okN yX14_passes 1 = true by decide +kernel) (fun H hR => hR.rv G.1 cd13 rfl h31) rfl rfl (by omega) rfl (fun Q' => jr_passes_ok G (d - 1) (by omega) u0 44 y30 Q') (fun y32 => ?_)
      refine sm_gd (fun h33 => ?_)
      refine sm_case (V g mX14_row d 50 [(0, vr (some u0)), (1, vr u1), (2, vr u2), (3, vi u3)] [] y32.2 τ Q) (V g mX14_row d 16 [(0, vr (some u0)), (1, vr u1), (2, vr u2), (3, vi u3)] [] y32.2 τ Q) ?_ ?_ (fun f34 p35 n36 => ?_)
      · refine sm_pick [0] (l' := [(0, vr (some u0))]) rfl ?_
        exact sm_leaf (fun h => hE50 _ h)
      · exact ih y32.2
      refine sm_if_ne (off := (-31)) (tgt := 16) h33 (by decide +kernel) (fun c37 => ?_) (fun c37 => ?_)
      · exact n36 c37
      · exact p35 c37
    · refine sm_case (V g mX14_row d 24 [(0, vr (some u0)), (1, vr u1), (2, vr u2), (3, vi u3)] [vr u2] σ τ Q) (V g mX14_row d 32 [(0, vr (some u0)), (1, vr u1), (2, vr u2), (3, vi u3)] [vr u2] σ τ Q) ?_ ?_ (fun f45 p46 n47 => ?_)
      · refine sm_b (l' := [(0, vr (some u0)), (1, vr u1), (2, vr u2), (3, vi u3)]) (st' := [vr u1, vr (some u0), vr u2]) (pc' := 26) [(.aload_n 0, vi 0, 25), (.aload_n 1, vi 0, 26)] (by decide +kernel) rfl rfl ?_
        refine sm_gd (fun h38 => ?_)
        refine sm_cvT (N := mX14_slot) (d' := d - 1) (fun r : Option Nat => some (vr r)) (fun z => Sum.inl (Sum.inl ((none, z)))) [vr u1] [vr u2] rfl (by decide +kernel) q1298 q1300 qs44 (Or.inl ⟨rfl, q1301⟩) (show okN yX14_slot 1 = true by decide +kernel) (fun H hR => hR.rv G.1 cd13 rfl h38) rfl rfl (by omega) rfl (fun Q' => jr_slot_ok G (d - 1) (by omega) u0 u1 σ Q') (fun z h => hRET _ (o26 _ h)) (fun y40 σ41 => ?_)
        refine sm_b (l' := [(0, vr (some u0)), (1, vr u1), (2, vr u2), (3, vi u3)]) (st' := [vr y40, vr u2]) (pc' := 38) [(.goto 9, vi 0, 38)] (by decide +kernel) rfl rfl ?_
        exact sm_leaf (fun h => j25 _ h)
      · refine sm_b (l' := [(0, vr (some u0)), (1, vr u1), (2, vr u2), (3, vi u3)]) (st' := [vi u3, vr u1, vr (some u0), vr u2]) (pc' := 35) [(.aload_n 0, vi 0, 33), (.aload_n 1, vi 0, 34), (.iload_n 3, vi 0, 35)] (by decide +kernel) rfl rfl ?_
        refine sm_csT (N := mX14_inner) (d' := d - 1) (fun r : Option Nat => some (vr r)) (fun z => Sum.inl (Sum.inl ((none, z)))) [vr (some u0), vr u1, vi u3] [vr u2] rfl (by decide +kernel) q1368 q1369 q162 (Or.inl ⟨rfl, q1370⟩) (show okN yX14_inner 3 = true by decide +kernel) rfl rfl (by omega) rfl (fun Q' => jr_inner_ok G (D := D) rec hrec (d - 1) (by omega) (by omega) (some u0) u1 u3 σ Q') (fun z h => hRET _ (o26 _ h)) (fun y43 σ44 => ?_)
        exact sm_leaf (fun h => j25 _ h)
      refine sm_ifnonnull (off := 11) (tgt := 32) (by decide +kernel) (fun c48 => ?_) (fun c48 => ?_)
      · exact n47 c48
      · exact p46 c48
set_option maxHeartbeats 4000000 in
theorem jr_row_ok {g : GE} (G : GG g) {D : Nat} (rec : Option Nat → Option Nat → Int → ST → Option (Option (Option Nat) × ST)) (hrec : ∀ (d : Nat), D ≤ d → ∀ {τ : TT} (a1 : Option Nat) (a2 : Option Nat) (a3 : Int) (σ : ST) (Q' : VQ), Sm (V g mX14_object d 0 [(0, vr a1), (1, vr a2), (2, vi a3)] [] σ τ Q') (rec a1 a2 a3 σ) (fun r => tQ Q' τ (fun r : Option Nat => some (vr r)) r)) {τ : TT} (d : Nat) (hd1 : D + 2 ≤ d) (hd2 : 12 ≤ d) (a0 : Nat) (a1 : Option Nat) (a2 : Option Nat) (a3 : Int)  (σ : ST) (Q : VQ) : Sm (V g mX14_row d 0 [(0, vr (some a0)), (1, vr a1), (2, vr a2), (3, vi a3)] [] σ τ Q) (jr_row (gRm g) rec a0 a1 a2 a3 σ) (fun r => tQ Q τ (fun _ : Unit => none) r) := by
  unfold jr_row
  refine sm_top (fun K hRET => ?_)
  refine sm_b (l' := [(0, vr (some a0)), (1, vr a1), (2, vr a2), (3, vi a3)]) (st' := [vi 91, vr (some a0)]) (pc' := 3) [(.aload_n 0, vi 0, 1), (.bipush 91, vi 91, 3)] (by decide +kernel) rfl rfl ?_
  refine sm_gd (fun h1 => ?_)
  refine sm_cvT (N := mX14_sign) (d' := d - 1) (fun _ : Unit => none) (fun z => (none, z)) [vi 91] [] rfl (by decide +kernel) q1225 q1227 qs33 (Or.inl ⟨rfl, q1228⟩) (show okN yX14_sign 1 = true by decide +kernel) (fun H hR => hR.rv G.1 cd13 rfl h1) rfl rfl (by omega) rfl (fun Q' => jr_sign_ok G (d - 1) (by omega) a0 91 σ Q') (fun z h => hRET _ h) (fun y3 σ4 => ?_)
  refine sm_b (l' := [(0, vr (some a0)), (1, vr a1), (2, vr a2), (3, vi a3)]) (st' := [vi 93, vr (some a0)]) (pc' := 9) [(.aload_n 0, vi 0, 7), (.bipush 93, vi 93, 9)] (by decide +kernel) rfl rfl ?_
  refine sm_gd (fun h5 => ?_)
  refine sm_cv (N := mX14_passes) (d' := d - 1) (fun r => (some (vi r.1))) (fun r => r.2) (fun _ => τ) [vi 93] [] rfl (by decide +kernel) q1242 q1244 qs36 (Or.inl ⟨rfl, q1245⟩) (show okN yX14_passes 1 = true by decide +kernel) (fun H hR => hR.rv G.1 cd13 rfl h5) rfl rfl (by omega) rfl (fun Q' => jr_passes_ok G (d - 1) (by omega) a0 93 σ4 Q') (fun y6 => ?_)
  refine sm_gd (fun h7 => ?_)
  refine sm_case (V g mX14_row d 16 [(0, vr (some a0)), (1, vr a1), (2, vr a2), (3, vi a3)] [] y6.2 τ Q) (V g mX14_row d 15 [(0, vr (some a0)), (1, vr a1), (2, vr a2), (3, vi a3)] [] y6.2 τ Q) ?_ ?_ (fun f49 p50 n51 => ?_)
  · refine sm_bindS (fun (v9 : ST) => V g mX14_row d 50 [(0, vr (some a0))] [] v9 τ Q) (fun v9 => ?_) (fun K10 o12 j11 => ?_)
    · refine sm_b (l' := [(0, vr (some a0))]) (st' := [vi 93, vr (some a0)]) (pc' := 53) [(.aload_n 0, vi 0, 51), (.bipush 93, vi 93, 53)] (by decide +kernel) rfl rfl ?_
      refine sm_gd (fun h13 => ?_)
      refine sm_cvT (N := mX14_sign) (d' := d - 1) (fun _ : Unit => none) (fun z => (none, z)) [vi 93] [] rfl (by decide +kernel) q1225 q1227 qs33 (Or.inl ⟨rfl, q1228⟩) (show okN yX14_sign 1 = true by decide +kernel) (fun H hR => hR.rv G.1 cd13 rfl h13) rfl rfl (by omega) rfl (fun Q' => jr_sign_ok G (d - 1) (by omega) a0 93 v9 Q') (fun z h => hRET _ h) (fun y15 σ16 => ?_)
      exact sm_vret rfl (by decide +kernel) (fun h => hRET _ h)
    · exact jr_row_L16_ok G rec hrec d hd1 hd2 a0 a1 a2 a3  (fun r h => hRET _ (o12 _ h)) (fun _ h => j11 _ h) FU y6.2
  · exact sm_vret rfl (by decide +kernel) (fun h => hRET _ h)
  refine sm_if_eq (off := 4) (tgt := 16) h7 (by decide +kernel) (fun c52 => ?_) (fun c52 => ?_)
  · exact p50 c52
  · exact n51 c52
def jr_field (bb : Nat × Nat) (rec : Option Nat → Option Nat → Int → ST → Option (Option (Option Nat) × ST)) (a0 : Nat) (a1 : Option Nat) (a2 : Int64) (a3 : Int) (σ : ST) : Option (Option Int64 × ST) := Option.bind a1 fun p1 => gd (sc σ p1 = 11) (gd (sc σ a0 = 14) (Option.bind (jr_string bb a0 σ) (tB (fun z => (none, z)) fun y6 σ7 => Option.bind (sR σ 160 p1) fun p8 => gd (sc σ7 p8 = 7) (Option.bind (mt_byName p8 y6 σ7) fun y11 => Option.bind (gd (¬ (y11 = none) → ¬ y11 = none) (gd (¬ (y11 = none) → sc σ7 (ad y11) = 9) (if (y11 = none) ∨ (¬ (((lShr a2 (sI σ7 134 (ad y11))) &&& 1) = 0)) then (some 0) else (some 1)))) fun (v18 : Int) => Option.bind (s_must bb v18 σ7) (tB (fun z => (none, z)) fun y23 σ24 => Option.bind y11 fun p25 => gd (sc σ24 p25 = 9) (nm (a2 ||| (lShl 1 (sI σ24 134 p25))) fun x28 => gd (sc σ24 a0 = 14) (Option.bind (jr_sign bb a0 58 σ24) (tB (fun z => (none, z)) fun y31 σ32 => gd (sc σ32 a0 = 14) (Option.bind (jr_passesWord bb a0 5 σ32) fun y34 => gd (rg y34.1) (if y34.1 = 0 then (gd (sc y34.2 p1 = 11) (Option.bind (vlu_hasOther p1 y11 y34.2) fun y42 => Option.bind (gd (rg y42) (if y42 = 0 then (some 1) else (some 0))) fun (v46 : Int) => Option.bind (s_must bb v46 y34.2) (tB (fun z => (none, z)) fun y51 σ52 => gd (sc σ52 p25 = 9) (gd (rg (sI σ52 135 p25)) (if (sI σ52 135 p25) = 0 then (Option.bind (if (sR σ52 137 p25) = none then (gd (sc σ52 a0 = 14) (Option.bind (jr_slot bb a0 y11 σ52) (tB (fun z => Sum.inl ((none, z))) fun y67 σ68 => some (Sum.inr ((y67, σ68)))))) else (Option.bind (jr_inner bb rec (some a0) y11 a3 σ52) (tB (fun z => Sum.inl ((none, z))) fun y70 σ71 => some (Sum.inr ((y70, σ71)))))) (Sum.elim some fun (v59 : Option Nat × ST) => gd (sc v59.2 p1 = 11) (Option.bind (vlu_put bb p1 v59.1 v59.2) fun y64 => some ((some x28, y64))))) else (gd (sc σ52 a0 = 14) (Option.bind (jr_row bb rec a0 y11 a1 a3 σ52) (tB (fun z => (none, z)) fun y78 σ79 => some ((some x28, σ79)))))))))) else (some ((some x28, y34.2)))))))))))))
set_option maxHeartbeats 4000000 in
theorem jr_field_ok {g : GE} (G : GG g) {D : Nat} (rec : Option Nat → Option Nat → Int → ST → Option (Option (Option Nat) × ST)) (hrec : ∀ (d : Nat), D ≤ d → ∀ {τ : TT} (a1 : Option Nat) (a2 : Option Nat) (a3 : Int) (σ : ST) (Q' : VQ), Sm (V g mX14_object d 0 [(0, vr a1), (1, vr a2), (2, vi a3)] [] σ τ Q') (rec a1 a2 a3 σ) (fun r => tQ Q' τ (fun r : Option Nat => some (vr r)) r)) {τ : TT} (d : Nat) (hd1 : D + 3 ≤ d) (hd2 : 13 ≤ d) (a0 : Nat) (a1 : Option Nat) (a2 : Int64) (a3 : Int)  (σ : ST) (Q : VQ) : Sm (V g mX14_field d 0 [(0, vr (some a0)), (1, vr a1), (2, vl a2), (4, vi a3)] [] σ τ Q) (jr_field (gRm g) rec a0 a1 a2 a3 σ) (fun r => tQ Q τ (fun r : Int64 => some (vl r)) r) := by
  unfold jr_field
  refine sm_top (fun K hRET => ?_)
  refine sm_b (l' := [(0, vr (some a0)), (1, vr a1), (2, vl a2), (4, vi a3)]) (st' := [vr a1]) (pc' := 1) [(.aload_n 1, vi 0, 1)] (by decide +kernel) rfl rfl ?_
  refine sm_de (fun p1 h2 => ?_)
  refine sm_st [vr (some p1)] (by rw [h2] <;> rfl) ?_
  refine sm_gd (fun h3 => ?_)
  refine sm_gN (k := 0) (x := vr (sR σ 160 p1)) cd10 rfl h3 rfl q949 rfl (by decide +kernel) ?_
  refine sm_b (l' := [(0, vr (some a0)), (1, vr a1), (2, vl a2), (4, vi a3)]) (st' := [vr (some a0), vr (sR σ 160 p1)]) (pc' := 5) [(.aload_n 0, vi 0, 5)] (by decide +kernel) rfl rfl ?_
  refine sm_gd (fun h4 => ?_)
  refine sm_cvT (N := mX14_string) (d' := d - 1) (fun r : Option Nat => some (vr r)) (fun z => (none, z)) [] [vr (sR σ 160 p1)] rfl (by decide +kernel) q1250 q1252 qs38 (Or.inl ⟨rfl, q1253⟩) (show okN yX14_string 0 = true by decide +kernel) (fun H hR => hR.rv G.1 cd13 rfl h4) rfl rfl (by omega) rfl (fun Q' => jr_string_ok G (d - 1) (by omega) a0 σ Q') (fun z h => hRET _ h) (fun y6 σ7 => ?_)
  refine sm_de (fun p8 h9 => ?_)
  refine sm_st [vr y6, vr (some p8)] (by rw [h9] <;> rfl) ?_
  refine sm_gd (fun h10 => ?_)
  refine sm_cv (N := mX6_byName) (d' := d - 1) (fun r => (some (vr r))) (fun _ => σ7) (fun _ => τ) [vr y6] [] rfl (by decide +kernel) q1278 q1279 q1280 (Or.inl ⟨rfl, q1281⟩) (show okN yX6_byName 1 = true by decide +kernel) (fun H hR => hR.rv G.1 cd6 rfl h10) rfl rfl (by omega) rfl (fun Q' => mt_byName_ok G (d - 1) (by omega) p8 y6 σ7 Q') (fun y11 => ?_)
  refine sm_b (l' := [(0, vr (some a0)), (1, vr a1), (2, vl a2), (4, vi a3), (5, vr y11)]) (st' := [vr y11]) (pc' := 15) [(.astore 5, vi 0, 13), (.aload 5, vi 0, 15)] (by decide +kernel) rfl rfl ?_
  refine sm_bind1 (fun (v18 : Int) => V g mX14_field d 37 [(0, vr (some a0)), (1, vr a1), (2, vl a2), (4, vi a3), (5, vr y11)] [vi v18] σ7 τ Q) (fun v18 => ?_) (fun K19 j20 => ?_)
  · refine sm_csTE (N := mX14_must) (d' := d - 1) (fun _ : Unit => none) (fun z => (none, z)) [vi v18] [] rfl (by decide +kernel) q1237 q1238 q162 (Or.inl ⟨rfl, q1239⟩) (show okN yX14_must 1 = true by decide +kernel) rfl rfl (by omega) rfl (fun Q' => jr_must_ok G (d - 1) (by omega) v18 σ7 Q') (fun z h => hRET _ h) (fun y23 σ24 => ?_)
    refine sm_b (l' := [(0, vr (some a0)), (1, vr a1), (2, vl a2), (4, vi a3), (5, vr y11)]) (st' := [vr y11, vl 1, vl a2]) (pc' := 44) [(.lload_n 2, vi 0, 41), (.lconst 1, vl 1, 42), (.aload 5, vi 0, 44)] (by decide +kernel) rfl rfl ?_
    refine sm_de (fun p25 h26 => ?_)
    refine sm_st [vr (some p25), vl 1, vl a2] (by rw [h26] <;> rfl) ?_
    refine sm_gd (fun h27 => ?_)
    refine sm_gN (k := 6) (x := vi (sI σ24 134 p25)) cd8 rfl h27 rfl q742 rfl (by decide +kernel) ?_
    refine sm_b (l' := [(0, vr (some a0)), (1, vr a1), (2, vl a2), (4, vi a3), (5, vr y11)]) (st' := [vl (a2 ||| (lShl 1 (sI σ24 134 p25)))]) (pc' := 49) [(.lshl, vi 0, 48), (.lor, vi 0, 49)] (by decide +kernel) rfl rfl ?_
    refine sm_nml (fun x28 => ?_)
    refine sm_b (l' := [(0, vr (some a0)), (1, vr a1), (2, vl a2), (4, vi a3), (5, vr y11), (6, vl x28)]) (st' := [vi 58, vr (some a0)]) (pc' := 54) [(.lstore 6, vi 0, 51), (.aload_n 0, vi 0, 52), (.bipush 58, vi 58, 54)] (by decide +kernel) rfl rfl ?_
    refine sm_gd (fun h29 => ?_)
    refine sm_cvT (N := mX14_sign) (d' := d - 1) (fun _ : Unit => none) (fun z => (none, z)) [vi 58] [] rfl (by decide +kernel) q1225 q1227 qs33 (Or.inl ⟨rfl, q1228⟩) (show okN yX14_sign 1 = true by decide +kernel) (fun H hR => hR.rv G.1 cd13 rfl h29) rfl rfl (by omega) rfl (fun Q' => jr_sign_ok G (d - 1) (by omega) a0 58 σ24 Q') (fun z h => hRET _ h) (fun y31 σ32 => ?_)
    refine sm_b (l' := [(0, vr (some a0)), (1, vr a1), (2, vl a2), (4, vi a3), (5, vr y11), (6, vl x28)]) (st' := [vr (some a0)]) (pc' := 58) [(.aload_n 0, vi 0, 58)] (by decide +kernel) rfl rfl ?_
    refine sm_str (k := 5) G rfl (by decide +kernel) ?_
    refine sm_gd (fun h33 => ?_)
    refine sm_cv (N := mX14_passesWord) (d' := d - 1) (fun r => (some (vi r.1))) (fun r => r.2) (fun _ => τ) [vr (some (gK g 5))] [] rfl (by decide +kernel) q1284 q1286 qs42 (Or.inl ⟨rfl, q1287⟩) (show okN yX14_passesWord 1 = true by decide +kernel) (fun H hR => hR.rv G.1 cd13 rfl h33) rfl rfl (by omega) rfl (fun Q' => jr_passesWord_ok G (d - 1) (by omega) a0 5 σ32 Q') (fun y34 => ?_)
    refine sm_gd (fun h35 => ?_)
    refine sm_case (V g mX14_field d 69 [(0, vr (some a0)), (1, vr a1), (2, vl a2), (4, vi a3), (5, vr y11), (6, vl x28)] [] y34.2 τ Q) (V g mX14_field d 66 [(0, vr (some a0)), (1, vr a1), (2, vl a2), (4, vi a3), (5, vr y11), (6, vl x28)] [] y34.2 τ Q) ?_ ?_ (fun f88 p89 n90 => ?_)
    · refine sm_b (l' := [(0, vr (some a0)), (1, vr a1), (2, vl a2), (4, vi a3), (5, vr y11), (6, vl x28)]) (st' := [vr y11, vr a1]) (pc' := 72) [(.aload_n 1, vi 0, 70), (.aload 5, vi 0, 72)] (by decide +kernel) rfl rfl ?_
      refine sm_st [vr y11, vr (some p1)] (by rw [h2] <;> rfl) ?_
      refine sm_gd (fun h41 => ?_)
      refine sm_cv (N := mX10_hasOther) (d' := d - 1) (fun r => (some (vi r))) (fun _ => y34.2) (fun _ => τ) [vr y11] [] rfl (by decide +kernel) q1290 q1291 q1292 (Or.inl ⟨rfl, q1293⟩) (show okN yX10_hasOther 1 = true by decide +kernel) (fun H hR => hR.rv G.1 cd10 rfl h41) rfl rfl (by omega) rfl (fun Q' => vlu_hasOther_ok G (d - 1) (by omega) p1 y11 y34.2 Q') (fun y42 => ?_)
      refine sm_bind1 (fun (v46 : Int) => V g mX14_field d 83 [(0, vr (some a0)), (1, vr a1), (4, vi a3), (5, vr y11), (6, vl x28)] [vi v46] y34.2 τ Q) (fun v46 => ?_) (fun K47 j48 => ?_)
      · refine sm_csTE (N := mX14_must) (d' := d - 1) (fun _ : Unit => none) (fun z => (none, z)) [vi v46] [] rfl (by decide +kernel) q1237 q1238 q162 (Or.inl ⟨rfl, q1239⟩) (show okN yX14_must 1 = true by decide +kernel) rfl rfl (by omega) rfl (fun Q' => jr_must_ok G (d - 1) (by omega) v46 y34.2 Q') (fun z h => hRET _ h) (fun y51 σ52 => ?_)
        refine sm_b (l' := [(0, vr (some a0)), (1, vr a1), (4, vi a3), (5, vr y11), (6, vl x28)]) (st' := [vr y11]) (pc' := 88) [(.aload 5, vi 0, 88)] (by decide +kernel) rfl rfl ?_
        refine sm_st [vr (some p25)] (by rw [h26] <;> rfl) ?_
        refine sm_gd (fun h53 => ?_)
        refine sm_gN (k := 7) (x := vi (sI σ52 135 p25)) cd8 rfl h53 rfl q748 rfl (by decide +kernel) ?_
        refine sm_gd (fun h54 => ?_)
        refine sm_case (V g mX14_field d 106 [(0, vr (some a0)), (1, vr a1), (4, vi a3), (5, vr y11), (6, vl x28)] [] σ52 τ Q) (V g mX14_field d 94 [(0, vr (some a0)), (1, vr a1), (4, vi a3), (5, vr y11), (6, vl x28)] [] σ52 τ Q) ?_ ?_ (fun f80 p81 n82 => ?_)
        · refine sm_b (l' := [(0, vr (some a0)), (1, vr a1), (4, vi a3), (5, vr y11), (6, vl x28)]) (st' := [vr y11, vr a1]) (pc' := 109) [(.aload_n 1, vi 0, 107), (.aload 5, vi 0, 109)] (by decide +kernel) rfl rfl ?_
          refine sm_st [vr (some p25), vr a1] (by rw [h26] <;> rfl) ?_
          refine sm_gN (k := 9) (x := vr (sR σ52 137 p25)) cd8 rfl h53 rfl q757 rfl (by decide +kernel) ?_
          refine sm_bindS (fun (v59 : Option Nat × ST) => V g mX14_field d 132 [(6, vl x28)] [vr v59.1, vr a1] v59.2 τ Q) (fun v59 => ?_) (fun K60 o62 j61 => ?_)
          · refine sm_st [vr v59.1, vr (some p1)] (by rw [h2] <;> rfl) ?_
            refine sm_gd (fun h63 => ?_)
            refine sm_cv (N := mX10_put) (d' := d - 1) (fun r => none) (fun r => r) (fun _ => τ) [vr v59.1] [] rfl (by decide +kernel) q1371 q1056 q1057 (Or.inl ⟨rfl, q1058⟩) (show okN yX10_put 1 = true by decide +kernel) (fun H hR => hR.rv G.1 cd10 rfl h63) rfl rfl (by omega) rfl (fun Q' => vlu_put_ok G (d - 1) (by omega) p1 v59.1 v59.2 Q') (fun y64 => ?_)
            refine sm_b (l' := [(6, vl x28)]) (st' := [vl x28]) (pc' := 137) [(.lload 6, vi 0, 137)] (by decide +kernel) rfl rfl ?_
            exact sm_lret rfl (by decide +kernel) (fun h => hRET _ h)
          · refine sm_case (V g mX14_field d 115 [(0, vr (some a0)), (1, vr a1), (4, vi a3), (5, vr y11), (6, vl x28)] [vr a1] σ52 τ Q) (V g mX14_field d 124 [(0, vr (some a0)), (1, vr a1), (4, vi a3), (5, vr y11), (6, vl x28)] [vr a1] σ52 τ Q) ?_ ?_ (fun f72 p73 n74 => ?_)
            · refine sm_b (l' := [(0, vr (some a0)), (1, vr a1), (4, vi a3), (5, vr y11), (6, vl x28)]) (st' := [vr y11, vr (some a0), vr a1]) (pc' := 118) [(.aload_n 0, vi 0, 116), (.aload 5, vi 0, 118)] (by decide +kernel) rfl rfl ?_
              refine sm_gd (fun h65 => ?_)
              refine sm_cvT (N := mX14_slot) (d' := d - 1) (fun r : Option Nat => some (vr r)) (fun z => Sum.inl ((none, z))) [vr y11] [vr a1] rfl (by decide +kernel) q1298 q1300 qs44 (Or.inl ⟨rfl, q1301⟩) (show okN yX14_slot 1 = true by decide +kernel) (fun H hR => hR.rv G.1 cd13 rfl h65) rfl rfl (by omega) rfl (fun Q' => jr_slot_ok G (d - 1) (by omega) a0 y11 σ52 Q') (fun z h => hRET _ (o62 _ h)) (fun y67 σ68 => ?_)
              refine sm_b (l' := [(0, vr (some a0)), (1, vr a1), (4, vi a3), (5, vr y11), (6, vl x28)]) (st' := [vr y67, vr a1]) (pc' := 132) [(.goto 11, vi 0, 132)] (by decide +kernel) rfl rfl ?_
              refine sm_pick [4] (l' := [(6, vl x28)]) rfl ?_
              exact sm_leaf (fun h => j61 _ h)
            · refine sm_b (l' := [(0, vr (some a0)), (1, vr a1), (4, vi a3), (5, vr y11), (6, vl x28)]) (st' := [vi a3, vr y11, vr (some a0), vr a1]) (pc' := 129) [(.aload_n 0, vi 0, 125), (.aload 5, vi 0, 127), (.iload 4, vi 0, 129)] (by decide +kernel) rfl rfl ?_
              refine sm_csT (N := mX14_inner) (d' := d - 1) (fun r : Option Nat => some (vr r)) (fun z => Sum.inl ((none, z))) [vr (some a0), vr y11, vi a3] [vr a1] rfl (by decide +kernel) q1368 q1369 q162 (Or.inl ⟨rfl, q1370⟩) (show okN yX14_inner 3 = true by decide +kernel) rfl rfl (by omega) rfl (fun Q' => jr_inner_ok G (D := D) rec hrec (d - 1) (by omega) (by omega) (some a0) y11 a3 σ52 Q') (fun z h => hRET _ (o62 _ h)) (fun y70 σ71 => ?_)
              refine sm_pick [4] (l' := [(6, vl x28)]) rfl ?_
              exact sm_leaf (fun h => j61 _ h)
            refine sm_ifnonnull (off := 12) (tgt := 124) (by decide +kernel) (fun c75 => ?_) (fun c75 => ?_)
            · exact n74 c75
            · exact p73 c75
        · refine sm_b (l' := [(0, vr (some a0)), (1, vr a1), (4, vi a3), (5, vr y11), (6, vl x28)]) (st' := [vi a3, vr a1, vr y11, vr (some a0)]) (pc' := 100) [(.aload_n 0, vi 0, 95), (.aload 5, vi 0, 97), (.aload_n 1, vi 0, 98), (.iload 4, vi 0, 100)] (by decide +kernel) rfl rfl ?_
          refine sm_gd (fun h76 => ?_)
          refine sm_cvT (N := mX14_row) (d' := d - 1) (fun _ : Unit => none) (fun z => (none, z)) [vr y11, vr a1, vi a3] [] rfl (by decide +kernel) q1294 q1296 qs43 (Or.inl ⟨rfl, q1297⟩) (show okN yX14_row 3 = true by decide +kernel) (fun H hR => hR.rv G.1 cd13 rfl h76) rfl rfl (by omega) rfl (fun Q' => jr_row_ok G (D := D) rec hrec (d - 1) (by omega) (by omega) a0 y11 a1 a3 σ52 Q') (fun z h => hRET _ h) (fun y78 σ79 => ?_)
          refine sm_b (l' := [(0, vr (some a0)), (1, vr a1), (4, vi a3), (5, vr y11), (6, vl x28)]) (st' := [vl x28]) (pc' := 137) [(.goto 32, vi 0, 135), (.lload 6, vi 0, 137)] (by decide +kernel) rfl rfl ?_
          exact sm_lret rfl (by decide +kernel) (fun h => hRET _ h)
        refine sm_if_eq (off := 15) (tgt := 106) h54 (by decide +kernel) (fun c83 => ?_) (fun c83 => ?_)
        · exact p81 c83
        · exact n82 c83
      · refine sm_gd (fun h43 => ?_)
        refine sm_case (V g mX14_field d 78 [(0, vr (some a0)), (1, vr a1), (2, vl a2), (4, vi a3), (5, vr y11), (6, vl x28)] [] y34.2 τ Q) (V g mX14_field d 82 [(0, vr (some a0)), (1, vr a1), (2, vl a2), (4, vi a3), (5, vr y11), (6, vl x28)] [] y34.2 τ Q) ?_ ?_ (fun f84 p85 n86 => ?_)
        · refine sm_b (l' := [(0, vr (some a0)), (1, vr a1), (2, vl a2), (4, vi a3), (5, vr y11), (6, vl x28)]) (st' := [vi 1]) (pc' := 83) [(.iconst 1, vi 1, 79), (.goto 4, vi 0, 83)] (by decide +kernel) rfl rfl ?_
          refine sm_pick [0, 1, 3, 4, 5] (l' := [(0, vr (some a0)), (1, vr a1), (4, vi a3), (5, vr y11), (6, vl x28)]) rfl ?_
          exact sm_leaf (fun h => j48 _ h)
        · refine sm_b (l' := [(0, vr (some a0)), (1, vr a1), (2, vl a2), (4, vi a3), (5, vr y11), (6, vl x28)]) (st' := [vi 0]) (pc' := 83) [(.iconst 0, vi 0, 83)] (by decide +kernel) rfl rfl ?_
          refine sm_pick [0, 1, 3, 4, 5] (l' := [(0, vr (some a0)), (1, vr a1), (4, vi a3), (5, vr y11), (6, vl x28)]) rfl ?_
          exact sm_leaf (fun h => j48 _ h)
        refine sm_if_ne (off := 7) (tgt := 82) h43 (by decide +kernel) (fun c87 => ?_) (fun c87 => ?_)
        · exact n86 c87
        · exact p85 c87
    · refine sm_b (l' := [(0, vr (some a0)), (1, vr a1), (2, vl a2), (4, vi a3), (5, vr y11), (6, vl x28)]) (st' := [vl x28]) (pc' := 68) [(.lload 6, vi 0, 68)] (by decide +kernel) rfl rfl ?_
      exact sm_lret rfl (by decide +kernel) (fun h => hRET _ h)
    refine sm_if_eq (off := 6) (tgt := 69) h35 (by decide +kernel) (fun c91 => ?_) (fun c91 => ?_)
    · exact p89 c91
    · exact n90 c91
  · refine sm_gd (fun h13 => ?_)
    refine sm_gd (fun h15 => ?_)
    refine sm_case (V g mX14_field d 36 [(0, vr (some a0)), (1, vr a1), (2, vl a2), (4, vi a3), (5, vr y11)] [] σ7 τ Q) (V g mX14_field d 32 [(0, vr (some a0)), (1, vr a1), (2, vl a2), (4, vi a3), (5, vr y11)] [] σ7 τ Q) ?_ ?_ (fun f92 p93 n94 => ?_)
    · refine sm_b (l' := [(0, vr (some a0)), (1, vr a1), (2, vl a2), (4, vi a3), (5, vr y11)]) (st' := [vi 0]) (pc' := 37) [(.iconst 0, vi 0, 37)] (by decide +kernel) rfl rfl ?_
      exact sm_leaf (fun h => j20 _ h)
    · refine sm_b (l' := [(0, vr (some a0)), (1, vr a1), (2, vl a2), (4, vi a3), (5, vr y11)]) (st' := [vi 1]) (pc' := 37) [(.iconst 1, vi 1, 33), (.goto 4, vi 0, 37)] (by decide +kernel) rfl rfl ?_
      exact sm_leaf (fun h => j20 _ h)
    refine sm_ifnull (off := 21) (tgt := 36) (by decide +kernel) (fun c95 => ?_) (fun c95 => ?_)
    · exact p93 (Or.inl c95)
    · have w12 : ¬ (y11 = none) := c95
      refine sm_b (l' := [(0, vr (some a0)), (1, vr a1), (2, vl a2), (4, vi a3), (5, vr y11)]) (st' := [vr y11, vl a2]) (pc' := 21) [(.lload_n 2, vi 0, 19), (.aload 5, vi 0, 21)] (by decide +kernel) rfl rfl ?_
      have q14 := (ad_some (h13 w12))
      refine sm_st [vr (some (ad y11)), vl a2] (congrArg (fun z => [vr z, vl a2]) q14) ?_
      refine sm_gN (k := 6) (x := vi (sI σ7 134 (ad y11))) cd8 rfl (h15 w12) rfl q742 rfl (by decide +kernel) ?_
      refine sm_b (l' := [(0, vr (some a0)), (1, vr a1), (2, vl a2), (4, vi a3), (5, vr y11)]) (st' := [vl 0, vl ((lShr a2 (sI σ7 134 (ad y11))) &&& 1)]) (pc' := 28) [(.lshr, vi 0, 25), (.lconst 1, vl 1, 26), (.land, vi 0, 27), (.lconst 0, vl 0, 28)] (by decide +kernel) rfl rfl ?_
      refine sm_lc_ne (off := 7) (tgt := 36) (by decide +kernel) (by decide +kernel) (fun c96 => ?_) (fun c96 => ?_)
      · exact p93 (Or.inr c96)
      · exact n94 (fun q => q.elim c95 (fun q => q c96))
