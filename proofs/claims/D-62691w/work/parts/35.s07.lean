set_option maxRecDepth 100000
/-! the system: X0_field, X0_letter, X0_isMessage, X10_init, X11_init, X11_varint, X6_byNumber, X8_isPlain, X8_wire, X12_init, X11_fixed, X11_number -/
def ws_field (a0 : Nat) (a1 : Int) (a2 : Int) (σ : ST) : Option (Int) := gd (sc σ a0 = 1) (Option.bind (ws_isField a0 a1 σ) fun y2 => gd (rg y2) (if y2 = 0 then (some (((-1)))) else (Option.bind (sR σ 4 a0) fun p16 => gd (sc σ p16 = 2) (Option.bind (sR σ 19 p16) fun p19 => gd (sc σ p19 = 16) (Option.bind (l_get p19 a1 σ) fun y22 => Option.bind y22 fun p23 => gd (sc σ p23 = 9) (gd (rg a2) (if a2 = 0 then (Option.bind (sR σ 128 p23) fun p29 => gd (sc σ p29 = 7) (some ((sI σ 96 p29)))) else (if a2 = 1 then (some ((sI σ 131 p23))) else (if a2 = 2 then (if (sR σ 137 p23) = none then (if (sR σ 138 p23) = none then (some ((sI σ 132 p23))) else (Option.bind (sR σ 138 p23) fun p46 => gd (sc σ p46 = 8) (some ((32 + (sI σ 112 p46)))))) else (Option.bind (sR σ 137 p23) fun p53 => gd (sc σ p53 = 7) (some ((16 + (sI σ 96 p53)))))) else (if a2 = 3 then (gd (rg (sI σ 135 p23)) (if (sI σ 135 p23) = 0 then (some 0) else (some 1))) else (if a2 = 4 then (gd (rg (sI σ 136 p23)) (if (sI σ 136 p23) = 0 then (some 0) else (some 1))) else (if a2 = 5 then (some ((sI σ 133 p23))) else (if a2 = 6 then (Option.bind (sR σ 130 p23) fun p82 => gd (sc σ p82 = 4) (some (((((sW σ p82).length : Nat) : Int))))) else (some (((-1)))))))))))))))))
set_option maxHeartbeats 4000000 in
theorem ws_field_ok {g : GE} (G : GG g) {τ : TT} (d : Nat) (hd1 : 4 ≤ d) (a0 : Nat) (a1 : Int) (a2 : Int)  (σ : ST) (Q : VQ) : Sm (V g mX0_field d 0 [(0, vr (some a0)), (1, vi a1), (2, vi a2)] [] σ τ Q) (ws_field a0 a1 a2 σ) (fun r => Q.1 (some (vi r)) σ τ) := by
  unfold ws_field
  refine sm_top (fun K hRET => ?_)
  refine sm_b (l' := [(0, vr (some a0)), (1, vi a1), (2, vi a2)]) (st' := [vi a1, vr (some a0)]) (pc' := 2) [(.aload_n 0, vi 0, 1), (.iload_n 1, vi 0, 2)] (by decide +kernel) rfl rfl ?_
  refine sm_gd (fun h1 => ?_)
  refine sm_cv (N := mX0_isField) (d' := d - 1) (fun r => (some (vi r))) (fun _ => σ) (fun _ => τ) [vi a1] [] rfl (by decide +kernel) q915 q917 qs21 (Or.inl ⟨rfl, q918⟩) (show okN yX0_isField 1 = true by decide +kernel) (fun H hR => hR.rv G.1 cd0 rfl h1) rfl rfl (by omega) rfl (fun Q' => ws_isField_ok G (d - 1) (by omega) a0 a1 σ Q') (fun y2 => ?_)
  refine sm_gd (fun h3 => ?_)
  refine sm_case (V g mX0_field d 8 [(0, vr (some a0)), (1, vi a1), (2, vi a2)] [] σ τ Q) (V g mX0_field d 10 [(0, vr (some a0)), (1, vi a1), (2, vi a2)] [] σ τ Q) ?_ ?_ (fun f88 p89 n90 => ?_)
  · refine sm_b (l' := [(0, vr (some a0)), (1, vi a1), (2, vi a2)]) (st' := [vi ((-1))]) (pc' := 9) [(.iconst (-1), vi (-1), 9)] (by decide +kernel) rfl rfl ?_
    exact sm_iret rfl (by decide +kernel) (fun h => hRET _ h)
  · refine sm_b (l' := [(0, vr (some a0)), (1, vi a1), (2, vi a2)]) (st' := [vr (some a0)]) (pc' := 11) [(.aload_n 0, vi 0, 11)] (by decide +kernel) rfl rfl ?_
    refine sm_g (k := 4) (x := vr (sR σ 4 a0)) cd0 rfl h1 rfl q294 rfl (by decide +kernel) ?_
    refine sm_de (fun p16 h17 => ?_)
    refine sm_st [vr (some p16)] (by rw [h17] <;> rfl) ?_
    refine sm_gd (fun h18 => ?_)
    refine sm_gN (k := 3) (x := vr (sR σ 19 p16)) cd1 rfl h18 rfl q245 rfl (by decide +kernel) ?_
    refine sm_b (l' := [(0, vr (some a0)), (1, vi a1), (2, vi a2)]) (st' := [vi a1, vr (sR σ 19 p16)]) (pc' := 18) [(.iload_n 1, vi 0, 18)] (by decide +kernel) rfl rfl ?_
    refine sm_de (fun p19 h20 => ?_)
    refine sm_st [vi a1, vr (some p19)] (by rw [h20] <;> rfl) ?_
    refine sm_gd (fun h21 => ?_)
    refine sm_cv (N := mJ2_get) (d' := d - 1) (fun r => (some (vr r))) (fun _ => σ) (fun _ => τ) [vi a1] [] rfl (by decide +kernel) q919 q791 q792 (Or.inl ⟨rfl, q793⟩) (show okN yJ2_get 1 = true by decide +kernel) (fun H hR => hR.rvL G.1 h21) rfl rfl (by omega) rfl (fun Q' => l_get_ok G (d - 1) (by omega) p19 a1 σ Q') (fun y22 => ?_)
    refine sm_de (fun p23 h24 => ?_)
    refine sm_st [vr (some p23)] (by rw [h24] <;> rfl) ?_
    refine sm_gd (fun h25 => ?_)
    refine sm_cast cd8 q920 (fun H hR => hR.rv G.1 cd8 rfl h25) (by decide +kernel) ?_
    refine sm_b (l' := [(0, vr (some a0)), (1, vi a1), (2, vi a2), (3, vr (some p23))]) (st' := [vi a2]) (pc' := 26) [(.astore_n 3, vi 0, 25), (.iload_n 2, vi 0, 26)] (by decide +kernel) rfl rfl ?_
    refine sm_gd (fun h26 => ?_)
    refine sm_if (fun c27 => ?_) (fun c27 => ?_)
    · refine sm_dflt (V g mX0_field d 68 [(0, vr (some a0)), (1, vi a1), (2, vi a2), (3, vr (some p23))] [] σ τ Q) ?_ (fun f28 => ?_)
      · refine sm_b (l' := [(0, vr (some a0)), (1, vi a1), (2, vi a2), (3, vr (some p23))]) (st' := [vr (some p23)]) (pc' := 69) [(.aload_n 3, vi 0, 69)] (by decide +kernel) rfl rfl ?_
        refine sm_gN (k := 0) (x := vr (sR σ 128 p23)) cd8 rfl h25 rfl q716 rfl (by decide +kernel) ?_
        refine sm_de (fun p29 h30 => ?_)
        refine sm_st [vr (some p29)] (by rw [h30] <;> rfl) ?_
        refine sm_gd (fun h31 => ?_)
        refine sm_gN (k := 0) (x := vi (sI σ 96 p29)) cd6 rfl h31 rfl q553 rfl (by decide +kernel) ?_
        exact sm_iret rfl (by decide +kernel) (fun h => hRET _ h)
      exact sm_tcase (df := 139) (lo := 0) (hi := 6) (os := #[42, 50, 55, 100, 113, 126, 131]) (n := 42) (k := 0) (off := 42) (tgt := 68) (by decide +kernel) c27 f28
    · refine sm_if (fun c32 => ?_) (fun c32 => ?_)
      · refine sm_dflt (V g mX0_field d 76 [(0, vr (some a0)), (1, vi a1), (2, vi a2), (3, vr (some p23))] [] σ τ Q) ?_ (fun f33 => ?_)
        · refine sm_b (l' := [(0, vr (some a0)), (1, vi a1), (2, vi a2), (3, vr (some p23))]) (st' := [vr (some p23)]) (pc' := 77) [(.aload_n 3, vi 0, 77)] (by decide +kernel) rfl rfl ?_
          refine sm_gN (k := 3) (x := vi (sI σ 131 p23)) cd8 rfl h25 rfl q728 rfl (by decide +kernel) ?_
          exact sm_iret rfl (by decide +kernel) (fun h => hRET _ h)
        exact sm_tcase (df := 139) (lo := 0) (hi := 6) (os := #[42, 50, 55, 100, 113, 126, 131]) (n := 42) (k := 1) (off := 50) (tgt := 76) (by decide +kernel) c32 f33
      · refine sm_if (fun c34 => ?_) (fun c34 => ?_)
        · refine sm_dflt (V g mX0_field d 81 [(0, vr (some a0)), (1, vi a1), (2, vi a2), (3, vr (some p23))] [] σ τ Q) ?_ (fun f35 => ?_)
          · refine sm_b (l' := [(0, vr (some a0)), (1, vi a1), (2, vi a2), (3, vr (some p23))]) (st' := [vr (some p23)]) (pc' := 82) [(.aload_n 3, vi 0, 82)] (by decide +kernel) rfl rfl ?_
            refine sm_gN (k := 9) (x := vr (sR σ 137 p23)) cd8 rfl h25 rfl q756 rfl (by decide +kernel) ?_
            refine sm_case (V g mX0_field d 101 [(0, vr (some a0)), (1, vi a1), (2, vi a2), (3, vr (some p23))] [] σ τ Q) (V g mX0_field d 88 [(0, vr (some a0)), (1, vi a1), (2, vi a2), (3, vr (some p23))] [] σ τ Q) ?_ ?_ (fun f56 p57 n58 => ?_)
            · refine sm_b (l' := [(0, vr (some a0)), (1, vi a1), (2, vi a2), (3, vr (some p23))]) (st' := [vr (some p23)]) (pc' := 102) [(.aload_n 3, vi 0, 102)] (by decide +kernel) rfl rfl ?_
              refine sm_gN (k := 10) (x := vr (sR σ 138 p23)) cd8 rfl h25 rfl q760 rfl (by decide +kernel) ?_
              refine sm_case (V g mX0_field d 121 [(0, vr (some a0)), (1, vi a1), (2, vi a2), (3, vr (some p23))] [] σ τ Q) (V g mX0_field d 108 [(0, vr (some a0)), (1, vi a1), (2, vi a2), (3, vr (some p23))] [] σ τ Q) ?_ ?_ (fun f49 p50 n51 => ?_)
              · refine sm_b (l' := [(0, vr (some a0)), (1, vi a1), (2, vi a2), (3, vr (some p23))]) (st' := [vr (some p23)]) (pc' := 122) [(.aload_n 3, vi 0, 122)] (by decide +kernel) rfl rfl ?_
                refine sm_gN (k := 4) (x := vi (sI σ 132 p23)) cd8 rfl h25 rfl q735 rfl (by decide +kernel) ?_
                exact sm_iret rfl (by decide +kernel) (fun h => hRET _ h)
              · refine sm_b (l' := [(0, vr (some a0)), (1, vi a1), (2, vi a2), (3, vr (some p23))]) (st' := [vr (some p23), vi 32]) (pc' := 111) [(.bipush 32, vi 32, 110), (.aload_n 3, vi 0, 111)] (by decide +kernel) rfl rfl ?_
                refine sm_gN (k := 10) (x := vr (sR σ 138 p23)) cd8 rfl h25 rfl q760 rfl (by decide +kernel) ?_
                refine sm_de (fun p46 h47 => ?_)
                refine sm_st [vr (some p46), vi 32] (by rw [h47] <;> rfl) ?_
                refine sm_gd (fun h48 => ?_)
                refine sm_gN (k := 0) (x := vi (sI σ 112 p46)) cd7 rfl h48 rfl q666 rfl (by decide +kernel) ?_
                refine sm_b (l' := [(0, vr (some a0)), (1, vi a1), (2, vi a2), (3, vr (some p23))]) (st' := [vi (32 + (sI σ 112 p46))]) (pc' := 125) [(.iadd, vi 0, 118), (.goto 7, vi 0, 125)] (by decide +kernel) rfl rfl ?_
                exact sm_iret rfl (by decide +kernel) (fun h => hRET _ h)
              refine sm_ifnull (off := 16) (tgt := 121) (by decide +kernel) (fun c52 => ?_) (fun c52 => ?_)
              · exact p50 c52
              · exact n51 c52
            · refine sm_b (l' := [(0, vr (some a0)), (1, vi a1), (2, vi a2), (3, vr (some p23))]) (st' := [vr (some p23), vi 16]) (pc' := 91) [(.bipush 16, vi 16, 90), (.aload_n 3, vi 0, 91)] (by decide +kernel) rfl rfl ?_
              refine sm_gN (k := 9) (x := vr (sR σ 137 p23)) cd8 rfl h25 rfl q756 rfl (by decide +kernel) ?_
              refine sm_de (fun p53 h54 => ?_)
              refine sm_st [vr (some p53), vi 16] (by rw [h54] <;> rfl) ?_
              refine sm_gd (fun h55 => ?_)
              refine sm_gN (k := 0) (x := vi (sI σ 96 p53)) cd6 rfl h55 rfl q553 rfl (by decide +kernel) ?_
              refine sm_b (l' := [(0, vr (some a0)), (1, vi a1), (2, vi a2), (3, vr (some p23))]) (st' := [vi (16 + (sI σ 96 p53))]) (pc' := 125) [(.iadd, vi 0, 98), (.goto 27, vi 0, 125)] (by decide +kernel) rfl rfl ?_
              exact sm_iret rfl (by decide +kernel) (fun h => hRET _ h)
            refine sm_ifnull (off := 16) (tgt := 101) (by decide +kernel) (fun c59 => ?_) (fun c59 => ?_)
            · exact p57 c59
            · exact n58 c59
          exact sm_tcase (df := 139) (lo := 0) (hi := 6) (os := #[42, 50, 55, 100, 113, 126, 131]) (n := 42) (k := 2) (off := 55) (tgt := 81) (by decide +kernel) c34 f35
        · refine sm_if (fun c60 => ?_) (fun c60 => ?_)
          · refine sm_dflt (V g mX0_field d 126 [(0, vr (some a0)), (1, vi a1), (2, vi a2), (3, vr (some p23))] [] σ τ Q) ?_ (fun f61 => ?_)
            · refine sm_b (l' := [(0, vr (some a0)), (1, vi a1), (2, vi a2), (3, vr (some p23))]) (st' := [vr (some p23)]) (pc' := 127) [(.aload_n 3, vi 0, 127)] (by decide +kernel) rfl rfl ?_
              refine sm_gN (k := 7) (x := vi (sI σ 135 p23)) cd8 rfl h25 rfl q747 rfl (by decide +kernel) ?_
              refine sm_gd (fun h62 => ?_)
              refine sm_case (V g mX0_field d 137 [(0, vr (some a0)), (1, vi a1), (2, vi a2), (3, vr (some p23))] [] σ τ Q) (V g mX0_field d 133 [(0, vr (some a0)), (1, vi a1), (2, vi a2), (3, vr (some p23))] [] σ τ Q) ?_ ?_ (fun f65 p66 n67 => ?_)
              · refine sm_b (l' := [(0, vr (some a0)), (1, vi a1), (2, vi a2), (3, vr (some p23))]) (st' := [vi 0]) (pc' := 138) [(.iconst 0, vi 0, 138)] (by decide +kernel) rfl rfl ?_
                exact sm_iret rfl (by decide +kernel) (fun h => hRET _ h)
              · refine sm_b (l' := [(0, vr (some a0)), (1, vi a1), (2, vi a2), (3, vr (some p23))]) (st' := [vi 1]) (pc' := 138) [(.iconst 1, vi 1, 134), (.goto 4, vi 0, 138)] (by decide +kernel) rfl rfl ?_
                exact sm_iret rfl (by decide +kernel) (fun h => hRET _ h)
              refine sm_if_eq (off := 7) (tgt := 137) h62 (by decide +kernel) (fun c68 => ?_) (fun c68 => ?_)
              · exact p66 c68
              · exact n67 c68
            exact sm_tcase (df := 139) (lo := 0) (hi := 6) (os := #[42, 50, 55, 100, 113, 126, 131]) (n := 42) (k := 3) (off := 100) (tgt := 126) (by decide +kernel) c60 f61
          · refine sm_if (fun c69 => ?_) (fun c69 => ?_)
            · refine sm_dflt (V g mX0_field d 139 [(0, vr (some a0)), (1, vi a1), (2, vi a2), (3, vr (some p23))] [] σ τ Q) ?_ (fun f70 => ?_)
              · refine sm_b (l' := [(0, vr (some a0)), (1, vi a1), (2, vi a2), (3, vr (some p23))]) (st' := [vr (some p23)]) (pc' := 140) [(.aload_n 3, vi 0, 140)] (by decide +kernel) rfl rfl ?_
                refine sm_gN (k := 8) (x := vi (sI σ 136 p23)) cd8 rfl h25 rfl q751 rfl (by decide +kernel) ?_
                refine sm_gd (fun h71 => ?_)
                refine sm_case (V g mX0_field d 150 [(0, vr (some a0)), (1, vi a1), (2, vi a2), (3, vr (some p23))] [] σ τ Q) (V g mX0_field d 146 [(0, vr (some a0)), (1, vi a1), (2, vi a2), (3, vr (some p23))] [] σ τ Q) ?_ ?_ (fun f74 p75 n76 => ?_)
                · refine sm_b (l' := [(0, vr (some a0)), (1, vi a1), (2, vi a2), (3, vr (some p23))]) (st' := [vi 0]) (pc' := 151) [(.iconst 0, vi 0, 151)] (by decide +kernel) rfl rfl ?_
                  exact sm_iret rfl (by decide +kernel) (fun h => hRET _ h)
                · refine sm_b (l' := [(0, vr (some a0)), (1, vi a1), (2, vi a2), (3, vr (some p23))]) (st' := [vi 1]) (pc' := 151) [(.iconst 1, vi 1, 147), (.goto 4, vi 0, 151)] (by decide +kernel) rfl rfl ?_
                  exact sm_iret rfl (by decide +kernel) (fun h => hRET _ h)
                refine sm_if_eq (off := 7) (tgt := 150) h71 (by decide +kernel) (fun c77 => ?_) (fun c77 => ?_)
                · exact p75 c77
                · exact n76 c77
              exact sm_tcase (df := 139) (lo := 0) (hi := 6) (os := #[42, 50, 55, 100, 113, 126, 131]) (n := 42) (k := 4) (off := 113) (tgt := 139) (by decide +kernel) c69 f70
            · refine sm_if (fun c78 => ?_) (fun c78 => ?_)
              · refine sm_dflt (V g mX0_field d 152 [(0, vr (some a0)), (1, vi a1), (2, vi a2), (3, vr (some p23))] [] σ τ Q) ?_ (fun f79 => ?_)
                · refine sm_b (l' := [(0, vr (some a0)), (1, vi a1), (2, vi a2), (3, vr (some p23))]) (st' := [vr (some p23)]) (pc' := 153) [(.aload_n 3, vi 0, 153)] (by decide +kernel) rfl rfl ?_
                  refine sm_gN (k := 5) (x := vi (sI σ 133 p23)) cd8 rfl h25 rfl q739 rfl (by decide +kernel) ?_
                  exact sm_iret rfl (by decide +kernel) (fun h => hRET _ h)
                exact sm_tcase (df := 139) (lo := 0) (hi := 6) (os := #[42, 50, 55, 100, 113, 126, 131]) (n := 42) (k := 5) (off := 126) (tgt := 152) (by decide +kernel) c78 f79
              · refine sm_if (fun c80 => ?_) (fun c80 => ?_)
                · refine sm_dflt (V g mX0_field d 157 [(0, vr (some a0)), (1, vi a1), (2, vi a2), (3, vr (some p23))] [] σ τ Q) ?_ (fun f81 => ?_)
                  · refine sm_b (l' := [(0, vr (some a0)), (1, vi a1), (2, vi a2), (3, vr (some p23))]) (st' := [vr (some p23)]) (pc' := 158) [(.aload_n 3, vi 0, 158)] (by decide +kernel) rfl rfl ?_
                    refine sm_gN (k := 2) (x := vr (sR σ 130 p23)) cd8 rfl h25 rfl q724 rfl (by decide +kernel) ?_
                    refine sm_de (fun p82 h83 => ?_)
                    refine sm_st [vr (some p82)] (by rw [h83] <;> rfl) ?_
                    refine sm_gd (fun h84 => ?_)
                    refine sm_rszN h84 q284 (by decide +kernel) ?_
                    refine sm_rowf h84 (fun b85 b86 => ?_)
                    exact sm_iret rfl (by decide +kernel) (fun h => hRET _ h)
                  exact sm_tcase (df := 139) (lo := 0) (hi := 6) (os := #[42, 50, 55, 100, 113, 126, 131]) (n := 42) (k := 6) (off := 131) (tgt := 157) (by decide +kernel) c80 f81
                · refine sm_dflt (V g mX0_field d 165 [(0, vr (some a0)), (1, vi a1), (2, vi a2), (3, vr (some p23))] [] σ τ Q) ?_ (fun f87 => ?_)
                  · refine sm_b (l' := [(0, vr (some a0)), (1, vi a1), (2, vi a2), (3, vr (some p23))]) (st' := [vi ((-1))]) (pc' := 166) [(.iconst (-1), vi (-1), 166)] (by decide +kernel) rfl rfl ?_
                    exact sm_iret rfl (by decide +kernel) (fun h => hRET _ h)
                  exact sm_tdef (df := 139) (lo := 0) (hi := 6) (os := #[42, 50, 55, 100, 113, 126, 131]) (n := 42) (tgt := 165) h26 (by decide +kernel) (by omega) f87
  refine sm_if_ne (off := 5) (tgt := 10) h3 (by decide +kernel) (fun c91 => ?_) (fun c91 => ?_)
  · exact n90 c91
  · exact p89 c91
def ws_letter (a0 : Nat) (a1 : Int) (a2 : Int) (σ : ST) : Option (Int) := gd (sc σ a0 = 1) (Option.bind (ws_isField a0 a1 σ) fun y2 => gd (rg y2) (if y2 = 0 then (some (((-1)))) else (Option.bind (sR σ 4 a0) fun p20 => gd (sc σ p20 = 2) (Option.bind (sR σ 19 p20) fun p23 => gd (sc σ p23 = 16) (Option.bind (l_get p23 a1 σ) fun y26 => Option.bind y26 fun p27 => gd (sc σ p27 = 9) (Option.bind (sR σ 130 p27) fun p30 => gd (sc σ p30 = 4) (Option.bind (row_at p30 a2 σ) fun y33 => some y33)))))))
set_option maxHeartbeats 4000000 in
theorem ws_letter_ok {g : GE} (G : GG g) {τ : TT} (d : Nat) (hd1 : 4 ≤ d) (a0 : Nat) (a1 : Int) (a2 : Int)  (σ : ST) (Q : VQ) : Sm (V g mX0_letter d 0 [(0, vr (some a0)), (1, vi a1), (2, vi a2)] [] σ τ Q) (ws_letter a0 a1 a2 σ) (fun r => Q.1 (some (vi r)) σ τ) := by
  unfold ws_letter
  refine sm_top (fun K hRET => ?_)
  refine sm_b (l' := [(0, vr (some a0)), (1, vi a1), (2, vi a2)]) (st' := [vi a1, vr (some a0)]) (pc' := 2) [(.aload_n 0, vi 0, 1), (.iload_n 1, vi 0, 2)] (by decide +kernel) rfl rfl ?_
  refine sm_gd (fun h1 => ?_)
  refine sm_cv (N := mX0_isField) (d' := d - 1) (fun r => (some (vi r))) (fun _ => σ) (fun _ => τ) [vi a1] [] rfl (by decide +kernel) q915 q917 qs21 (Or.inl ⟨rfl, q918⟩) (show okN yX0_isField 1 = true by decide +kernel) (fun H hR => hR.rv G.1 cd0 rfl h1) rfl rfl (by omega) rfl (fun Q' => ws_isField_ok G (d - 1) (by omega) a0 a1 σ Q') (fun y2 => ?_)
  refine sm_gd (fun h3 => ?_)
  refine sm_case (V g mX0_letter d 32 [(0, vr (some a0)), (1, vi a1), (2, vi a2)] [] σ τ Q) (V g mX0_letter d 8 [(0, vr (some a0)), (1, vi a1), (2, vi a2)] [] σ τ Q) ?_ ?_ (fun f34 p35 n36 => ?_)
  · refine sm_b (l' := [(0, vr (some a0)), (1, vi a1), (2, vi a2)]) (st' := [vi ((-1))]) (pc' := 33) [(.iconst (-1), vi (-1), 33)] (by decide +kernel) rfl rfl ?_
    exact sm_iret rfl (by decide +kernel) (fun h => hRET _ h)
  · refine sm_b (l' := [(0, vr (some a0)), (1, vi a1), (2, vi a2)]) (st' := [vr (some a0)]) (pc' := 9) [(.aload_n 0, vi 0, 9)] (by decide +kernel) rfl rfl ?_
    refine sm_g (k := 4) (x := vr (sR σ 4 a0)) cd0 rfl h1 rfl q294 rfl (by decide +kernel) ?_
    refine sm_de (fun p20 h21 => ?_)
    refine sm_st [vr (some p20)] (by rw [h21] <;> rfl) ?_
    refine sm_gd (fun h22 => ?_)
    refine sm_gN (k := 3) (x := vr (sR σ 19 p20)) cd1 rfl h22 rfl q245 rfl (by decide +kernel) ?_
    refine sm_b (l' := [(0, vr (some a0)), (1, vi a1), (2, vi a2)]) (st' := [vi a1, vr (sR σ 19 p20)]) (pc' := 16) [(.iload_n 1, vi 0, 16)] (by decide +kernel) rfl rfl ?_
    refine sm_de (fun p23 h24 => ?_)
    refine sm_st [vi a1, vr (some p23)] (by rw [h24] <;> rfl) ?_
    refine sm_gd (fun h25 => ?_)
    refine sm_cv (N := mJ2_get) (d' := d - 1) (fun r => (some (vr r))) (fun _ => σ) (fun _ => τ) [vi a1] [] rfl (by decide +kernel) q919 q791 q792 (Or.inl ⟨rfl, q793⟩) (show okN yJ2_get 1 = true by decide +kernel) (fun H hR => hR.rvL G.1 h25) rfl rfl (by omega) rfl (fun Q' => l_get_ok G (d - 1) (by omega) p23 a1 σ Q') (fun y26 => ?_)
    refine sm_de (fun p27 h28 => ?_)
    refine sm_st [vr (some p27)] (by rw [h28] <;> rfl) ?_
    refine sm_gd (fun h29 => ?_)
    refine sm_cast cd8 q920 (fun H hR => hR.rv G.1 cd8 rfl h29) (by decide +kernel) ?_
    refine sm_gN (k := 2) (x := vr (sR σ 130 p27)) cd8 rfl h29 rfl q724 rfl (by decide +kernel) ?_
    refine sm_b (l' := [(0, vr (some a0)), (1, vi a1), (2, vi a2)]) (st' := [vi a2, vr (sR σ 130 p27)]) (pc' := 26) [(.iload_n 2, vi 0, 26)] (by decide +kernel) rfl rfl ?_
    refine sm_de (fun p30 h31 => ?_)
    refine sm_st [vi a2, vr (some p30)] (by rw [h31] <;> rfl) ?_
    refine sm_gd (fun h32 => ?_)
    refine sm_cv (N := mX3_at) (d' := d - 1) (fun r => (some (vi r))) (fun _ => σ) (fun _ => τ) [vi a2] [] rfl (by decide +kernel) q925 q710 q711 (Or.inl ⟨rfl, q712⟩) (show okN yX3_at 1 = true by decide +kernel) (fun H hR => hR.rvR G.1 h32) rfl rfl (by omega) rfl (fun Q' => row_at_ok G (d - 1) (by omega) p30 a2 σ Q') (fun y33 => ?_)
    refine sm_b (l' := [(0, vr (some a0)), (1, vi a1), (2, vi a2)]) (st' := [vi y33]) (pc' := 33) [(.goto 4, vi 0, 33)] (by decide +kernel) rfl rfl ?_
    exact sm_iret rfl (by decide +kernel) (fun h => hRET _ h)
  refine sm_if_eq (off := 27) (tgt := 32) h3 (by decide +kernel) (fun c37 => ?_) (fun c37 => ?_)
  · exact p35 c37
  · exact n36 c37
def ws_isMessage (a0 : Nat) (a1 : Int) (σ : ST) : Option (Int) := gd (rg a1) (gd (¬ (a1 < 0) → sc σ a0 = 1) (gd (¬ (a1 < 0) → ¬ (sR σ 4 a0) = none) (gd (¬ (a1 < 0) → sc σ (ad (sR σ 4 a0)) = 2) (gd (¬ (a1 < 0) → ¬ (sR σ 17 (ad (sR σ 4 a0))) = none) (gd (¬ (a1 < 0) → sc σ (ad (sR σ 17 (ad (sR σ 4 a0)))) = 16) (gd (¬ (a1 < 0) → ok (l_size (ad (sR σ 17 (ad (sR σ 4 a0)))) σ)) (gd (¬ (a1 < 0) → rg (vv (l_size (ad (sR σ 17 (ad (sR σ 4 a0)))) σ))) (if (a1 < 0) ∨ ((vv (l_size (ad (sR σ 17 (ad (sR σ 4 a0)))) σ)) ≤ a1) then (some 0) else (some 1)))))))))
set_option maxHeartbeats 4000000 in
theorem ws_isMessage_ok {g : GE} (G : GG g) {τ : TT} (d : Nat) (hd1 : 1 ≤ d) (a0 : Nat) (a1 : Int)  (σ : ST) (Q : VQ) : Sm (V g mX0_isMessage d 0 [(0, vr (some a0)), (1, vi a1)] [] σ τ Q) (ws_isMessage a0 a1 σ) (fun r => Q.1 (some (vi r)) σ τ) := by
  unfold ws_isMessage
  refine sm_top (fun K hRET => ?_)
  refine sm_b (l' := [(0, vr (some a0)), (1, vi a1)]) (st' := [vi a1]) (pc' := 1) [(.iload_n 1, vi 0, 1)] (by decide +kernel) rfl rfl ?_
  refine sm_gd (fun h1 => ?_)
  refine sm_gd (fun h3 => ?_)
  refine sm_gd (fun h4 => ?_)
  refine sm_gd (fun h6 => ?_)
  refine sm_gd (fun h7 => ?_)
  refine sm_gd (fun h9 => ?_)
  refine sm_gd (fun h10 => ?_)
  refine sm_gd (fun h11 => ?_)
  refine sm_case (V g mX0_isMessage d 22 [(0, vr (some a0)), (1, vi a1)] [] σ τ Q) (V g mX0_isMessage d 18 [(0, vr (some a0)), (1, vi a1)] [] σ τ Q) ?_ ?_ (fun f14 p15 n16 => ?_)
  · refine sm_b (l' := [(0, vr (some a0)), (1, vi a1)]) (st' := [vi 0]) (pc' := 23) [(.iconst 0, vi 0, 23)] (by decide +kernel) rfl rfl ?_
    exact sm_zret rfl (by decide +kernel) (by decide) (fun h => hRET _ h)
  · refine sm_b (l' := [(0, vr (some a0)), (1, vi a1)]) (st' := [vi 1]) (pc' := 23) [(.iconst 1, vi 1, 19), (.goto 4, vi 0, 23)] (by decide +kernel) rfl rfl ?_
    exact sm_zret rfl (by decide +kernel) (by decide) (fun h => hRET _ h)
  refine sm_if_lt (off := 21) (tgt := 22) h1 (by decide +kernel) (fun c17 => ?_) (fun c17 => ?_)
  · exact p15 (Or.inl c17)
  · have w2 : ¬ (a1 < 0) := c17
    refine sm_b (l' := [(0, vr (some a0)), (1, vi a1)]) (st' := [vr (some a0), vi a1]) (pc' := 6) [(.iload_n 1, vi 0, 5), (.aload_n 0, vi 0, 6)] (by decide +kernel) rfl rfl ?_
    refine sm_g (k := 4) (x := vr (sR σ 4 a0)) cd0 rfl (h3 w2) rfl q294 rfl (by decide +kernel) ?_
    have q5 := (ad_some (h4 w2))
    refine sm_st [vr (some (ad (sR σ 4 a0))), vi a1] (congrArg (fun z => [vr z, vi a1]) q5) ?_
    refine sm_gN (k := 1) (x := vr (sR σ 17 (ad (sR σ 4 a0)))) cd1 rfl (h6 w2) rfl q238 rfl (by decide +kernel) ?_
    have q8 := (ad_some (h7 w2))
    refine sm_st [vr (some (ad (sR σ 17 (ad (sR σ 4 a0))))), vi a1] (congrArg (fun z => [vr z, vi a1]) q8) ?_
    refine sm_cvp (N := mJ2_size) (d' := d - 1) (fun r => (some (vi r))) (some (vi (vv (l_size (ad (sR σ 17 (ad (sR σ 4 a0)))) σ)))) (h10 w2) (fun y h => by rw [vv_some h]) [] [vi a1] rfl (by decide +kernel) q910 q519 q520 (Or.inl ⟨rfl, q521⟩) (show okN yJ2_size 0 = true by decide +kernel) (fun H hR => hR.rvL G.1 (h9 w2)) rfl rfl (by omega) rfl (fun Q' => l_size_ok G (d - 1) (by omega) (ad (sR σ 17 (ad (sR σ 4 a0)))) σ Q') ?_
    refine sm_icmp_ge (off := 7) (tgt := 22) h1 (h11 w2) (by decide +kernel) (fun c18 => ?_) (fun c18 => ?_)
    · exact p15 (Or.inr c18)
    · exact n16 (fun q => q.elim c17 c18)
def vlu_init (bb : Nat × Nat) (a0 : Nat) (a1 : Option Nat) (σ : ST) : Option (ST) := gd (sc σ a0 = 11) (nm (pR σ 160 a0 a1) fun σ2 => some σ2)
set_option maxHeartbeats 4000000 in
theorem vlu_init_ok {g : GE} (G : GG g) {τ : TT} (d : Nat) (hd1 : 1 ≤ d) (a0 : Nat) (a1 : Option Nat)  (σ : ST) (Q : VQ) : Sm (V g mX10_init d 0 [(0, vr (some a0)), (1, vr a1)] [] σ τ Q) (vlu_init (gRm g) a0 a1 σ) (fun r => Q.1 none r τ) := by
  unfold vlu_init
  refine sm_top (fun K hRET => ?_)
  refine sm_b (l' := [(0, vr (some a0)), (1, vr a1)]) (st' := [vr (some a0)]) (pc' := 1) [(.aload_n 0, vi 0, 1)] (by decide +kernel) rfl rfl ?_
  refine sm_obj q944 (by omega) rfl (by decide +kernel) ?_
  refine sm_b (l' := [(0, vr (some a0)), (1, vr a1)]) (st' := [vr a1, vr (some a0)]) (pc' := 6) [(.aload_n 0, vi 0, 5), (.aload_n 1, vi 0, 6)] (by decide +kernel) rfl rfl ?_
  refine sm_gd (fun h1 => ?_)
  refine sm_pF (k := 0) (x := vr a1) cd10 rfl h1 rfl q945 rfl rfl rfl (nar_r _ rfl) (fit_r _ rfl) rfl (at_pR σ 160 a0 a1) (fp_160 σ a0 a1) (by decide +kernel) ?_
  refine sm_nms (fun σ2 => ?_)
  exact sm_vret rfl (by decide +kernel) (fun h => hRET _ h)
def wr_init (bb : Nat × Nat) (a0 : Nat) (a1 : Option Nat) (σ : ST) : Option (ST) := gd (sc σ a0 = 12) (nm (pR σ 176 a0 a1) fun σ2 => some σ2)
set_option maxHeartbeats 4000000 in
theorem wr_init_ok {g : GE} (G : GG g) {τ : TT} (d : Nat) (hd1 : 1 ≤ d) (a0 : Nat) (a1 : Option Nat)  (σ : ST) (Q : VQ) : Sm (V g mX11_init d 0 [(0, vr (some a0)), (1, vr a1)] [] σ τ Q) (wr_init (gRm g) a0 a1 σ) (fun r => Q.1 none r τ) := by
  unfold wr_init
  refine sm_top (fun K hRET => ?_)
  refine sm_b (l' := [(0, vr (some a0)), (1, vr a1)]) (st' := [vr (some a0)]) (pc' := 1) [(.aload_n 0, vi 0, 1)] (by decide +kernel) rfl rfl ?_
  refine sm_obj q969 (by omega) rfl (by decide +kernel) ?_
  refine sm_b (l' := [(0, vr (some a0)), (1, vr a1)]) (st' := [vr a1, vr (some a0)]) (pc' := 6) [(.aload_n 0, vi 0, 5), (.aload_n 1, vi 0, 6)] (by decide +kernel) rfl rfl ?_
  refine sm_gd (fun h1 => ?_)
  refine sm_pF (k := 0) (x := vr a1) cd11 rfl h1 rfl q970 rfl rfl rfl (nar_r _ rfl) (fit_r _ rfl) rfl (at_pR σ 176 a0 a1) (fp_176 σ a0 a1) (by decide +kernel) ?_
  refine sm_nms (fun σ2 => ?_)
  exact sm_vret rfl (by decide +kernel) (fun h => hRET _ h)
def wr_varint_L5 (bb : Nat × Nat) (u0 : Nat) (u1 : Int) : Nat → Int64 → Int → ST → Option (Option Int64 × ST)
  | 0, _, _, _ => none
  | n + 1, w2, w4, σ => gd (rg w4) (if 10 ≤ w4 then (some ((some w2, σ))) else (gd (sc σ u0 = 12) (Option.bind (gd (rg (sI σ 177 u0)) (gd (rg u1) (if u1 ≤ (sI σ 177 u0) then (some 0) else (some 1)))) fun (v12 : Int) => Option.bind (s_must bb v12 σ) (tB (fun z => (none, z)) fun y17 σ18 => gd (sc σ18 u0 = 12) (Option.bind (sR σ18 176 u0) fun p20 => gd (sc σ18 p20 = 101) (gd (ib (sI σ18 177 u0) (sN σ18 p20)) (nm (iAnd (sbI (sB σ18 p20 (sI σ18 177 u0).toNat)) 255) fun x24 => nm (pI σ18 177 u0 ((sI σ18 177 u0) + 1)) fun σ25 => Option.bind (gd (¬ (w4 < 9) → rg x24) (if (w4 < 9) ∨ (¬ (2 ≤ x24)) then (some 1) else (some 0))) fun (v30 : Int) => Option.bind (s_must bb v30 σ25) (tB (fun z => (none, z)) fun y35 σ36 => nm (w2 ||| (lShl (iL (iAnd x24 127)) (7 * w4))) fun x37 => gd (rg x24) (if 128 ≤ x24 then (wr_varint_L5 bb u0 u1 n x37 (w4 + 1) σ36) else (some ((some x37, σ36))))))))))))
def wr_varint (bb : Nat × Nat) (a0 : Nat) (a1 : Int) (σ : ST) : Option (Option Int64 × ST) := wr_varint_L5 bb a0 a1 FU 0 0 σ
set_option maxHeartbeats 4000000 in
theorem wr_varint_L5_ok {g : GE} (G : GG g) {τ : TT} {Q : VQ} (d : Nat) (hd1 : 7 ≤ d) (u0 : Nat) (u1 : Int)  {K : Option Int64 × ST → Prop} (hRET : ∀ r : Option Int64 × ST, K (r) → tQ Q τ (fun r : Int64 => some (vl r)) r) : ∀ (n : Nat) (w2 : Int64) (w4 : Int) (σ : ST), Sm (V g mX11_varint d 5 [(0, vr (some u0)), (1, vi u1), (2, vl w2), (4, vi w4)] [] σ τ Q) (wr_varint_L5 (gRm g) u0 u1 n w2 w4 σ) K := by
  intro n
  induction n with
  | zero => intro w2 w4 σ; exact sm_none
  | succ n ih =>
    intro w2 w4 σ
    rw [wr_varint_L5.eq_2]
    refine sm_b (l' := [(0, vr (some u0)), (1, vi u1), (2, vl w2), (4, vi w4)]) (st' := [vi 10, vi w4]) (pc' := 9) [(.iload 4, vi 0, 7), (.bipush 10, vi 10, 9)] (by decide +kernel) rfl rfl ?_
    refine sm_gd (fun h1 => ?_)
    refine sm_case (V g mX11_varint d 105 [(0, vr (some u0)), (1, vi u1), (2, vl w2), (4, vi w4)] [] σ τ Q) (V g mX11_varint d 12 [(0, vr (some u0)), (1, vi u1), (2, vl w2), (4, vi w4)] [] σ τ Q) ?_ ?_ (fun f54 p55 n56 => ?_)
    · refine sm_b (l' := [(0, vr (some u0)), (1, vi u1), (2, vl w2), (4, vi w4)]) (st' := [vl w2]) (pc' := 106) [(.lload_n 2, vi 0, 106)] (by decide +kernel) rfl rfl ?_
      exact sm_lret rfl (by decide +kernel) (fun h => hRET _ h)
    · refine sm_b (l' := [(0, vr (some u0)), (1, vi u1), (2, vl w2), (4, vi w4)]) (st' := [vr (some u0)]) (pc' := 13) [(.aload_n 0, vi 0, 13)] (by decide +kernel) rfl rfl ?_
      refine sm_gd (fun h7 => ?_)
      refine sm_g (k := 1) (x := vi (sI σ 177 u0)) cd11 rfl h7 rfl q971 rfl (by decide +kernel) ?_
      refine sm_b (l' := [(0, vr (some u0)), (1, vi u1), (2, vl w2), (4, vi w4)]) (st' := [vi u1, vi (sI σ 177 u0)]) (pc' := 17) [(.iload_n 1, vi 0, 17)] (by decide +kernel) rfl rfl ?_
      refine sm_bind1 (fun (v12 : Int) => V g mX11_varint d 25 [(0, vr (some u0)), (1, vi u1), (2, vl w2), (4, vi w4)] [vi v12] σ τ Q) (fun v12 => ?_) (fun K13 j14 => ?_)
      · refine sm_csTE (N := mX11_must) (d' := d - 1) (fun _ : Unit => none) (fun z => (none, z)) [vi v12] [] rfl (by decide +kernel) q984 q985 q158 (Or.inl ⟨rfl, q986⟩) (show okN yX11_must 1 = true by decide +kernel) rfl rfl (by omega) rfl (fun Q' => wr_must_ok G (d - 1) (by omega) v12 σ Q') (fun z h => hRET _ h) (fun y17 σ18 => ?_)
        refine sm_b (l' := [(0, vr (some u0)), (1, vi u1), (2, vl w2), (4, vi w4)]) (st' := [vr (some u0)]) (pc' := 29) [(.aload_n 0, vi 0, 29)] (by decide +kernel) rfl rfl ?_
        refine sm_gd (fun h19 => ?_)
        refine sm_g (k := 0) (x := vr (sR σ18 176 u0)) cd11 rfl h19 rfl q970 rfl (by decide +kernel) ?_
        refine sm_b (l' := [(0, vr (some u0)), (1, vi u1), (2, vl w2), (4, vi w4)]) (st' := [vr (some u0), vr (sR σ18 176 u0)]) (pc' := 33) [(.aload_n 0, vi 0, 33)] (by decide +kernel) rfl rfl ?_
        refine sm_g (k := 1) (x := vi (sI σ18 177 u0)) cd11 rfl h19 rfl q971 rfl (by decide +kernel) ?_
        refine sm_de (fun p20 h21 => ?_)
        refine sm_st [vi (sI σ18 177 u0), vr (some p20)] (by rw [h21] <;> rfl) ?_
        refine sm_gd (fun h22 => ?_)
        refine sm_gd (fun h23 => ?_)
        refine sm_bl h22 h23 (by decide +kernel) ?_
        refine sm_b (l' := [(0, vr (some u0)), (1, vi u1), (2, vl w2), (4, vi w4)]) (st' := [vi (iAnd (sbI (sB σ18 p20 (sI σ18 177 u0).toNat)) 255)]) (pc' := 41) [(.sipush 255, vi 255, 40), (.iand, vi 0, 41)] (by decide +kernel) rfl rfl ?_
        refine sm_nmi (fun x24 => ?_)
        refine sm_b (l' := [(0, vr (some u0)), (1, vi u1), (2, vl w2), (4, vi w4), (5, vi x24)]) (st' := [vr (some u0), vr (some u0)]) (pc' := 45) [(.istore 5, vi 0, 43), (.aload_n 0, vi 0, 44), (.dup, vi 0, 45)] (by decide +kernel) rfl rfl ?_
        refine sm_g (k := 1) (x := vi (sI σ18 177 u0)) cd11 rfl h19 rfl q971 rfl (by decide +kernel) ?_
        refine sm_b (l' := [(0, vr (some u0)), (1, vi u1), (2, vl w2), (4, vi w4), (5, vi x24)]) (st' := [vi ((sI σ18 177 u0) + 1), vr (some u0)]) (pc' := 50) [(.iconst 1, vi 1, 49), (.iadd, vi 0, 50)] (by decide +kernel) rfl rfl ?_
        refine sm_p (k := 1) (x := vi ((sI σ18 177 u0) + 1)) cd11 rfl h19 rfl q971 rfl (nar_i _) (fit_i _) rfl (at_pI σ18 177 u0 ((sI σ18 177 u0) + 1)) (fp_177 σ18 u0 ((sI σ18 177 u0) + 1)) (by decide +kernel) ?_
        refine sm_nms (fun σ25 => ?_)
        refine sm_b (l' := [(0, vr (some u0)), (1, vi u1), (2, vl w2), (4, vi w4), (5, vi x24)]) (st' := [vi 9, vi w4]) (pc' := 57) [(.iload 4, vi 0, 55), (.bipush 9, vi 9, 57)] (by decide +kernel) rfl rfl ?_
        refine sm_bind1 (fun (v30 : Int) => V g mX11_varint d 71 [(0, vr (some u0)), (1, vi u1), (2, vl w2), (4, vi w4), (5, vi x24)] [vi v30] σ25 τ Q) (fun v30 => ?_) (fun K31 j32 => ?_)
        · refine sm_csTE (N := mX11_must) (d' := d - 1) (fun _ : Unit => none) (fun z => (none, z)) [vi v30] [] rfl (by decide +kernel) q984 q985 q158 (Or.inl ⟨rfl, q986⟩) (show okN yX11_must 1 = true by decide +kernel) rfl rfl (by omega) rfl (fun Q' => wr_must_ok G (d - 1) (by omega) v30 σ25 Q') (fun z h => hRET _ h) (fun y35 σ36 => ?_)
          refine sm_b (l' := [(0, vr (some u0)), (1, vi u1), (2, vl w2), (4, vi w4), (5, vi x24)]) (st' := [vl (w2 ||| (lShl (iL (iAnd x24 127)) (7 * w4)))]) (pc' := 88) [(.lload_n 2, vi 0, 75), (.iload 5, vi 0, 77), (.bipush 127, vi 127, 79), (.iand, vi 0, 80), (.i2l, vi 0, 81), (.bipush 7, vi 7, 83), (.iload 4, vi 0, 85), (.imul, vi 0, 86), (.lshl, vi 0, 87), (.lor, vi 0, 88)] (by decide +kernel) rfl rfl ?_
          refine sm_nml (fun x37 => ?_)
          refine sm_b (l' := [(0, vr (some u0)), (1, vi u1), (2, vl x37), (4, vi w4), (5, vi x24)]) (st' := [vi 128, vi x24]) (pc' := 94) [(.lstore_n 2, vi 0, 89), (.iload 5, vi 0, 91), (.sipush 128, vi 128, 94)] (by decide +kernel) rfl rfl ?_
          refine sm_gd (fun h38 => ?_)
          refine sm_case (V g mX11_varint d 99 [(0, vr (some u0)), (1, vi u1), (2, vl x37), (4, vi w4), (5, vi x24)] [] σ36 τ Q) (V g mX11_varint d 97 [(0, vr (some u0)), (1, vi u1), (2, vl x37), (4, vi w4), (5, vi x24)] [] σ36 τ Q) ?_ ?_ (fun f41 p42 n43 => ?_)
          · refine sm_b (l' := [(0, vr (some u0)), (1, vi u1), (2, vl x37), (4, vi (w4 + 1)), (5, vi x24)]) (st' := []) (pc' := 5) [(.iinc 4 1, vi 1, 102), (.goto (-97), vi 0, 5)] (by decide +kernel) rfl rfl ?_
            refine sm_pick [0, 1, 2, 3] (l' := [(0, vr (some u0)), (1, vi u1), (2, vl x37), (4, vi (w4 + 1))]) rfl ?_
            exact ih x37 (w4 + 1) σ36
          · refine sm_b (l' := [(0, vr (some u0)), (1, vi u1), (2, vl x37), (4, vi w4), (5, vi x24)]) (st' := [vl x37]) (pc' := 98) [(.lload_n 2, vi 0, 98)] (by decide +kernel) rfl rfl ?_
            exact sm_lret rfl (by decide +kernel) (fun h => hRET _ h)
          refine sm_icmp_ge (off := 5) (tgt := 99) h38 (by decide) (by decide +kernel) (fun c44 => ?_) (fun c44 => ?_)
          · exact p42 c44
          · exact n43 c44
        · refine sm_gd (fun h27 => ?_)
          refine sm_case (V g mX11_varint d 66 [(0, vr (some u0)), (1, vi u1), (2, vl w2), (4, vi w4), (5, vi x24)] [] σ25 τ Q) (V g mX11_varint d 70 [(0, vr (some u0)), (1, vi u1), (2, vl w2), (4, vi w4), (5, vi x24)] [] σ25 τ Q) ?_ ?_ (fun f45 p46 n47 => ?_)
          · refine sm_b (l' := [(0, vr (some u0)), (1, vi u1), (2, vl w2), (4, vi w4), (5, vi x24)]) (st' := [vi 1]) (pc' := 71) [(.iconst 1, vi 1, 67), (.goto 4, vi 0, 71)] (by decide +kernel) rfl rfl ?_
            exact sm_leaf (fun h => j32 _ h)
          · refine sm_b (l' := [(0, vr (some u0)), (1, vi u1), (2, vl w2), (4, vi w4), (5, vi x24)]) (st' := [vi 0]) (pc' := 71) [(.iconst 0, vi 0, 71)] (by decide +kernel) rfl rfl ?_
            exact sm_leaf (fun h => j32 _ h)
          refine sm_icmp_lt (off := 9) (tgt := 66) h1 (by decide) (by decide +kernel) (fun c48 => ?_) (fun c48 => ?_)
          · exact p46 (Or.inl c48)
          · have w26 : ¬ (w4 < 9) := c48
            refine sm_b (l' := [(0, vr (some u0)), (1, vi u1), (2, vl w2), (4, vi w4), (5, vi x24)]) (st' := [vi 2, vi x24]) (pc' := 63) [(.iload 5, vi 0, 62), (.iconst 2, vi 2, 63)] (by decide +kernel) rfl rfl ?_
            refine sm_icmp_ge (off := 7) (tgt := 70) (h27 w26) (by decide) (by decide +kernel) (fun c49 => ?_) (fun c49 => ?_)
            · exact n47 (fun q => q.elim c48 (fun q => q c49))
            · exact p46 (Or.inr c49)
      · refine sm_gd (fun h8 => ?_)
        refine sm_gd (fun h9 => ?_)
        refine sm_case (V g mX11_varint d 24 [(0, vr (some u0)), (1, vi u1), (2, vl w2), (4, vi w4)] [] σ τ Q) (V g mX11_varint d 20 [(0, vr (some u0)), (1, vi u1), (2, vl w2), (4, vi w4)] [] σ τ Q) ?_ ?_ (fun f50 p51 n52 => ?_)
        · refine sm_b (l' := [(0, vr (some u0)), (1, vi u1), (2, vl w2), (4, vi w4)]) (st' := [vi 0]) (pc' := 25) [(.iconst 0, vi 0, 25)] (by decide +kernel) rfl rfl ?_
          exact sm_leaf (fun h => j14 _ h)
        · refine sm_b (l' := [(0, vr (some u0)), (1, vi u1), (2, vl w2), (4, vi w4)]) (st' := [vi 1]) (pc' := 25) [(.iconst 1, vi 1, 21), (.goto 4, vi 0, 25)] (by decide +kernel) rfl rfl ?_
          exact sm_leaf (fun h => j14 _ h)
        refine sm_icmp_ge (off := 7) (tgt := 24) h8 h9 (by decide +kernel) (fun c53 => ?_) (fun c53 => ?_)
        · exact p51 c53
        · exact n52 c53
    refine sm_icmp_ge (off := 96) (tgt := 105) h1 (by decide) (by decide +kernel) (fun c57 => ?_) (fun c57 => ?_)
    · exact p55 c57
    · exact n56 c57
set_option maxHeartbeats 4000000 in
theorem wr_varint_ok {g : GE} (G : GG g) {τ : TT} (d : Nat) (hd1 : 7 ≤ d) (a0 : Nat) (a1 : Int)  (σ : ST) (Q : VQ) : Sm (V g mX11_varint d 0 [(0, vr (some a0)), (1, vi a1)] [] σ τ Q) (wr_varint (gRm g) a0 a1 σ) (fun r => tQ Q τ (fun r : Int64 => some (vl r)) r) := by
  unfold wr_varint
  refine sm_top (fun K hRET => ?_)
  refine sm_b (l' := [(0, vr (some a0)), (1, vi a1), (2, vl 0), (4, vi 0)]) (st' := []) (pc' := 5) [(.lconst 0, vl 0, 1), (.lstore_n 2, vi 0, 2), (.iconst 0, vi 0, 3), (.istore 4, vi 0, 5)] (by decide +kernel) rfl rfl ?_
  exact wr_varint_L5_ok G d hd1 a0 a1  (fun r h => hRET _ h) FU 0 0 σ
def mt_byNumber_L12 (u1 : Int64) (u3 : Option Nat) (u4 : Int) (σ : ST) : Nat → Int → Option (Option Nat)
  | 0, _ => none
  | n + 1, w5 => gd (rg w5) (gd (rg u4) (if u4 ≤ w5 then (some none) else (Option.bind u3 fun p15 => gd (sc σ p15 = 103) (gd (ib w5 (sN σ p15)) (nm (sF σ p15 w5.toNat) fun x19 => Option.bind x19 fun p20 => gd (sc σ p20 = 9) (if (iL (sI σ 131 p20)) = u1 then (some x19) else (mt_byNumber_L12 u1 u3 u4 σ n (w5 + 1))))))))
def mt_byNumber (a0 : Nat) (a1 : Int64) (σ : ST) : Option (Option Nat) := gd (sc σ a0 = 7) (nm (sR σ 103 a0) fun x2 => Option.bind x2 fun p3 => gd (sc σ p3 = 103) (nm (((sN σ p3 : Nat) : Int)) fun x6 => mt_byNumber_L12 a1 x2 x6 σ FU 0))
set_option maxHeartbeats 4000000 in
theorem mt_byNumber_L12_ok {g : GE} (G : GG g) {τ : TT} {Q : VQ} (d : Nat) (hd1 : 0 ≤ d) (u1 : Int64) (u3 : Option Nat) (u4 : Int) (σ : ST)  {K : Option Nat → Prop} (hRET : ∀ r : Option Nat, K (r) → Q.1 (some (vr r)) σ τ) : ∀ (n : Nat) (w5 : Int), Sm (V g mX6_byNumber d 12 [(1, vl u1), (3, vr u3), (4, vi u4), (5, vi w5)] [] σ τ Q) (mt_byNumber_L12 u1 u3 u4 σ n w5) K := by
  intro n
  induction n with
  | zero => intro w5; exact sm_none
  | succ n ih =>
    intro w5
    rw [mt_byNumber_L12.eq_2]
    refine sm_b (l' := [(1, vl u1), (3, vr u3), (4, vi u4), (5, vi w5)]) (st' := [vi u4, vi w5]) (pc' := 16) [(.iload 5, vi 0, 14), (.iload 4, vi 0, 16)] (by decide +kernel) rfl rfl ?_
    refine sm_gd (fun h7 => ?_)
    refine sm_gd (fun h8 => ?_)
    refine sm_case (V g mX6_byNumber d 45 [(1, vl u1), (3, vr u3), (4, vi u4), (5, vi w5)] [] σ τ Q) (V g mX6_byNumber d 19 [(1, vl u1), (3, vr u3), (4, vi u4), (5, vi w5)] [] σ τ Q) ?_ ?_ (fun f29 p30 n31 => ?_)
    · refine sm_b (l' := [(1, vl u1), (3, vr u3), (4, vi u4), (5, vi w5)]) (st' := [vr none]) (pc' := 46) [(.aconst_null, vi 0, 46)] (by decide +kernel) rfl rfl ?_
      exact sm_aret rfl rfl (by decide +kernel) (fun h => hRET _ h)
    · refine sm_b (l' := [(1, vl u1), (3, vr u3), (4, vi u4), (5, vi w5)]) (st' := [vi w5, vr u3]) (pc' := 22) [(.aload_n 3, vi 0, 20), (.iload 5, vi 0, 22)] (by decide +kernel) rfl rfl ?_
      refine sm_de (fun p15 h16 => ?_)
      refine sm_st [vi w5, vr (some p15)] (by rw [h16] <;> rfl) ?_
      refine sm_gd (fun h17 => ?_)
      refine sm_gd (fun h18 => ?_)
      refine sm_fl h17 h18 (by decide +kernel) ?_
      refine sm_nmr (fun x19 => ?_)
      refine sm_b (l' := [(1, vl u1), (3, vr u3), (4, vi u4), (5, vi w5), (6, vr x19)]) (st' := [vr x19]) (pc' := 27) [(.astore 6, vi 0, 25), (.aload 6, vi 0, 27)] (by decide +kernel) rfl rfl ?_
      refine sm_de (fun p20 h21 => ?_)
      refine sm_st [vr (some p20)] (by rw [h21] <;> rfl) ?_
      refine sm_gd (fun h22 => ?_)
      refine sm_gN (k := 3) (x := vi (sI σ 131 p20)) cd8 rfl h22 rfl q725 rfl (by decide +kernel) ?_
      refine sm_b (l' := [(1, vl u1), (3, vr u3), (4, vi u4), (5, vi w5), (6, vr x19)]) (st' := [vl u1, vl (iL (sI σ 131 p20))]) (pc' := 32) [(.i2l, vi 0, 31), (.lload_n 1, vi 0, 32)] (by decide +kernel) rfl rfl ?_
      refine sm_case (V g mX6_byNumber d 36 [(1, vl u1), (3, vr u3), (4, vi u4), (5, vi w5), (6, vr x19)] [] σ τ Q) (V g mX6_byNumber d 39 [(1, vl u1), (3, vr u3), (4, vi u4), (5, vi w5), (6, vr x19)] [] σ τ Q) ?_ ?_ (fun f25 p26 n27 => ?_)
      · refine sm_b (l' := [(1, vl u1), (3, vr u3), (4, vi u4), (5, vi w5), (6, vr x19)]) (st' := [vr x19]) (pc' := 38) [(.aload 6, vi 0, 38)] (by decide +kernel) rfl rfl ?_
        exact sm_aret rfl rfl (by decide +kernel) (fun h => hRET _ h)
      · refine sm_b (l' := [(1, vl u1), (3, vr u3), (4, vi u4), (5, vi (w5 + 1)), (6, vr x19)]) (st' := []) (pc' := 12) [(.iinc 5 1, vi 1, 42), (.goto (-30), vi 0, 12)] (by decide +kernel) rfl rfl ?_
        refine sm_pick [0, 1, 2, 3] (l' := [(1, vl u1), (3, vr u3), (4, vi u4), (5, vi (w5 + 1))]) rfl ?_
        exact ih (w5 + 1)
      refine sm_lc_ne (off := 6) (tgt := 39) (by decide +kernel) (by decide +kernel) (fun c28 => ?_) (fun c28 => ?_)
      · exact n27 c28
      · exact p26 c28
    refine sm_icmp_ge (off := 29) (tgt := 45) h7 h8 (by decide +kernel) (fun c32 => ?_) (fun c32 => ?_)
    · exact p30 c32
    · exact n31 c32
set_option maxHeartbeats 4000000 in
theorem mt_byNumber_ok {g : GE} (G : GG g) {τ : TT} (d : Nat) (hd1 : 0 ≤ d) (a0 : Nat) (a1 : Int64)  (σ : ST) (Q : VQ) : Sm (V g mX6_byNumber d 0 [(0, vr (some a0)), (1, vl a1)] [] σ τ Q) (mt_byNumber a0 a1 σ) (fun r => Q.1 (some (vr r)) σ τ) := by
  unfold mt_byNumber
  refine sm_top (fun K hRET => ?_)
  refine sm_b (l' := [(0, vr (some a0)), (1, vl a1)]) (st' := [vr (some a0)]) (pc' := 1) [(.aload_n 0, vi 0, 1)] (by decide +kernel) rfl rfl ?_
  refine sm_gd (fun h1 => ?_)
  refine sm_g (k := 7) (x := vr (sR σ 103 a0)) cd6 rfl h1 rfl q571 rfl (by decide +kernel) ?_
  refine sm_nmr (fun x2 => ?_)
  refine sm_b (l' := [(0, vr (some a0)), (1, vl a1), (3, vr x2)]) (st' := [vr x2]) (pc' := 6) [(.astore_n 3, vi 0, 5), (.aload_n 3, vi 0, 6)] (by decide +kernel) rfl rfl ?_
  refine sm_de (fun p3 h4 => ?_)
  refine sm_st [vr (some p3)] (by rw [h4] <;> rfl) ?_
  refine sm_gd (fun h5 => ?_)
  refine sm_alF h5 (by decide +kernel) ?_
  refine sm_nmi (fun x6 => ?_)
  refine sm_b (l' := [(0, vr (some a0)), (1, vl a1), (3, vr x2), (4, vi x6), (5, vi 0)]) (st' := []) (pc' := 12) [(.istore 4, vi 0, 9), (.iconst 0, vi 0, 10), (.istore 5, vi 0, 12)] (by decide +kernel) rfl rfl ?_
  refine sm_pick [1, 2, 3, 4] (l' := [(1, vl a1), (3, vr x2), (4, vi x6), (5, vi 0)]) rfl ?_
  exact mt_byNumber_L12_ok G d hd1 a1 x2 x6 σ  (fun r h => hRET _ h) FU 0
def fd_isPlain (a0 : Nat) (σ : ST) : Option (Int) := gd (sc σ a0 = 9) (gd (rg (sI σ 132 a0)) (if ((sI σ 132 a0) < 9) ∨ (¬ ((sI σ 132 a0) < 32)) then (some 1) else (some 0)))
set_option maxHeartbeats 4000000 in
theorem fd_isPlain_ok {g : GE} (G : GG g) {τ : TT} (d : Nat) (hd1 : 0 ≤ d) (a0 : Nat)  (σ : ST) (Q : VQ) : Sm (V g mX8_isPlain d 0 [(0, vr (some a0))] [] σ τ Q) (fd_isPlain a0 σ) (fun r => Q.1 (some (vi r)) σ τ) := by
  unfold fd_isPlain
  refine sm_top (fun K hRET => ?_)
  refine sm_b (l' := [(0, vr (some a0))]) (st' := [vr (some a0)]) (pc' := 1) [(.aload_n 0, vi 0, 1)] (by decide +kernel) rfl rfl ?_
  refine sm_gd (fun h1 => ?_)
  refine sm_g (k := 4) (x := vi (sI σ 132 a0)) cd8 rfl h1 rfl q730 rfl (by decide +kernel) ?_
  refine sm_b (l' := [(0, vr (some a0))]) (st' := [vi 9, vi (sI σ 132 a0)]) (pc' := 6) [(.bipush 9, vi 9, 6)] (by decide +kernel) rfl rfl ?_
  refine sm_gd (fun h2 => ?_)
  refine sm_case (V g mX8_isPlain d 18 [(0, vr (some a0))] [] σ τ Q) (V g mX8_isPlain d 22 [(0, vr (some a0))] [] σ τ Q) ?_ ?_ (fun f6 p7 n8 => ?_)
  · refine sm_b (l' := [(0, vr (some a0))]) (st' := [vi 1]) (pc' := 23) [(.iconst 1, vi 1, 19), (.goto 4, vi 0, 23)] (by decide +kernel) rfl rfl ?_
    exact sm_zret rfl (by decide +kernel) (by decide) (fun h => hRET _ h)
  · refine sm_b (l' := [(0, vr (some a0))]) (st' := [vi 0]) (pc' := 23) [(.iconst 0, vi 0, 23)] (by decide +kernel) rfl rfl ?_
    exact sm_zret rfl (by decide +kernel) (by decide) (fun h => hRET _ h)
  refine sm_icmp_lt (off := 12) (tgt := 18) h2 (by decide) (by decide +kernel) (fun c9 => ?_) (fun c9 => ?_)
  · exact p7 (Or.inl c9)
  · refine sm_b (l' := [(0, vr (some a0))]) (st' := [vr (some a0)]) (pc' := 10) [(.aload_n 0, vi 0, 10)] (by decide +kernel) rfl rfl ?_
    refine sm_g (k := 4) (x := vi (sI σ 132 a0)) cd8 rfl h1 rfl q730 rfl (by decide +kernel) ?_
    refine sm_b (l' := [(0, vr (some a0))]) (st' := [vi 32, vi (sI σ 132 a0)]) (pc' := 15) [(.bipush 32, vi 32, 15)] (by decide +kernel) rfl rfl ?_
    refine sm_icmp_lt (off := 7) (tgt := 22) h2 (by decide) (by decide +kernel) (fun c10 => ?_) (fun c10 => ?_)
    · exact n8 (fun q => q.elim c9 (fun q => q c10))
    · exact p7 (Or.inr c10)
def fd_wire (a0 : Nat) (σ : ST) : Option (Int) := gd (sc σ a0 = 9) (Option.bind (fd_isPlain a0 σ) fun y2 => gd (rg y2) (if y2 = 0 then (some 2) else (gd (rg (sI σ 132 a0)) (if (sI σ 132 a0) = 6 then (some 5) else (if (sI σ 132 a0) = 7 then (some 1) else (some 0))))))
set_option maxHeartbeats 4000000 in
theorem fd_wire_ok {g : GE} (G : GG g) {τ : TT} (d : Nat) (hd1 : 1 ≤ d) (a0 : Nat)  (σ : ST) (Q : VQ) : Sm (V g mX8_wire d 0 [(0, vr (some a0))] [] σ τ Q) (fd_wire a0 σ) (fun r => Q.1 (some (vi r)) σ τ) := by
  unfold fd_wire
  refine sm_top (fun K hRET => ?_)
  refine sm_b (l' := [(0, vr (some a0))]) (st' := [vr (some a0)]) (pc' := 1) [(.aload_n 0, vi 0, 1)] (by decide +kernel) rfl rfl ?_
  refine sm_gd (fun h1 => ?_)
  refine sm_cv (N := mX8_isPlain) (d' := d - 1) (fun r => (some (vi r))) (fun _ => σ) (fun _ => τ) [] [] rfl (by decide +kernel) q999 q1000 q1001 (Or.inl ⟨rfl, q1002⟩) (show okN yX8_isPlain 0 = true by decide +kernel) (fun H hR => hR.rv G.1 cd8 rfl h1) rfl rfl (by omega) rfl (fun Q' => fd_isPlain_ok G (d - 1) (by omega) a0 σ Q') (fun y2 => ?_)
  refine sm_gd (fun h3 => ?_)
  refine sm_case (V g mX8_wire d 7 [(0, vr (some a0))] [] σ τ Q) (V g mX8_wire d 11 [(0, vr (some a0))] [] σ τ Q) ?_ ?_ (fun f20 p21 n22 => ?_)
  · refine sm_b (l' := [(0, vr (some a0))]) (st' := [vi 2]) (pc' := 38) [(.iconst 2, vi 2, 8), (.goto 30, vi 0, 38)] (by decide +kernel) rfl rfl ?_
    exact sm_iret rfl (by decide +kernel) (fun h => hRET _ h)
  · refine sm_b (l' := [(0, vr (some a0))]) (st' := [vr (some a0)]) (pc' := 12) [(.aload_n 0, vi 0, 12)] (by decide +kernel) rfl rfl ?_
    refine sm_g (k := 4) (x := vi (sI σ 132 a0)) cd8 rfl h1 rfl q730 rfl (by decide +kernel) ?_
    refine sm_b (l' := [(0, vr (some a0))]) (st' := [vi 6, vi (sI σ 132 a0)]) (pc' := 17) [(.bipush 6, vi 6, 17)] (by decide +kernel) rfl rfl ?_
    refine sm_gd (fun h7 => ?_)
    refine sm_case (V g mX8_wire d 20 [(0, vr (some a0))] [] σ τ Q) (V g mX8_wire d 24 [(0, vr (some a0))] [] σ τ Q) ?_ ?_ (fun f16 p17 n18 => ?_)
    · refine sm_b (l' := [(0, vr (some a0))]) (st' := [vi 5]) (pc' := 38) [(.iconst 5, vi 5, 21), (.goto 17, vi 0, 38)] (by decide +kernel) rfl rfl ?_
      exact sm_iret rfl (by decide +kernel) (fun h => hRET _ h)
    · refine sm_b (l' := [(0, vr (some a0))]) (st' := [vr (some a0)]) (pc' := 25) [(.aload_n 0, vi 0, 25)] (by decide +kernel) rfl rfl ?_
      refine sm_g (k := 4) (x := vi (sI σ 132 a0)) cd8 rfl h1 rfl q730 rfl (by decide +kernel) ?_
      refine sm_b (l' := [(0, vr (some a0))]) (st' := [vi 7, vi (sI σ 132 a0)]) (pc' := 30) [(.bipush 7, vi 7, 30)] (by decide +kernel) rfl rfl ?_
      refine sm_case (V g mX8_wire d 33 [(0, vr (some a0))] [] σ τ Q) (V g mX8_wire d 37 [(0, vr (some a0))] [] σ τ Q) ?_ ?_ (fun f12 p13 n14 => ?_)
      · refine sm_b (l' := [(0, vr (some a0))]) (st' := [vi 1]) (pc' := 38) [(.iconst 1, vi 1, 34), (.goto 4, vi 0, 38)] (by decide +kernel) rfl rfl ?_
        exact sm_iret rfl (by decide +kernel) (fun h => hRET _ h)
      · refine sm_b (l' := [(0, vr (some a0))]) (st' := [vi 0]) (pc' := 38) [(.iconst 0, vi 0, 38)] (by decide +kernel) rfl rfl ?_
        exact sm_iret rfl (by decide +kernel) (fun h => hRET _ h)
      refine sm_icmp_ne (off := 7) (tgt := 37) h7 (by decide) (by decide +kernel) (fun c15 => ?_) (fun c15 => ?_)
      · exact n14 c15
      · exact p13 c15
    refine sm_icmp_ne (off := 7) (tgt := 24) h7 (by decide) (by decide +kernel) (fun c19 => ?_) (fun c19 => ?_)
    · exact n18 c19
    · exact p17 c19
  refine sm_if_ne (off := 7) (tgt := 11) h3 (by decide +kernel) (fun c23 => ?_) (fun c23 => ?_)
  · exact n22 c23
  · exact p21 c23
def sl_init (bb : Nat × Nat) (a0 : Nat) (a1 : Option Nat) (σ : ST) : Option (ST) := gd (sc σ a0 = 13) (nm (pR σ 192 a0 a1) fun σ2 => some σ2)
set_option maxHeartbeats 4000000 in
theorem sl_init_ok {g : GE} (G : GG g) {τ : TT} (d : Nat) (hd1 : 1 ≤ d) (a0 : Nat) (a1 : Option Nat)  (σ : ST) (Q : VQ) : Sm (V g mX12_init d 0 [(0, vr (some a0)), (1, vr a1)] [] σ τ Q) (sl_init (gRm g) a0 a1 σ) (fun r => Q.1 none r τ) := by
  unfold sl_init
  refine sm_top (fun K hRET => ?_)
  refine sm_b (l' := [(0, vr (some a0)), (1, vr a1)]) (st' := [vr (some a0)]) (pc' := 1) [(.aload_n 0, vi 0, 1)] (by decide +kernel) rfl rfl ?_
  refine sm_obj q1016 (by omega) rfl (by decide +kernel) ?_
  refine sm_b (l' := [(0, vr (some a0)), (1, vr a1)]) (st' := [vr a1, vr (some a0)]) (pc' := 6) [(.aload_n 0, vi 0, 5), (.aload_n 1, vi 0, 6)] (by decide +kernel) rfl rfl ?_
  refine sm_gd (fun h1 => ?_)
  refine sm_pF (k := 0) (x := vr a1) cd12 rfl h1 rfl q1017 rfl rfl rfl (nar_r _ rfl) (fit_r _ rfl) rfl (at_pR σ 192 a0 a1) (fp_192 σ a0 a1) (by decide +kernel) ?_
  refine sm_nms (fun σ2 => ?_)
  exact sm_vret rfl (by decide +kernel) (fun h => hRET _ h)
def wr_fixed_L25 (bb : Nat × Nat) (u0 : Nat) (u1 : Int) (σ : ST) : Nat → Int64 → Int → Option (Int64)
  | 0, _, _ => none
  | n + 1, w3, w5 => gd (rg w5) (if w5 < 0 then (some w3) else (gd (sc σ u0 = 12) (Option.bind (sR σ 176 u0) fun p29 => gd (sc σ p29 = 101) (gd (ib ((sI σ 177 u0) + w5) (sN σ p29)) (nm ((lShl w3 8) ||| (iL (iAnd (sbI (sB σ p29 ((sI σ 177 u0) + w5).toNat)) 255))) fun x33 => wr_fixed_L25 bb u0 u1 σ n x33 (w5 + (-1)))))))
def wr_fixed (bb : Nat × Nat) (a0 : Nat) (a1 : Int) (a2 : Int) (σ : ST) : Option (Option Int64 × ST) := gd (sc σ a0 = 12) (Option.bind (gd (rg ((sI σ 177 a0) + a1)) (gd (rg a2) (if a2 < ((sI σ 177 a0) + a1) then (some 0) else (some 1)))) fun (v6 : Int) => Option.bind (s_must bb v6 σ) (tB (fun z => (none, z)) fun y11 σ12 => nm (a1 - 1) fun x13 => Option.bind (wr_fixed_L25 bb a0 a1 σ12 FU 0 x13) fun (v14 : Int64) => gd (sc σ12 a0 = 12) (nm (pI σ12 177 a0 ((sI σ12 177 a0) + a1)) fun σ19 => some ((some v14, σ19)))))
set_option maxHeartbeats 4000000 in
theorem wr_fixed_L25_ok {g : GE} (G : GG g) {τ : TT} {Q : VQ} (d : Nat) (hd1 : 7 ≤ d) (u0 : Nat) (u1 : Int) (σ : ST)  {K : Int64 → Prop} (hE59 : ∀ v20 : Int64, K (v20) → V g mX11_fixed d 59 [(0, vr (some u0)), (1, vi u1), (3, vl v20)] [] σ τ Q) : ∀ (n : Nat) (w3 : Int64) (w5 : Int), Sm (V g mX11_fixed d 25 [(0, vr (some u0)), (1, vi u1), (3, vl w3), (5, vi w5)] [] σ τ Q) (wr_fixed_L25 (gRm g) u0 u1 σ n w3 w5) K := by
  intro n
  induction n with
  | zero => intro w3 w5; exact sm_none
  | succ n ih =>
    intro w3 w5
    rw [wr_fixed_L25.eq_2]
    refine sm_b (l' := [(0, vr (some u0)), (1, vi u1), (3, vl w3), (5, vi w5)]) (st' := [vi w5]) (pc' := 27) [(.iload 5, vi 0, 27)] (by decide +kernel) rfl rfl ?_
    refine sm_gd (fun h21 => ?_)
    refine sm_case (V g mX11_fixed d 59 [(0, vr (some u0)), (1, vi u1), (3, vl w3), (5, vi w5)] [] σ τ Q) (V g mX11_fixed d 30 [(0, vr (some u0)), (1, vi u1), (3, vl w3), (5, vi w5)] [] σ τ Q) ?_ ?_ (fun f34 p35 n36 => ?_)
    · refine sm_pick [0, 1, 2] (l' := [(0, vr (some u0)), (1, vi u1), (3, vl w3)]) rfl ?_
      exact sm_leaf (fun h => hE59 _ h)
    · refine sm_b (l' := [(0, vr (some u0)), (1, vi u1), (3, vl w3), (5, vi w5)]) (st' := [vr (some u0), vl (lShl w3 8)]) (pc' := 35) [(.lload_n 3, vi 0, 31), (.bipush 8, vi 8, 33), (.lshl, vi 0, 34), (.aload_n 0, vi 0, 35)] (by decide +kernel) rfl rfl ?_
      refine sm_gd (fun h28 => ?_)
      refine sm_g (k := 0) (x := vr (sR σ 176 u0)) cd11 rfl h28 rfl q970 rfl (by decide +kernel) ?_
      refine sm_b (l' := [(0, vr (some u0)), (1, vi u1), (3, vl w3), (5, vi w5)]) (st' := [vr (some u0), vr (sR σ 176 u0), vl (lShl w3 8)]) (pc' := 39) [(.aload_n 0, vi 0, 39)] (by decide +kernel) rfl rfl ?_
      refine sm_g (k := 1) (x := vi (sI σ 177 u0)) cd11 rfl h28 rfl q971 rfl (by decide +kernel) ?_
      refine sm_b (l' := [(0, vr (some u0)), (1, vi u1), (3, vl w3), (5, vi w5)]) (st' := [vi ((sI σ 177 u0) + w5), vr (sR σ 176 u0), vl (lShl w3 8)]) (pc' := 45) [(.iload 5, vi 0, 44), (.iadd, vi 0, 45)] (by decide +kernel) rfl rfl ?_
      refine sm_de (fun p29 h30 => ?_)
      refine sm_st [vi ((sI σ 177 u0) + w5), vr (some p29), vl (lShl w3 8)] (by rw [h30] <;> rfl) ?_
      refine sm_gd (fun h31 => ?_)
      refine sm_gd (fun h32 => ?_)
      refine sm_bl h31 h32 (by decide +kernel) ?_
      refine sm_b (l' := [(0, vr (some u0)), (1, vi u1), (3, vl w3), (5, vi w5)]) (st' := [vl ((lShl w3 8) ||| (iL (iAnd (sbI (sB σ p29 ((sI σ 177 u0) + w5).toNat)) 255)))]) (pc' := 52) [(.sipush 255, vi 255, 49), (.iand, vi 0, 50), (.i2l, vi 0, 51), (.lor, vi 0, 52)] (by decide +kernel) rfl rfl ?_
      refine sm_nml (fun x33 => ?_)
      refine sm_b (l' := [(0, vr (some u0)), (1, vi u1), (3, vl x33), (5, vi (w5 + (-1)))]) (st' := []) (pc' := 25) [(.lstore_n 3, vi 0, 53), (.iinc 5 (-1), vi (-1), 56), (.goto (-31), vi 0, 25)] (by decide +kernel) rfl rfl ?_
      exact ih x33 (w5 + (-1))
    refine sm_if_lt (off := 32) (tgt := 59) h21 (by decide +kernel) (fun c37 => ?_) (fun c37 => ?_)
    · exact p35 c37
    · exact n36 c37
set_option maxHeartbeats 4000000 in
theorem wr_fixed_ok {g : GE} (G : GG g) {τ : TT} (d : Nat) (hd1 : 7 ≤ d) (a0 : Nat) (a1 : Int) (a2 : Int)  (σ : ST) (Q : VQ) : Sm (V g mX11_fixed d 0 [(0, vr (some a0)), (1, vi a1), (2, vi a2)] [] σ τ Q) (wr_fixed (gRm g) a0 a1 a2 σ) (fun r => tQ Q τ (fun r : Int64 => some (vl r)) r) := by
  unfold wr_fixed
  refine sm_top (fun K hRET => ?_)
  refine sm_b (l' := [(0, vr (some a0)), (1, vi a1), (2, vi a2)]) (st' := [vr (some a0)]) (pc' := 1) [(.aload_n 0, vi 0, 1)] (by decide +kernel) rfl rfl ?_
  refine sm_gd (fun h1 => ?_)
  refine sm_g (k := 1) (x := vi (sI σ 177 a0)) cd11 rfl h1 rfl q971 rfl (by decide +kernel) ?_
  refine sm_b (l' := [(0, vr (some a0)), (1, vi a1), (2, vi a2)]) (st' := [vi a2, vi ((sI σ 177 a0) + a1)]) (pc' := 7) [(.iload_n 1, vi 0, 5), (.iadd, vi 0, 6), (.iload_n 2, vi 0, 7)] (by decide +kernel) rfl rfl ?_
  refine sm_bind1 (fun (v6 : Int) => V g mX11_fixed d 15 [(0, vr (some a0)), (1, vi a1)] [vi v6] σ τ Q) (fun v6 => ?_) (fun K7 j8 => ?_)
  · refine sm_csTE (N := mX11_must) (d' := d - 1) (fun _ : Unit => none) (fun z => (none, z)) [vi v6] [] rfl (by decide +kernel) q984 q985 q158 (Or.inl ⟨rfl, q986⟩) (show okN yX11_must 1 = true by decide +kernel) rfl rfl (by omega) rfl (fun Q' => wr_must_ok G (d - 1) (by omega) v6 σ Q') (fun z h => hRET _ h) (fun y11 σ12 => ?_)
    refine sm_b (l' := [(0, vr (some a0)), (1, vi a1), (3, vl 0)]) (st' := [vi (a1 - 1)]) (pc' := 23) [(.lconst 0, vl 0, 19), (.lstore_n 3, vi 0, 20), (.iload_n 1, vi 0, 21), (.iconst 1, vi 1, 22), (.isub, vi 0, 23)] (by decide +kernel) rfl rfl ?_
    refine sm_nmi (fun x13 => ?_)
    refine sm_b (l' := [(0, vr (some a0)), (1, vi a1), (3, vl 0), (5, vi x13)]) (st' := []) (pc' := 25) [(.istore 5, vi 0, 25)] (by decide +kernel) rfl rfl ?_
    refine sm_bind1 (fun (v14 : Int64) => V g mX11_fixed d 59 [(0, vr (some a0)), (1, vi a1), (3, vl v14)] [] σ12 τ Q) (fun v14 => ?_) (fun K15 j16 => ?_)
    · refine sm_b (l' := [(0, vr (some a0)), (1, vi a1), (3, vl v14)]) (st' := [vr (some a0), vr (some a0)]) (pc' := 61) [(.aload_n 0, vi 0, 60), (.dup, vi 0, 61)] (by decide +kernel) rfl rfl ?_
      refine sm_gd (fun h18 => ?_)
      refine sm_g (k := 1) (x := vi (sI σ12 177 a0)) cd11 rfl h18 rfl q971 rfl (by decide +kernel) ?_
      refine sm_b (l' := [(0, vr (some a0)), (1, vi a1), (3, vl v14)]) (st' := [vi ((sI σ12 177 a0) + a1), vr (some a0)]) (pc' := 66) [(.iload_n 1, vi 0, 65), (.iadd, vi 0, 66)] (by decide +kernel) rfl rfl ?_
      refine sm_p (k := 1) (x := vi ((sI σ12 177 a0) + a1)) cd11 rfl h18 rfl q971 rfl (nar_i _) (fit_i _) rfl (at_pI σ12 177 a0 ((sI σ12 177 a0) + a1)) (fp_177 σ12 a0 ((sI σ12 177 a0) + a1)) (by decide +kernel) ?_
      refine sm_nms (fun σ19 => ?_)
      refine sm_b (l' := [(0, vr (some a0)), (1, vi a1), (3, vl v14)]) (st' := [vl v14]) (pc' := 70) [(.lload_n 3, vi 0, 70)] (by decide +kernel) rfl rfl ?_
      exact sm_lret rfl (by decide +kernel) (fun h => hRET _ h)
    · exact wr_fixed_L25_ok G d hd1 a0 a1 σ12  (fun _ h => j16 _ h) FU 0 x13
  · refine sm_gd (fun h2 => ?_)
    refine sm_gd (fun h3 => ?_)
    refine sm_case (V g mX11_fixed d 14 [(0, vr (some a0)), (1, vi a1), (2, vi a2)] [] σ τ Q) (V g mX11_fixed d 10 [(0, vr (some a0)), (1, vi a1), (2, vi a2)] [] σ τ Q) ?_ ?_ (fun f38 p39 n40 => ?_)
    · refine sm_b (l' := [(0, vr (some a0)), (1, vi a1), (2, vi a2)]) (st' := [vi 0]) (pc' := 15) [(.iconst 0, vi 0, 15)] (by decide +kernel) rfl rfl ?_
      refine sm_pick [0, 1] (l' := [(0, vr (some a0)), (1, vi a1)]) rfl ?_
      exact sm_leaf (fun h => j8 _ h)
    · refine sm_b (l' := [(0, vr (some a0)), (1, vi a1), (2, vi a2)]) (st' := [vi 1]) (pc' := 15) [(.iconst 1, vi 1, 11), (.goto 4, vi 0, 15)] (by decide +kernel) rfl rfl ?_
      refine sm_pick [0, 1] (l' := [(0, vr (some a0)), (1, vi a1)]) rfl ?_
      exact sm_leaf (fun h => j8 _ h)
    refine sm_icmp_gt (off := 7) (tgt := 14) h2 h3 (by decide +kernel) (fun c41 => ?_) (fun c41 => ?_)
    · exact p39 c41
    · exact n40 c41
def wr_number (bb : Nat × Nat) (a0 : Nat) (a1 : Option Nat) (a2 : Int) (σ : ST) : Option (Option (Option Nat) × ST) := gd (rm bb σ 5) (nm (nO σ 13 5) fun σ2 => Option.bind (sl_init bb (sZ σ) a1 σ2) fun y3 => Option.bind a1 fun p4 => gd (sc y3 p4 = 9) (Option.bind (fd_wire p4 y3) fun y7 => Option.bind (gd (rg y7) (if y7 = 5 then (gd (sc y3 a0 = 12) (Option.bind (wr_fixed bb a0 4 a2 y3) (tB (fun z => Sum.inl ((none, z))) fun y50 σ51 => some (Sum.inr ((y50, σ51)))))) else (if y7 = 1 then (gd (sc y3 a0 = 12) (Option.bind (wr_fixed bb a0 8 a2 y3) (tB (fun z => Sum.inl ((none, z))) fun y56 σ57 => some (Sum.inr ((y56, σ57)))))) else (gd (sc y3 a0 = 12) (Option.bind (wr_varint bb a0 a2 y3) (tB (fun z => Sum.inl ((none, z))) fun y60 σ61 => some (Sum.inr ((y60, σ61))))))))) (Sum.elim some fun (v11 : Int64 × ST) => gd (sc v11.2 p4 = 9) (Option.bind (gd (rg (sI v11.2 132 p4)) (if (sI v11.2 132 p4) = 0 ∨ (sI v11.2 132 p4) = 32 then (nm (iL (lI v11.1)) fun x25 => some x25) else (if (sI v11.2 132 p4) = 2 then (nm (v11.1 &&& 4294967295) fun x28 => some x28) else (if (sI v11.2 132 p4) = 4 then (nm (iL (iXor (lI (lUsh (v11.1 &&& 4294967295) 1)) (-(lI (v11.1 &&& 1))))) fun x31 => some x31) else (if (sI v11.2 132 p4) = 5 then (nm ((lUsh v11.1 1) ^^^ (-(v11.1 &&& 1))) fun x34 => some x34) else (if (sI v11.2 132 p4) = 8 then (Option.bind (if v11.1 = 0 then (some 0) else (some 1)) fun (v39 : Int64) => some v39) else (some v11.1))))))) fun (v16 : Int64) => gd (sc v11.2 (sZ σ) = 13) (nm (pJ v11.2 193 (sZ σ) v16) fun σ21 => some ((some (some (sZ σ)), σ21)))))))
set_option maxHeartbeats 4000000 in
theorem wr_number_ok {g : GE} (G : GG g) {τ : TT} (d : Nat) (hd1 : 8 ≤ d) (a0 : Nat) (a1 : Option Nat) (a2 : Int)  (σ : ST) (Q : VQ) : Sm (V g mX11_number d 0 [(0, vr (some a0)), (1, vr a1), (2, vi a2)] [] σ τ Q) (wr_number (gRm g) a0 a1 a2 σ) (fun r => tQ Q τ (fun r : Option Nat => some (vr r)) r) := by
  unfold wr_number
  refine sm_top (fun K hRET => ?_)
  refine sm_gd (fun h1 => ?_)
  refine sm_new cd12 rfl q1011 q1012 q159 (new_12 σ) h1 (by decide +kernel) ?_
  refine sm_nms (fun σ2 => ?_)
  refine sm_b (l' := [(0, vr (some a0)), (1, vr a1), (2, vi a2)]) (st' := [vr a1, vr (some (sZ σ)), vr (some (sZ σ))]) (pc' := 5) [(.dup, vi 0, 4), (.aload_n 1, vi 0, 5)] (by decide +kernel) rfl rfl ?_
  refine sm_ci (N := mX12_init) (d' := d - 1) [vr a1] [vr (some (sZ σ))] rfl (by decide +kernel) q1013 q1014 rfl q1015 rfl rfl (show okN yX12_init 1 = true by decide +kernel) rfl rfl (by omega) rfl (fun Q' => sl_init_ok G (d - 1) (by omega) (sZ σ) a1 σ2 Q') (fun y3 => ?_)
  refine sm_b (l' := [(0, vr (some a0)), (1, vr a1), (2, vi a2), (3, vr (some (sZ σ)))]) (st' := [vr a1]) (pc' := 10) [(.astore_n 3, vi 0, 9), (.aload_n 1, vi 0, 10)] (by decide +kernel) rfl rfl ?_
  refine sm_de (fun p4 h5 => ?_)
  refine sm_st [vr (some p4)] (by rw [h5] <;> rfl) ?_
  refine sm_gd (fun h6 => ?_)
  refine sm_cv (N := mX8_wire) (d' := d - 1) (fun r => (some (vi r))) (fun _ => y3) (fun _ => τ) [] [] rfl (by decide +kernel) q995 q996 q997 (Or.inl ⟨rfl, q998⟩) (show okN yX8_wire 0 = true by decide +kernel) (fun H hR => hR.rv G.1 cd8 rfl h6) rfl rfl (by omega) rfl (fun Q' => fd_wire_ok G (d - 1) (by omega) p4 y3 Q') (fun y7 => ?_)
  refine sm_b (l' := [(0, vr (some a0)), (1, vr a1), (2, vi a2), (3, vr (some (sZ σ))), (4, vi y7)]) (st' := [vi 5, vi y7]) (pc' := 18) [(.istore 4, vi 0, 15), (.iload 4, vi 0, 17), (.iconst 5, vi 5, 18)] (by decide +kernel) rfl rfl ?_
  refine sm_bindS (fun (v11 : Int64 × ST) => V g mX11_number d 51 [(1, vr a1), (3, vr (some (sZ σ)))] [vl v11.1] v11.2 τ Q) (fun v11 => ?_) (fun K12 o14 j13 => ?_)
  · refine sm_b (l' := [(1, vr a1), (3, vr (some (sZ σ))), (5, vl v11.1)]) (st' := [vr a1]) (pc' := 54) [(.lstore 5, vi 0, 53), (.aload_n 1, vi 0, 54)] (by decide +kernel) rfl rfl ?_
    refine sm_st [vr (some p4)] (by rw [h5] <;> rfl) ?_
    refine sm_gd (fun h15 => ?_)
    refine sm_gN (k := 4) (x := vi (sI v11.2 132 p4)) cd8 rfl h15 rfl q734 rfl (by decide +kernel) ?_
    refine sm_bind1 (fun (v16 : Int64) => V g mX11_number d 190 [(3, vr (some (sZ σ))), (5, vl v16)] [] v11.2 τ Q) (fun v16 => ?_) (fun K17 j18 => ?_)
    · refine sm_b (l' := [(3, vr (some (sZ σ))), (5, vl v16)]) (st' := [vl v16, vr (some (sZ σ))]) (pc' := 193) [(.aload_n 3, vi 0, 191), (.lload 5, vi 0, 193)] (by decide +kernel) rfl rfl ?_
      refine sm_gd (fun h20 => ?_)
      refine sm_pN (k := 1) (x := vl v16) cd12 rfl h20 rfl q1024 rfl (nar_j _) (fit_j _) rfl (at_pJ v11.2 193 (sZ σ) v16) (fp_193 v11.2 (sZ σ) v16) (by decide +kernel) ?_
      refine sm_nms (fun σ21 => ?_)
      refine sm_b (l' := [(3, vr (some (sZ σ))), (5, vl v16)]) (st' := [vr (some (sZ σ))]) (pc' := 197) [(.aload_n 3, vi 0, 197)] (by decide +kernel) rfl rfl ?_
      exact sm_aret rfl rfl (by decide +kernel) (fun h => hRET _ h)
    · refine sm_gd (fun h22 => ?_)
      refine sm_if (fun c23 => ?_) (fun c23 => ?_)
      · refine sm_dflt (V g mX11_number d 181 [(1, vr a1), (3, vr (some (sZ σ))), (5, vl v11.1)] [] v11.2 τ Q) ?_ (fun f24 => ?_)
        · refine sm_b (l' := [(1, vr a1), (3, vr (some (sZ σ))), (5, vl v11.1)]) (st' := [vl (iL (lI v11.1))]) (pc' := 185) [(.lload 5, vi 0, 183), (.l2i, vi 0, 184), (.i2l, vi 0, 185)] (by decide +kernel) rfl rfl ?_
          refine sm_nml (fun x25 => ?_)
          refine sm_b (l' := [(1, vr a1), (3, vr (some (sZ σ))), (5, vl x25)]) (st' := []) (pc' := 190) [(.lstore 5, vi 0, 187), (.goto 3, vi 0, 190)] (by decide +kernel) rfl rfl ?_
          refine sm_pick [1, 2] (l' := [(3, vr (some (sZ σ))), (5, vl x25)]) rfl ?_
          exact sm_leaf (fun h => j18 _ h)
        rcases c23 with c23 | c23
        · exact sm_lcase (df := 133) (ps := [(0, 124), (2, 59), (4, 70), (5, 92), (8, 107), (32, 124)]) (n := 59) (k := 0) (off := 124) (tgt := 181) (by decide +kernel) c23 f24
        · exact sm_lcase (df := 133) (ps := [(0, 124), (2, 59), (4, 70), (5, 92), (8, 107), (32, 124)]) (n := 59) (k := 32) (off := 124) (tgt := 181) (by decide +kernel) c23 f24
      · refine sm_if (fun c26 => ?_) (fun c26 => ?_)
        · refine sm_dflt (V g mX11_number d 116 [(1, vr a1), (3, vr (some (sZ σ))), (5, vl v11.1)] [] v11.2 τ Q) ?_ (fun f27 => ?_)
          · refine sm_b (l' := [(1, vr a1), (3, vr (some (sZ σ))), (5, vl v11.1)]) (st' := [vl v11.1]) (pc' := 118) [(.lload 5, vi 0, 118)] (by decide +kernel) rfl rfl ?_
            refine sm_ldc2 (by decide +kernel) q1054 ?_
            refine sm_b (l' := [(1, vr a1), (3, vr (some (sZ σ))), (5, vl v11.1)]) (st' := [vl (v11.1 &&& 4294967295)]) (pc' := 122) [(.land, vi 0, 122)] (by decide +kernel) rfl rfl ?_
            refine sm_nml (fun x28 => ?_)
            refine sm_b (l' := [(1, vr a1), (3, vr (some (sZ σ))), (5, vl x28)]) (st' := []) (pc' := 190) [(.lstore 5, vi 0, 124), (.goto 66, vi 0, 190)] (by decide +kernel) rfl rfl ?_
            refine sm_pick [1, 2] (l' := [(3, vr (some (sZ σ))), (5, vl x28)]) rfl ?_
            exact sm_leaf (fun h => j18 _ h)
          exact sm_lcase (df := 133) (ps := [(0, 124), (2, 59), (4, 70), (5, 92), (8, 107), (32, 124)]) (n := 59) (k := 2) (off := 59) (tgt := 116) (by decide +kernel) c26 f27
        · refine sm_if (fun c29 => ?_) (fun c29 => ?_)
          · refine sm_dflt (V g mX11_number d 127 [(1, vr a1), (3, vr (some (sZ σ))), (5, vl v11.1)] [] v11.2 τ Q) ?_ (fun f30 => ?_)
            · refine sm_b (l' := [(1, vr a1), (3, vr (some (sZ σ))), (5, vl v11.1)]) (st' := [vl v11.1]) (pc' := 129) [(.lload 5, vi 0, 129)] (by decide +kernel) rfl rfl ?_
              refine sm_ldc2 (by decide +kernel) q1054 ?_
              refine sm_b (l' := [(1, vr a1), (3, vr (some (sZ σ))), (5, vl v11.1)]) (st' := [vl (iL (iXor (lI (lUsh (v11.1 &&& 4294967295) 1)) (-(lI (v11.1 &&& 1)))))]) (pc' := 144) [(.land, vi 0, 133), (.iconst 1, vi 1, 134), (.lushr, vi 0, 135), (.l2i, vi 0, 136), (.lload 5, vi 0, 138), (.lconst 1, vl 1, 139), (.land, vi 0, 140), (.l2i, vi 0, 141), (.ineg, vi 0, 142), (.ixor, vi 0, 143), (.i2l, vi 0, 144)] (by decide +kernel) rfl rfl ?_
              refine sm_nml (fun x31 => ?_)
              refine sm_b (l' := [(1, vr a1), (3, vr (some (sZ σ))), (5, vl x31)]) (st' := []) (pc' := 190) [(.lstore 5, vi 0, 146), (.goto 44, vi 0, 190)] (by decide +kernel) rfl rfl ?_
              refine sm_pick [1, 2] (l' := [(3, vr (some (sZ σ))), (5, vl x31)]) rfl ?_
              exact sm_leaf (fun h => j18 _ h)
            exact sm_lcase (df := 133) (ps := [(0, 124), (2, 59), (4, 70), (5, 92), (8, 107), (32, 124)]) (n := 59) (k := 4) (off := 70) (tgt := 127) (by decide +kernel) c29 f30
          · refine sm_if (fun c32 => ?_) (fun c32 => ?_)
            · refine sm_dflt (V g mX11_number d 149 [(1, vr a1), (3, vr (some (sZ σ))), (5, vl v11.1)] [] v11.2 τ Q) ?_ (fun f33 => ?_)
              · refine sm_b (l' := [(1, vr a1), (3, vr (some (sZ σ))), (5, vl v11.1)]) (st' := [vl ((lUsh v11.1 1) ^^^ (-(v11.1 &&& 1)))]) (pc' := 159) [(.lload 5, vi 0, 151), (.iconst 1, vi 1, 152), (.lushr, vi 0, 153), (.lload 5, vi 0, 155), (.lconst 1, vl 1, 156), (.land, vi 0, 157), (.lneg, vi 0, 158), (.lxor, vi 0, 159)] (by decide +kernel) rfl rfl ?_
                refine sm_nml (fun x34 => ?_)
                refine sm_b (l' := [(1, vr a1), (3, vr (some (sZ σ))), (5, vl x34)]) (st' := []) (pc' := 190) [(.lstore 5, vi 0, 161), (.goto 29, vi 0, 190)] (by decide +kernel) rfl rfl ?_
                refine sm_pick [1, 2] (l' := [(3, vr (some (sZ σ))), (5, vl x34)]) rfl ?_
                exact sm_leaf (fun h => j18 _ h)
              exact sm_lcase (df := 133) (ps := [(0, 124), (2, 59), (4, 70), (5, 92), (8, 107), (32, 124)]) (n := 59) (k := 5) (off := 92) (tgt := 149) (by decide +kernel) c32 f33
            · refine sm_if (fun c35 => ?_) (fun c35 => ?_)
              · refine sm_dflt (V g mX11_number d 164 [(1, vr a1), (3, vr (some (sZ σ))), (5, vl v11.1)] [] v11.2 τ Q) ?_ (fun f36 => ?_)
                · refine sm_b (l' := [(1, vr a1), (3, vr (some (sZ σ))), (5, vl v11.1)]) (st' := [vl 0, vl v11.1]) (pc' := 167) [(.lload 5, vi 0, 166), (.lconst 0, vl 0, 167)] (by decide +kernel) rfl rfl ?_
                  refine sm_bind1 (fun (v39 : Int64) => V g mX11_number d 176 [(3, vr (some (sZ σ)))] [vl v39] v11.2 τ Q) (fun v39 => ?_) (fun K40 j41 => ?_)
                  · refine sm_b (l' := [(3, vr (some (sZ σ))), (5, vl v39)]) (st' := []) (pc' := 190) [(.lstore 5, vi 0, 178), (.goto 12, vi 0, 190)] (by decide +kernel) rfl rfl ?_
                    exact sm_leaf (fun h => j18 _ h)
                  · refine sm_case (V g mX11_number d 175 [(1, vr a1), (3, vr (some (sZ σ))), (5, vl v11.1)] [] v11.2 τ Q) (V g mX11_number d 171 [(1, vr a1), (3, vr (some (sZ σ))), (5, vl v11.1)] [] v11.2 τ Q) ?_ ?_ (fun f43 p44 n45 => ?_)
                    · refine sm_b (l' := [(1, vr a1), (3, vr (some (sZ σ))), (5, vl v11.1)]) (st' := [vl 0]) (pc' := 176) [(.lconst 0, vl 0, 176)] (by decide +kernel) rfl rfl ?_
                      refine sm_pick [1] (l' := [(3, vr (some (sZ σ)))]) rfl ?_
                      exact sm_leaf (fun h => j41 _ h)
                    · refine sm_b (l' := [(1, vr a1), (3, vr (some (sZ σ))), (5, vl v11.1)]) (st' := [vl 1]) (pc' := 176) [(.lconst 1, vl 1, 172), (.goto 4, vi 0, 176)] (by decide +kernel) rfl rfl ?_
                      refine sm_pick [1] (l' := [(3, vr (some (sZ σ)))]) rfl ?_
                      exact sm_leaf (fun h => j41 _ h)
                    refine sm_lc_eq (off := 7) (tgt := 175) (by decide +kernel) (by decide +kernel) (fun c46 => ?_) (fun c46 => ?_)
                    · exact p44 c46
                    · exact n45 c46
                exact sm_lcase (df := 133) (ps := [(0, 124), (2, 59), (4, 70), (5, 92), (8, 107), (32, 124)]) (n := 59) (k := 8) (off := 107) (tgt := 164) (by decide +kernel) c35 f36
              · refine sm_dflt (V g mX11_number d 190 [(1, vr a1), (3, vr (some (sZ σ))), (5, vl v11.1)] [] v11.2 τ Q) ?_ (fun f47 => ?_)
                · refine sm_pick [1, 2] (l' := [(3, vr (some (sZ σ))), (5, vl v11.1)]) rfl ?_
                  exact sm_leaf (fun h => j18 _ h)
                exact sm_ldef (df := 133) (ps := [(0, 124), (2, 59), (4, 70), (5, 92), (8, 107), (32, 124)]) (n := 59) (tgt := 190) h22 (by decide +kernel) (by simp only [List.forall_mem_cons]; refine ⟨?_, ?_, ?_, ?_, ?_, ?_, List.forall_mem_nil _⟩ <;> omega) f47
  · refine sm_gd (fun h8 => ?_)
    refine sm_case (V g mX11_number d 21 [(0, vr (some a0)), (1, vr a1), (2, vi a2), (3, vr (some (sZ σ))), (4, vi y7)] [] y3 τ Q) (V g mX11_number d 30 [(0, vr (some a0)), (1, vr a1), (2, vi a2), (3, vr (some (sZ σ))), (4, vi y7)] [] y3 τ Q) ?_ ?_ (fun f66 p67 n68 => ?_)
    · refine sm_b (l' := [(0, vr (some a0)), (1, vr a1), (2, vi a2), (3, vr (some (sZ σ))), (4, vi y7)]) (st' := [vi a2, vi 4, vr (some a0)]) (pc' := 24) [(.aload_n 0, vi 0, 22), (.iconst 4, vi 4, 23), (.iload_n 2, vi 0, 24)] (by decide +kernel) rfl rfl ?_
      refine sm_gd (fun h48 => ?_)
      refine sm_cvT (N := mX11_fixed) (d' := d - 1) (fun r : Int64 => some (vl r)) (fun z => Sum.inl ((none, z))) [vi 4, vi a2] [] rfl (by decide +kernel) q1050 q1052 qs26 (Or.inl ⟨rfl, q1053⟩) (show okN yX11_fixed 2 = true by decide +kernel) (fun H hR => hR.rv G.1 cd11 rfl h48) rfl rfl (by omega) rfl (fun Q' => wr_fixed_ok G (d - 1) (by omega) a0 4 a2 y3 Q') (fun z h => hRET _ (o14 _ h)) (fun y50 σ51 => ?_)
      refine sm_b (l' := [(0, vr (some a0)), (1, vr a1), (2, vi a2), (3, vr (some (sZ σ))), (4, vi y7)]) (st' := [vl y50]) (pc' := 51) [(.goto 24, vi 0, 51)] (by decide +kernel) rfl rfl ?_
      refine sm_pick [1, 3] (l' := [(1, vr a1), (3, vr (some (sZ σ)))]) rfl ?_
      exact sm_leaf (fun h => j13 _ h)
    · refine sm_b (l' := [(0, vr (some a0)), (1, vr a1), (2, vi a2), (3, vr (some (sZ σ))), (4, vi y7)]) (st' := [vi 1, vi y7]) (pc' := 33) [(.iload 4, vi 0, 32), (.iconst 1, vi 1, 33)] (by decide +kernel) rfl rfl ?_
      refine sm_case (V g mX11_number d 36 [(0, vr (some a0)), (1, vr a1), (2, vi a2), (3, vr (some (sZ σ))), (4, vi y7)] [] y3 τ Q) (V g mX11_number d 46 [(0, vr (some a0)), (1, vr a1), (2, vi a2), (3, vr (some (sZ σ))), (4, vi y7)] [] y3 τ Q) ?_ ?_ (fun f62 p63 n64 => ?_)
      · refine sm_b (l' := [(0, vr (some a0)), (1, vr a1), (2, vi a2), (3, vr (some (sZ σ))), (4, vi y7)]) (st' := [vi a2, vi 8, vr (some a0)]) (pc' := 40) [(.aload_n 0, vi 0, 37), (.bipush 8, vi 8, 39), (.iload_n 2, vi 0, 40)] (by decide +kernel) rfl rfl ?_
        refine sm_gd (fun h54 => ?_)
        refine sm_cvT (N := mX11_fixed) (d' := d - 1) (fun r : Int64 => some (vl r)) (fun z => Sum.inl ((none, z))) [vi 8, vi a2] [] rfl (by decide +kernel) q1050 q1052 qs26 (Or.inl ⟨rfl, q1053⟩) (show okN yX11_fixed 2 = true by decide +kernel) (fun H hR => hR.rv G.1 cd11 rfl h54) rfl rfl (by omega) rfl (fun Q' => wr_fixed_ok G (d - 1) (by omega) a0 8 a2 y3 Q') (fun z h => hRET _ (o14 _ h)) (fun y56 σ57 => ?_)
        refine sm_b (l' := [(0, vr (some a0)), (1, vr a1), (2, vi a2), (3, vr (some (sZ σ))), (4, vi y7)]) (st' := [vl y56]) (pc' := 51) [(.goto 8, vi 0, 51)] (by decide +kernel) rfl rfl ?_
        refine sm_pick [1, 3] (l' := [(1, vr a1), (3, vr (some (sZ σ)))]) rfl ?_
        exact sm_leaf (fun h => j13 _ h)
      · refine sm_b (l' := [(0, vr (some a0)), (1, vr a1), (2, vi a2), (3, vr (some (sZ σ))), (4, vi y7)]) (st' := [vi a2, vr (some a0)]) (pc' := 48) [(.aload_n 0, vi 0, 47), (.iload_n 2, vi 0, 48)] (by decide +kernel) rfl rfl ?_
        refine sm_gd (fun h58 => ?_)
        refine sm_cvT (N := mX11_varint) (d' := d - 1) (fun r : Int64 => some (vl r)) (fun z => Sum.inl ((none, z))) [vi a2] [] rfl (by decide +kernel) q980 q982 qs24 (Or.inl ⟨rfl, q983⟩) (show okN yX11_varint 1 = true by decide +kernel) (fun H hR => hR.rv G.1 cd11 rfl h58) rfl rfl (by omega) rfl (fun Q' => wr_varint_ok G (d - 1) (by omega) a0 a2 y3 Q') (fun z h => hRET _ (o14 _ h)) (fun y60 σ61 => ?_)
        refine sm_pick [1, 3] (l' := [(1, vr a1), (3, vr (some (sZ σ)))]) rfl ?_
        exact sm_leaf (fun h => j13 _ h)
      refine sm_icmp_ne (off := 13) (tgt := 46) h8 (by decide) (by decide +kernel) (fun c65 => ?_) (fun c65 => ?_)
      · exact n64 c65
      · exact p63 c65
    refine sm_icmp_ne (off := 12) (tgt := 30) h8 (by decide) (by decide +kernel) (fun c69 => ?_) (fun c69 => ?_)
    · exact n68 c69
    · exact p67 c69
