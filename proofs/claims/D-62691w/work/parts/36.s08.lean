set_option maxRecDepth 100000
/-! the system: X10_drop, X12_isDefault, X8_keepsDefault, X10_put, X11_length, X3_signLength, X3_isText, X10_get, X11_skip -/
def vlu_drop_L12 (bb : Nat × Nat) (u0 : Nat) (u1 : Option Nat) : Nat → Option Nat → Option Nat → ST → Option (ST)
  | 0, _, _, _ => none
  | n + 1, w2, w3, σ => if w3 = none then (some σ) else (Option.bind w3 fun p9 => gd (sc σ p9 = 13) (nm (sR σ 196 p9) fun x12 => Option.bind (if (sR σ 192 p9) = u1 then (some 1) else (Option.bind u1 fun p49 => gd (sc σ p49 = 9) (gd (rg (sI σ 133 p49)) (gd (¬ ((sI σ 133 p49) < 0) → ¬ (sR σ 192 p9) = none) (gd (¬ ((sI σ 133 p49) < 0) → sc σ (ad (sR σ 192 p9)) = 9) (gd (¬ ((sI σ 133 p49) < 0) → rg (sI σ 133 (ad (sR σ 192 p9)))) (if ((sI σ 133 p49) < 0) ∨ (¬ ((sI σ 133 (ad (sR σ 192 p9))) = (sI σ 133 p49))) then (some 0) else (some 1)))))))) fun (v18 : Int) => Option.bind (gd (rg v18) (if v18 = 0 then (nm (pR σ 196 p9 none) fun σ28 => Option.bind (if w2 = none then (gd (sc σ28 u0 = 11) (nm (pR σ28 161 u0 w3) fun σ36 => some σ36)) else (Option.bind w2 fun p37 => gd (sc σ28 p37 = 13) (nm (pR σ28 196 p37 w3) fun σ40 => some σ40))) fun (v31 : ST) => some ((w3, v31))) else (some ((w2, σ))))) fun (v24 : Option Nat × ST) => vlu_drop_L12 bb u0 u1 n v24.1 x12 v24.2))
def vlu_drop (bb : Nat × Nat) (a0 : Nat) (a1 : Option Nat) (σ : ST) : Option (ST) := gd (sc σ a0 = 11) (nm (sR σ 161 a0) fun x2 => nm (pR σ 161 a0 none) fun σ3 => vlu_drop_L12 bb a0 a1 FU none x2 σ3)
set_option maxHeartbeats 4000000 in
theorem vlu_drop_L12_ok {g : GE} (G : GG g) {τ : TT} {Q : VQ} (d : Nat) (hd1 : 0 ≤ d) (u0 : Nat) (u1 : Option Nat)  {K : ST → Prop} (hRET : ∀ r : ST, K (r) → Q.1 none r τ) : ∀ (n : Nat) (w2 : Option Nat) (w3 : Option Nat) (σ : ST), Sm (V g mX10_drop d 12 [(0, vr (some u0)), (1, vr u1), (2, vr w2), (3, vr w3)] [] σ τ Q) (vlu_drop_L12 (gRm g) u0 u1 n w2 w3 σ) K := by
  intro n
  induction n with
  | zero => intro w2 w3 σ; exact sm_none
  | succ n ih =>
    intro w2 w3 σ
    rw [vlu_drop_L12.eq_2]
    refine sm_b (l' := [(0, vr (some u0)), (1, vr u1), (2, vr w2), (3, vr w3)]) (st' := [vr w3]) (pc' := 13) [(.aload_n 3, vi 0, 13)] (by decide +kernel) rfl rfl ?_
    refine sm_case (V g mX10_drop d 93 [(0, vr (some u0)), (1, vr u1), (2, vr w2), (3, vr w3)] [] σ τ Q) (V g mX10_drop d 16 [(0, vr (some u0)), (1, vr u1), (2, vr w2), (3, vr w3)] [] σ τ Q) ?_ ?_ (fun f68 p69 n70 => ?_)
    · exact sm_vret rfl (by decide +kernel) (fun h => hRET _ h)
    · refine sm_b (l' := [(0, vr (some u0)), (1, vr u1), (2, vr w2), (3, vr w3)]) (st' := [vr w3]) (pc' := 17) [(.aload_n 3, vi 0, 17)] (by decide +kernel) rfl rfl ?_
      refine sm_de (fun p9 h10 => ?_)
      refine sm_st [vr (some p9)] (by rw [h10] <;> rfl) ?_
      refine sm_gd (fun h11 => ?_)
      refine sm_gN (k := 4) (x := vr (sR σ 196 p9)) cd12 rfl h11 rfl q1036 rfl (by decide +kernel) ?_
      refine sm_nmr (fun x12 => ?_)
      refine sm_b (l' := [(0, vr (some u0)), (1, vr u1), (2, vr w2), (3, vr w3), (4, vr x12)]) (st' := [vr w3]) (pc' := 23) [(.astore 4, vi 0, 22), (.aload_n 3, vi 0, 23)] (by decide +kernel) rfl rfl ?_
      refine sm_st [vr (some p9)] (by rw [h10] <;> rfl) ?_
      refine sm_gN (k := 0) (x := vr (sR σ 192 p9)) cd12 rfl h11 rfl q1018 rfl (by decide +kernel) ?_
      refine sm_b (l' := [(0, vr (some u0)), (1, vr u1), (2, vr w2), (3, vr w3), (4, vr x12)]) (st' := [vr u1, vr (sR σ 192 p9)]) (pc' := 27) [(.aload_n 1, vi 0, 27)] (by decide +kernel) rfl rfl ?_
      refine sm_bind1 (fun (v18 : Int) => V g mX10_drop d 56 [(0, vr (some u0)), (1, vr u1), (2, vr w2), (3, vr w3), (4, vr x12)] [vi v18] σ τ Q) (fun v18 => ?_) (fun K19 j20 => ?_)
      · refine sm_b (l' := [(0, vr (some u0)), (1, vr u1), (2, vr w2), (3, vr w3), (4, vr x12), (5, vi v18)]) (st' := [vi v18]) (pc' := 60) [(.istore 5, vi 0, 58), (.iload 5, vi 0, 60)] (by decide +kernel) rfl rfl ?_
        refine sm_bind1 (fun (v24 : Option Nat × ST) => V g mX10_drop d 87 [(0, vr (some u0)), (1, vr u1), (2, vr v24.1), (4, vr x12)] [] v24.2 τ Q) (fun v24 => ?_) (fun K25 j26 => ?_)
        · refine sm_b (l' := [(0, vr (some u0)), (1, vr u1), (2, vr v24.1), (4, vr x12), (3, vr x12)]) (st' := []) (pc' := 12) [(.aload 4, vi 0, 89), (.astore_n 3, vi 0, 90), (.goto (-78), vi 0, 12)] (by decide +kernel) rfl rfl ?_
          refine sm_pick [0, 1, 2, 4] (l' := [(0, vr (some u0)), (1, vr u1), (2, vr v24.1), (3, vr x12)]) rfl ?_
          exact ih v24.1 x12 v24.2
        · refine sm_gd (fun h22 => ?_)
          refine sm_case (V g mX10_drop d 63 [(0, vr (some u0)), (1, vr u1), (2, vr w2), (3, vr w3), (4, vr x12), (5, vi v18)] [] σ τ Q) (V g mX10_drop d 87 [(0, vr (some u0)), (1, vr u1), (2, vr w2), (3, vr w3), (4, vr x12), (5, vi v18)] [] σ τ Q) ?_ ?_ (fun f45 p46 n47 => ?_)
          · refine sm_b (l' := [(0, vr (some u0)), (1, vr u1), (2, vr w2), (3, vr w3), (4, vr x12), (5, vi v18)]) (st' := [vr none, vr w3]) (pc' := 65) [(.aload_n 3, vi 0, 64), (.aconst_null, vi 0, 65)] (by decide +kernel) rfl rfl ?_
            refine sm_st [vr none, vr (some p9)] (by rw [h10] <;> rfl) ?_
            refine sm_pN (k := 4) (x := vr none) cd12 rfl h11 rfl q1036 rfl (nar_r _ rfl) (fit_r _ rfl) rfl (at_pR σ 196 p9 none) (fp_196 σ p9 none) (by decide +kernel) ?_
            refine sm_nms (fun σ28 => ?_)
            refine sm_b (l' := [(0, vr (some u0)), (1, vr u1), (2, vr w2), (3, vr w3), (4, vr x12), (5, vi v18)]) (st' := [vr w2]) (pc' := 69) [(.aload_n 2, vi 0, 69)] (by decide +kernel) rfl rfl ?_
            refine sm_bind1 (fun (v31 : ST) => V g mX10_drop d 85 [(0, vr (some u0)), (1, vr u1), (3, vr w3), (4, vr x12)] [] v31 τ Q) (fun v31 => ?_) (fun K32 j33 => ?_)
            · refine sm_b (l' := [(0, vr (some u0)), (1, vr u1), (3, vr w3), (4, vr x12), (2, vr w3)]) (st' := []) (pc' := 87) [(.aload_n 3, vi 0, 86), (.astore_n 2, vi 0, 87)] (by decide +kernel) rfl rfl ?_
              refine sm_pick [0, 1, 4, 3] (l' := [(0, vr (some u0)), (1, vr u1), (2, vr w3), (4, vr x12)]) rfl ?_
              exact sm_leaf (fun h => j26 _ h)
            · refine sm_case (V g mX10_drop d 72 [(0, vr (some u0)), (1, vr u1), (2, vr w2), (3, vr w3), (4, vr x12), (5, vi v18)] [] σ28 τ Q) (V g mX10_drop d 80 [(0, vr (some u0)), (1, vr u1), (2, vr w2), (3, vr w3), (4, vr x12), (5, vi v18)] [] σ28 τ Q) ?_ ?_ (fun f41 p42 n43 => ?_)
              · refine sm_b (l' := [(0, vr (some u0)), (1, vr u1), (2, vr w2), (3, vr w3), (4, vr x12), (5, vi v18)]) (st' := [vr w3, vr (some u0)]) (pc' := 74) [(.aload_n 0, vi 0, 73), (.aload_n 3, vi 0, 74)] (by decide +kernel) rfl rfl ?_
                refine sm_gd (fun h35 => ?_)
                refine sm_p (k := 1) (x := vr w3) cd10 rfl h35 rfl q950 rfl (nar_r _ rfl) (fit_r _ rfl) rfl (at_pR σ28 161 u0 w3) (fp_161 σ28 u0 w3) (by decide +kernel) ?_
                refine sm_nms (fun σ36 => ?_)
                refine sm_b (l' := [(0, vr (some u0)), (1, vr u1), (2, vr w2), (3, vr w3), (4, vr x12), (5, vi v18)]) (st' := []) (pc' := 85) [(.goto 8, vi 0, 85)] (by decide +kernel) rfl rfl ?_
                refine sm_pick [0, 1, 3, 4] (l' := [(0, vr (some u0)), (1, vr u1), (3, vr w3), (4, vr x12)]) rfl ?_
                exact sm_leaf (fun h => j33 _ h)
              · refine sm_b (l' := [(0, vr (some u0)), (1, vr u1), (2, vr w2), (3, vr w3), (4, vr x12), (5, vi v18)]) (st' := [vr w3, vr w2]) (pc' := 82) [(.aload_n 2, vi 0, 81), (.aload_n 3, vi 0, 82)] (by decide +kernel) rfl rfl ?_
                refine sm_de (fun p37 h38 => ?_)
                refine sm_st [vr w3, vr (some p37)] (by rw [h38] <;> rfl) ?_
                refine sm_gd (fun h39 => ?_)
                refine sm_pN (k := 4) (x := vr w3) cd12 rfl h39 rfl q1036 rfl (nar_r _ rfl) (fit_r _ rfl) rfl (at_pR σ28 196 p37 w3) (fp_196 σ28 p37 w3) (by decide +kernel) ?_
                refine sm_nms (fun σ40 => ?_)
                refine sm_pick [0, 1, 3, 4] (l' := [(0, vr (some u0)), (1, vr u1), (3, vr w3), (4, vr x12)]) rfl ?_
                exact sm_leaf (fun h => j33 _ h)
              refine sm_ifnonnull (off := 11) (tgt := 80) (by decide +kernel) (fun c44 => ?_) (fun c44 => ?_)
              · exact n43 c44
              · exact p42 c44
          · refine sm_pick [0, 1, 2, 4] (l' := [(0, vr (some u0)), (1, vr u1), (2, vr w2), (4, vr x12)]) rfl ?_
            exact sm_leaf (fun h => j26 _ h)
          refine sm_if_ne (off := 27) (tgt := 87) h22 (by decide +kernel) (fun c48 => ?_) (fun c48 => ?_)
          · exact n47 c48
          · exact p46 c48
      · refine sm_case (V g mX10_drop d 51 [(0, vr (some u0)), (1, vr u1), (2, vr w2), (3, vr w3), (4, vr x12)] [] σ τ Q) (V g mX10_drop d 30 [(0, vr (some u0)), (1, vr u1), (2, vr w2), (3, vr w3), (4, vr x12)] [] σ τ Q) ?_ ?_ (fun f64 p65 n66 => ?_)
        · refine sm_b (l' := [(0, vr (some u0)), (1, vr u1), (2, vr w2), (3, vr w3), (4, vr x12)]) (st' := [vi 1]) (pc' := 56) [(.iconst 1, vi 1, 52), (.goto 4, vi 0, 56)] (by decide +kernel) rfl rfl ?_
          exact sm_leaf (fun h => j20 _ h)
        · refine sm_b (l' := [(0, vr (some u0)), (1, vr u1), (2, vr w2), (3, vr w3), (4, vr x12)]) (st' := [vr u1]) (pc' := 31) [(.aload_n 1, vi 0, 31)] (by decide +kernel) rfl rfl ?_
          refine sm_de (fun p49 h50 => ?_)
          refine sm_st [vr (some p49)] (by rw [h50] <;> rfl) ?_
          refine sm_gd (fun h51 => ?_)
          refine sm_gN (k := 5) (x := vi (sI σ 133 p49)) cd8 rfl h51 rfl q738 rfl (by decide +kernel) ?_
          refine sm_gd (fun h52 => ?_)
          refine sm_gd (fun h54 => ?_)
          refine sm_gd (fun h56 => ?_)
          refine sm_gd (fun h57 => ?_)
          refine sm_case (V g mX10_drop d 55 [(0, vr (some u0)), (1, vr u1), (2, vr w2), (3, vr w3), (4, vr x12)] [] σ τ Q) (V g mX10_drop d 51 [(0, vr (some u0)), (1, vr u1), (2, vr w2), (3, vr w3), (4, vr x12)] [] σ τ Q) ?_ ?_ (fun f59 p60 n61 => ?_)
          · refine sm_b (l' := [(0, vr (some u0)), (1, vr u1), (2, vr w2), (3, vr w3), (4, vr x12)]) (st' := [vi 0]) (pc' := 56) [(.iconst 0, vi 0, 56)] (by decide +kernel) rfl rfl ?_
            exact sm_leaf (fun h => j20 _ h)
          · refine sm_b (l' := [(0, vr (some u0)), (1, vr u1), (2, vr w2), (3, vr w3), (4, vr x12)]) (st' := [vi 1]) (pc' := 56) [(.iconst 1, vi 1, 52), (.goto 4, vi 0, 56)] (by decide +kernel) rfl rfl ?_
            exact sm_leaf (fun h => j20 _ h)
          refine sm_if_lt (off := 21) (tgt := 55) h52 (by decide +kernel) (fun c62 => ?_) (fun c62 => ?_)
          · exact p60 (Or.inl c62)
          · have w53 : ¬ ((sI σ 133 p49) < 0) := c62
            refine sm_b (l' := [(0, vr (some u0)), (1, vr u1), (2, vr w2), (3, vr w3), (4, vr x12)]) (st' := [vr w3]) (pc' := 38) [(.aload_n 3, vi 0, 38)] (by decide +kernel) rfl rfl ?_
            refine sm_st [vr (some p9)] (by rw [h10] <;> rfl) ?_
            refine sm_gN (k := 0) (x := vr (sR σ 192 p9)) cd12 rfl h11 rfl q1018 rfl (by decide +kernel) ?_
            have q55 := (ad_some (h54 w53))
            refine sm_st [vr (some (ad (sR σ 192 p9)))] (congrArg (fun z => [vr z]) q55) ?_
            refine sm_gN (k := 5) (x := vi (sI σ 133 (ad (sR σ 192 p9)))) cd8 rfl (h56 w53) rfl q738 rfl (by decide +kernel) ?_
            refine sm_b (l' := [(0, vr (some u0)), (1, vr u1), (2, vr w2), (3, vr w3), (4, vr x12)]) (st' := [vr u1, vi (sI σ 133 (ad (sR σ 192 p9)))]) (pc' := 45) [(.aload_n 1, vi 0, 45)] (by decide +kernel) rfl rfl ?_
            refine sm_st [vr (some p49), vi (sI σ 133 (ad (sR σ 192 p9)))] (by rw [h50] <;> rfl) ?_
            refine sm_gN (k := 5) (x := vi (sI σ 133 p49)) cd8 rfl h51 rfl q738 rfl (by decide +kernel) ?_
            refine sm_icmp_ne (off := 7) (tgt := 55) (h57 w53) h52 (by decide +kernel) (fun c63 => ?_) (fun c63 => ?_)
            · exact p60 (Or.inr c63)
            · exact n61 (fun q => q.elim c62 (fun q => q c63))
        refine sm_acmp_eq (off := 24) (tgt := 51) (by decide +kernel) (fun c67 => ?_) (fun c67 => ?_)
        · exact p65 c67
        · exact n66 c67
    refine sm_ifnull (off := 80) (tgt := 93) (by decide +kernel) (fun c71 => ?_) (fun c71 => ?_)
    · exact p69 c71
    · exact n70 c71
set_option maxHeartbeats 4000000 in
theorem vlu_drop_ok {g : GE} (G : GG g) {τ : TT} (d : Nat) (hd1 : 0 ≤ d) (a0 : Nat) (a1 : Option Nat)  (σ : ST) (Q : VQ) : Sm (V g mX10_drop d 0 [(0, vr (some a0)), (1, vr a1)] [] σ τ Q) (vlu_drop (gRm g) a0 a1 σ) (fun r => Q.1 none r τ) := by
  unfold vlu_drop
  refine sm_top (fun K hRET => ?_)
  refine sm_b (l' := [(0, vr (some a0)), (1, vr a1), (2, vr none)]) (st' := [vr (some a0)]) (pc' := 3) [(.aconst_null, vi 0, 1), (.astore_n 2, vi 0, 2), (.aload_n 0, vi 0, 3)] (by decide +kernel) rfl rfl ?_
  refine sm_gd (fun h1 => ?_)
  refine sm_g (k := 1) (x := vr (sR σ 161 a0)) cd10 rfl h1 rfl q950 rfl (by decide +kernel) ?_
  refine sm_nmr (fun x2 => ?_)
  refine sm_b (l' := [(0, vr (some a0)), (1, vr a1), (2, vr none), (3, vr x2)]) (st' := [vr none, vr (some a0)]) (pc' := 9) [(.astore_n 3, vi 0, 7), (.aload_n 0, vi 0, 8), (.aconst_null, vi 0, 9)] (by decide +kernel) rfl rfl ?_
  refine sm_p (k := 1) (x := vr none) cd10 rfl h1 rfl q950 rfl (nar_r _ rfl) (fit_r _ rfl) rfl (at_pR σ 161 a0 none) (fp_161 σ a0 none) (by decide +kernel) ?_
  refine sm_nms (fun σ3 => ?_)
  exact vlu_drop_L12_ok G d hd1 a0 a1  (fun r h => hRET _ h) FU none x2 σ3
def sl_isDefault (a0 : Nat) (σ : ST) : Option (Int) := gd (sc σ a0 = 13) (if ((sR σ 195 a0) = none) ∧ ((sJ σ 193 a0) = 0) then (gd (¬ ((sR σ 194 a0) = none) → ¬ (sR σ 194 a0) = none) (gd (¬ ((sR σ 194 a0) = none) → sc σ (ad (sR σ 194 a0)) = 4) (if ((sR σ 194 a0) = none) ∨ (((((sW σ (ad (sR σ 194 a0))).length : Nat) : Int)) = 0) then (some 1) else (some 0)))) else (some 0))
set_option maxHeartbeats 4000000 in
theorem sl_isDefault_ok {g : GE} (G : GG g) {τ : TT} (d : Nat) (hd1 : 0 ≤ d) (a0 : Nat)  (σ : ST) (Q : VQ) : Sm (V g mX12_isDefault d 0 [(0, vr (some a0))] [] σ τ Q) (sl_isDefault a0 σ) (fun r => Q.1 (some (vi r)) σ τ) := by
  unfold sl_isDefault
  refine sm_top (fun K hRET => ?_)
  refine sm_b (l' := [(0, vr (some a0))]) (st' := [vr (some a0)]) (pc' := 1) [(.aload_n 0, vi 0, 1)] (by decide +kernel) rfl rfl ?_
  refine sm_gd (fun h1 => ?_)
  refine sm_g (k := 3) (x := vr (sR σ 195 a0)) cd12 rfl h1 rfl q1031 rfl (by decide +kernel) ?_
  refine sm_case (V g mX12_isDefault d 16 [(0, vr (some a0))] [] σ τ Q) (V g mX12_isDefault d 37 [(0, vr (some a0))] [] σ τ Q) ?_ ?_ (fun f16 p17 n18 => ?_)
  · refine sm_b (l' := [(0, vr (some a0))]) (st' := [vr (some a0)]) (pc' := 17) [(.aload_n 0, vi 0, 17)] (by decide +kernel) rfl rfl ?_
    refine sm_g (k := 2) (x := vr (sR σ 194 a0)) cd12 rfl h1 rfl q1026 rfl (by decide +kernel) ?_
    refine sm_gd (fun h5 => ?_)
    refine sm_gd (fun h7 => ?_)
    refine sm_case (V g mX12_isDefault d 33 [(0, vr (some a0))] [] σ τ Q) (V g mX12_isDefault d 37 [(0, vr (some a0))] [] σ τ Q) ?_ ?_ (fun f11 p12 n13 => ?_)
    · refine sm_b (l' := [(0, vr (some a0))]) (st' := [vi 1]) (pc' := 38) [(.iconst 1, vi 1, 34), (.goto 4, vi 0, 38)] (by decide +kernel) rfl rfl ?_
      exact sm_zret rfl (by decide +kernel) (by decide) (fun h => hRET _ h)
    · refine sm_b (l' := [(0, vr (some a0))]) (st' := [vi 0]) (pc' := 38) [(.iconst 0, vi 0, 38)] (by decide +kernel) rfl rfl ?_
      exact sm_zret rfl (by decide +kernel) (by decide) (fun h => hRET _ h)
    refine sm_ifnull (off := 13) (tgt := 33) (by decide +kernel) (fun c14 => ?_) (fun c14 => ?_)
    · exact p12 (Or.inl c14)
    · have w4 : ¬ ((sR σ 194 a0) = none) := c14
      refine sm_b (l' := [(0, vr (some a0))]) (st' := [vr (some a0)]) (pc' := 24) [(.aload_n 0, vi 0, 24)] (by decide +kernel) rfl rfl ?_
      refine sm_g (k := 2) (x := vr (sR σ 194 a0)) cd12 rfl h1 rfl q1026 rfl (by decide +kernel) ?_
      have q6 := (ad_some (h5 w4))
      refine sm_st [vr (some (ad (sR σ 194 a0)))] (congrArg (fun z => [vr z]) q6) ?_
      refine sm_rszN (h7 w4) q279 (by decide +kernel) ?_
      refine sm_rowf (h7 w4) (fun b8 b9 => ?_)
      refine sm_if_ne (off := 7) (tgt := 37) (rwl_rg (Nat.lt_of_le_of_lt b8 b9)) (by decide +kernel) (fun c15 => ?_) (fun c15 => ?_)
      · exact n13 (fun q => q.elim c14 c15)
      · exact p12 (Or.inr c15)
  · refine sm_b (l' := [(0, vr (some a0))]) (st' := [vi 0]) (pc' := 38) [(.iconst 0, vi 0, 38)] (by decide +kernel) rfl rfl ?_
    exact sm_zret rfl (by decide +kernel) (by decide) (fun h => hRET _ h)
  refine sm_ifnonnull (off := 33) (tgt := 37) (by decide +kernel) (fun c19 => ?_) (fun c19 => ?_)
  · exact n18 (fun q => c19 q.1)
  · refine sm_b (l' := [(0, vr (some a0))]) (st' := [vr (some a0)]) (pc' := 8) [(.aload_n 0, vi 0, 8)] (by decide +kernel) rfl rfl ?_
    refine sm_g (k := 1) (x := vl (sJ σ 193 a0)) cd12 rfl h1 rfl q1021 rfl (by decide +kernel) ?_
    refine sm_b (l' := [(0, vr (some a0))]) (st' := [vl 0, vl (sJ σ 193 a0)]) (pc' := 12) [(.lconst 0, vl 0, 12)] (by decide +kernel) rfl rfl ?_
    refine sm_lc_ne (off := 24) (tgt := 37) (by decide +kernel) (by decide +kernel) (fun c20 => ?_) (fun c20 => ?_)
    · exact n18 (fun q => c20 q.2)
    · exact p17 ⟨c19, c20⟩
def fd_keepsDefault (a0 : Nat) (σ : ST) : Option (Int) := gd (sc σ a0 = 9) (gd (rg (sI σ 136 a0)) (gd ((sI σ 136 a0) = 0 → rg (sI σ 133 a0)) (if (((sI σ 136 a0) = 0) ∧ (¬ (0 ≤ (sI σ 133 a0)))) ∧ ((sR σ 137 a0) = none) then (some 0) else (some 1))))
set_option maxHeartbeats 4000000 in
theorem fd_keepsDefault_ok {g : GE} (G : GG g) {τ : TT} (d : Nat) (hd1 : 0 ≤ d) (a0 : Nat)  (σ : ST) (Q : VQ) : Sm (V g mX8_keepsDefault d 0 [(0, vr (some a0))] [] σ τ Q) (fd_keepsDefault a0 σ) (fun r => Q.1 (some (vi r)) σ τ) := by
  unfold fd_keepsDefault
  refine sm_top (fun K hRET => ?_)
  refine sm_b (l' := [(0, vr (some a0))]) (st' := [vr (some a0)]) (pc' := 1) [(.aload_n 0, vi 0, 1)] (by decide +kernel) rfl rfl ?_
  refine sm_gd (fun h1 => ?_)
  refine sm_g (k := 8) (x := vi (sI σ 136 a0)) cd8 rfl h1 rfl q750 rfl (by decide +kernel) ?_
  refine sm_gd (fun h2 => ?_)
  refine sm_gd (fun h4 => ?_)
  refine sm_case (V g mX8_keepsDefault d 25 [(0, vr (some a0))] [] σ τ Q) (V g mX8_keepsDefault d 21 [(0, vr (some a0))] [] σ τ Q) ?_ ?_ (fun f8 p9 n10 => ?_)
  · refine sm_b (l' := [(0, vr (some a0))]) (st' := [vi 0]) (pc' := 26) [(.iconst 0, vi 0, 26)] (by decide +kernel) rfl rfl ?_
    exact sm_zret rfl (by decide +kernel) (by decide) (fun h => hRET _ h)
  · refine sm_b (l' := [(0, vr (some a0))]) (st' := [vi 1]) (pc' := 26) [(.iconst 1, vi 1, 22), (.goto 4, vi 0, 26)] (by decide +kernel) rfl rfl ?_
    exact sm_zret rfl (by decide +kernel) (by decide) (fun h => hRET _ h)
  refine sm_if_ne (off := 17) (tgt := 21) h2 (by decide +kernel) (fun c11 => ?_) (fun c11 => ?_)
  · exact n10 (fun q => (fun q => c11 q.1) q.1)
  · have w3 : (sI σ 136 a0) = 0 := c11
    refine sm_b (l' := [(0, vr (some a0))]) (st' := [vr (some a0)]) (pc' := 8) [(.aload_n 0, vi 0, 8)] (by decide +kernel) rfl rfl ?_
    refine sm_g (k := 5) (x := vi (sI σ 133 a0)) cd8 rfl h1 rfl q737 rfl (by decide +kernel) ?_
    refine sm_if_ge (off := 10) (tgt := 21) (h4 w3) (by decide +kernel) (fun c12 => ?_) (fun c12 => ?_)
    · exact n10 (fun q => (fun q => (fun q => q c12) q.2) q.1)
    · refine sm_b (l' := [(0, vr (some a0))]) (st' := [vr (some a0)]) (pc' := 15) [(.aload_n 0, vi 0, 15)] (by decide +kernel) rfl rfl ?_
      refine sm_g (k := 9) (x := vr (sR σ 137 a0)) cd8 rfl h1 rfl q753 rfl (by decide +kernel) ?_
      refine sm_ifnull (off := 7) (tgt := 25) (by decide +kernel) (fun c13 => ?_) (fun c13 => ?_)
      · exact p9 ⟨⟨c11, c12⟩, c13⟩
      · exact n10 (fun q => c13 q.2)
def vlu_put (bb : Nat × Nat) (a0 : Nat) (a1 : Option Nat) (σ : ST) : Option (ST) := Option.bind a1 fun p1 => gd (sc σ p1 = 13) (nm (sR σ 192 p1) fun x4 => Option.bind x4 fun p5 => gd (sc σ p5 = 9) (gd (rg (sI σ 135 p5)) (if (sI σ 135 p5) = 0 then (gd (sc σ a0 = 11) (Option.bind (vlu_drop bb a0 x4 σ) fun y13 => gd (sc y13 p1 = 13) (Option.bind (sl_isDefault p1 y13) fun y15 => gd (rg y15) (gd (¬ (y15 = 0) → sc y13 p5 = 9) (gd (¬ (y15 = 0) → ok (fd_keepsDefault p5 y13)) (gd (¬ (y15 = 0) → rg (vv (fd_keepsDefault p5 y13))) (if (y15 = 0) ∨ (¬ ((vv (fd_keepsDefault p5 y13)) = 0)) then (gd (sc y13 a0 = 11) (nm (pR y13 196 p1 (sR y13 161 a0)) fun σ25 => gd (sc σ25 a0 = 11) (nm (pR σ25 161 a0 a1) fun σ27 => some σ27))) else (some y13)))))))) else (gd (sc σ a0 = 11) (Option.bind (if (sR σ 162 a0) = none then (nm (pR σ 162 a0 a1) fun σ42 => some σ42) else (Option.bind (sR σ 163 a0) fun p43 => gd (sc σ p43 = 13) (nm (pR σ 196 p43 a1) fun σ46 => some σ46))) fun (v36 : ST) => gd (sc v36 a0 = 11) (nm (pR v36 163 a0 a1) fun σ41 => some σ41))))))
set_option maxHeartbeats 4000000 in
theorem vlu_put_ok {g : GE} (G : GG g) {τ : TT} (d : Nat) (hd1 : 1 ≤ d) (a0 : Nat) (a1 : Option Nat)  (σ : ST) (Q : VQ) : Sm (V g mX10_put d 0 [(0, vr (some a0)), (1, vr a1)] [] σ τ Q) (vlu_put (gRm g) a0 a1 σ) (fun r => Q.1 none r τ) := by
  unfold vlu_put
  refine sm_top (fun K hRET => ?_)
  refine sm_b (l' := [(0, vr (some a0)), (1, vr a1)]) (st' := [vr a1]) (pc' := 1) [(.aload_n 1, vi 0, 1)] (by decide +kernel) rfl rfl ?_
  refine sm_de (fun p1 h2 => ?_)
  refine sm_st [vr (some p1)] (by rw [h2] <;> rfl) ?_
  refine sm_gd (fun h3 => ?_)
  refine sm_gN (k := 0) (x := vr (sR σ 192 p1)) cd12 rfl h3 rfl q1018 rfl (by decide +kernel) ?_
  refine sm_nmr (fun x4 => ?_)
  refine sm_b (l' := [(0, vr (some a0)), (1, vr a1), (2, vr x4)]) (st' := [vr x4]) (pc' := 6) [(.astore_n 2, vi 0, 5), (.aload_n 2, vi 0, 6)] (by decide +kernel) rfl rfl ?_
  refine sm_de (fun p5 h6 => ?_)
  refine sm_st [vr (some p5)] (by rw [h6] <;> rfl) ?_
  refine sm_gd (fun h7 => ?_)
  refine sm_gN (k := 7) (x := vi (sI σ 135 p5)) cd8 rfl h7 rfl q743 rfl (by decide +kernel) ?_
  refine sm_gd (fun h8 => ?_)
  refine sm_case (V g mX10_put d 41 [(0, vr (some a0)), (1, vr a1), (2, vr x4)] [] σ τ Q) (V g mX10_put d 12 [(0, vr (some a0)), (1, vr a1), (2, vr x4)] [] σ τ Q) ?_ ?_ (fun f51 p52 n53 => ?_)
  · refine sm_b (l' := [(0, vr (some a0)), (1, vr a1), (2, vr x4)]) (st' := [vr x4, vr (some a0)]) (pc' := 43) [(.aload_n 0, vi 0, 42), (.aload_n 2, vi 0, 43)] (by decide +kernel) rfl rfl ?_
    refine sm_gd (fun h12 => ?_)
    refine sm_cv (N := mX10_drop) (d' := d - 1) (fun r => none) (fun r => r) (fun _ => τ) [vr x4] [] rfl (by decide +kernel) q1059 q1061 qs27 (Or.inl ⟨rfl, q1062⟩) (show okN yX10_drop 1 = true by decide +kernel) (fun H hR => hR.rv G.1 cd10 rfl h12) rfl rfl (by omega) rfl (fun Q' => vlu_drop_ok G (d - 1) (by omega) a0 x4 σ Q') (fun y13 => ?_)
    refine sm_b (l' := [(0, vr (some a0)), (1, vr a1), (2, vr x4)]) (st' := [vr a1]) (pc' := 47) [(.aload_n 1, vi 0, 47)] (by decide +kernel) rfl rfl ?_
    refine sm_st [vr (some p1)] (by rw [h2] <;> rfl) ?_
    refine sm_gd (fun h14 => ?_)
    refine sm_cv (N := mX12_isDefault) (d' := d - 1) (fun r => (some (vi r))) (fun _ => y13) (fun _ => τ) [] [] rfl (by decide +kernel) q1063 q1064 q1065 (Or.inl ⟨rfl, q1066⟩) (show okN yX12_isDefault 0 = true by decide +kernel) (fun H hR => hR.rv G.1 cd12 rfl h14) rfl rfl (by omega) rfl (fun Q' => sl_isDefault_ok G (d - 1) (by omega) p1 y13 Q') (fun y15 => ?_)
    refine sm_gd (fun h16 => ?_)
    refine sm_gd (fun h18 => ?_)
    refine sm_gd (fun h19 => ?_)
    refine sm_gd (fun h20 => ?_)
    refine sm_case (V g mX10_put d 61 [(0, vr (some a0)), (1, vr a1), (2, vr x4)] [] y13 τ Q) (V g mX10_put d 60 [(0, vr (some a0)), (1, vr a1), (2, vr x4)] [] y13 τ Q) ?_ ?_ (fun f28 p29 n30 => ?_)
    · refine sm_b (l' := [(0, vr (some a0)), (1, vr a1), (2, vr x4)]) (st' := [vr (some a0), vr a1]) (pc' := 63) [(.aload_n 1, vi 0, 62), (.aload_n 0, vi 0, 63)] (by decide +kernel) rfl rfl ?_
      refine sm_gd (fun h24 => ?_)
      refine sm_g (k := 1) (x := vr (sR y13 161 a0)) cd10 rfl h24 rfl q950 rfl (by decide +kernel) ?_
      refine sm_st [vr (sR y13 161 a0), vr (some p1)] (by rw [h2] <;> rfl) ?_
      refine sm_pN (k := 4) (x := vr (sR y13 161 a0)) cd12 rfl h14 rfl q1036 rfl (nar_r _ rfl) (fit_r _ rfl) rfl (at_pR y13 196 p1 (sR y13 161 a0)) (fp_196 y13 p1 (sR y13 161 a0)) (by decide +kernel) ?_
      refine sm_nms (fun σ25 => ?_)
      refine sm_b (l' := [(0, vr (some a0)), (1, vr a1), (2, vr x4)]) (st' := [vr a1, vr (some a0)]) (pc' := 71) [(.aload_n 0, vi 0, 70), (.aload_n 1, vi 0, 71)] (by decide +kernel) rfl rfl ?_
      refine sm_gd (fun h26 => ?_)
      refine sm_p (k := 1) (x := vr a1) cd10 rfl h26 rfl q950 rfl (nar_r _ rfl) (fit_r _ rfl) rfl (at_pR σ25 161 a0 a1) (fp_161 σ25 a0 a1) (by decide +kernel) ?_
      refine sm_nms (fun σ27 => ?_)
      exact sm_vret rfl (by decide +kernel) (fun h => hRET _ h)
    · exact sm_vret rfl (by decide +kernel) (fun h => hRET _ h)
    refine sm_if_eq (off := 11) (tgt := 61) h16 (by decide +kernel) (fun c31 => ?_) (fun c31 => ?_)
    · exact p29 (Or.inl c31)
    · have w17 : ¬ (y15 = 0) := c31
      refine sm_b (l' := [(0, vr (some a0)), (1, vr a1), (2, vr x4)]) (st' := [vr x4]) (pc' := 54) [(.aload_n 2, vi 0, 54)] (by decide +kernel) rfl rfl ?_
      refine sm_st [vr (some p5)] (by rw [h6] <;> rfl) ?_
      refine sm_cvp (N := mX8_keepsDefault) (d' := d - 1) (fun r => (some (vi r))) (some (vi (vv (fd_keepsDefault p5 y13)))) (h19 w17) (fun y h => by rw [vv_some h]) [] [] rfl (by decide +kernel) q1067 q1068 q1069 (Or.inl ⟨rfl, q1070⟩) (show okN yX8_keepsDefault 0 = true by decide +kernel) (fun H hR => hR.rv G.1 cd8 rfl (h18 w17)) rfl rfl (by omega) rfl (fun Q' => fd_keepsDefault_ok G (d - 1) (by omega) p5 y13 Q') ?_
      refine sm_if_ne (off := 4) (tgt := 61) (h20 w17) (by decide +kernel) (fun c32 => ?_) (fun c32 => ?_)
      · exact p29 (Or.inr c32)
      · exact n30 (fun q => q.elim c31 (fun q => q c32))
  · refine sm_b (l' := [(0, vr (some a0)), (1, vr a1), (2, vr x4)]) (st' := [vr (some a0)]) (pc' := 13) [(.aload_n 0, vi 0, 13)] (by decide +kernel) rfl rfl ?_
    refine sm_gd (fun h33 => ?_)
    refine sm_g (k := 2) (x := vr (sR σ 162 a0)) cd10 rfl h33 rfl q951 rfl (by decide +kernel) ?_
    refine sm_bind1 (fun (v36 : ST) => V g mX10_put d 35 [(0, vr (some a0)), (1, vr a1)] [] v36 τ Q) (fun v36 => ?_) (fun K37 j38 => ?_)
    · refine sm_b (l' := [(0, vr (some a0)), (1, vr a1)]) (st' := [vr a1, vr (some a0)]) (pc' := 37) [(.aload_n 0, vi 0, 36), (.aload_n 1, vi 0, 37)] (by decide +kernel) rfl rfl ?_
      refine sm_gd (fun h40 => ?_)
      refine sm_p (k := 3) (x := vr a1) cd10 rfl h40 rfl q954 rfl (nar_r _ rfl) (fit_r _ rfl) rfl (at_pR v36 163 a0 a1) (fp_163 v36 a0 a1) (by decide +kernel) ?_
      refine sm_nms (fun σ41 => ?_)
      exact sm_vret rfl (by decide +kernel) (fun h => hRET _ h)
    · refine sm_case (V g mX10_put d 19 [(0, vr (some a0)), (1, vr a1), (2, vr x4)] [] σ τ Q) (V g mX10_put d 27 [(0, vr (some a0)), (1, vr a1), (2, vr x4)] [] σ τ Q) ?_ ?_ (fun f47 p48 n49 => ?_)
      · refine sm_b (l' := [(0, vr (some a0)), (1, vr a1), (2, vr x4)]) (st' := [vr a1, vr (some a0)]) (pc' := 21) [(.aload_n 0, vi 0, 20), (.aload_n 1, vi 0, 21)] (by decide +kernel) rfl rfl ?_
        refine sm_p (k := 2) (x := vr a1) cd10 rfl h33 rfl q951 rfl (nar_r _ rfl) (fit_r _ rfl) rfl (at_pR σ 162 a0 a1) (fp_162 σ a0 a1) (by decide +kernel) ?_
        refine sm_nms (fun σ42 => ?_)
        refine sm_b (l' := [(0, vr (some a0)), (1, vr a1), (2, vr x4)]) (st' := []) (pc' := 35) [(.goto 11, vi 0, 35)] (by decide +kernel) rfl rfl ?_
        refine sm_pick [0, 1] (l' := [(0, vr (some a0)), (1, vr a1)]) rfl ?_
        exact sm_leaf (fun h => j38 _ h)
      · refine sm_b (l' := [(0, vr (some a0)), (1, vr a1), (2, vr x4)]) (st' := [vr (some a0)]) (pc' := 28) [(.aload_n 0, vi 0, 28)] (by decide +kernel) rfl rfl ?_
        refine sm_g (k := 3) (x := vr (sR σ 163 a0)) cd10 rfl h33 rfl q954 rfl (by decide +kernel) ?_
        refine sm_b (l' := [(0, vr (some a0)), (1, vr a1), (2, vr x4)]) (st' := [vr a1, vr (sR σ 163 a0)]) (pc' := 32) [(.aload_n 1, vi 0, 32)] (by decide +kernel) rfl rfl ?_
        refine sm_de (fun p43 h44 => ?_)
        refine sm_st [vr a1, vr (some p43)] (by rw [h44] <;> rfl) ?_
        refine sm_gd (fun h45 => ?_)
        refine sm_pN (k := 4) (x := vr a1) cd12 rfl h45 rfl q1036 rfl (nar_r _ rfl) (fit_r _ rfl) rfl (at_pR σ 196 p43 a1) (fp_196 σ p43 a1) (by decide +kernel) ?_
        refine sm_nms (fun σ46 => ?_)
        refine sm_pick [0, 1] (l' := [(0, vr (some a0)), (1, vr a1)]) rfl ?_
        exact sm_leaf (fun h => j38 _ h)
      refine sm_ifnonnull (off := 11) (tgt := 27) (by decide +kernel) (fun c50 => ?_) (fun c50 => ?_)
      · exact n49 c50
      · exact p48 c50
  refine sm_if_eq (off := 32) (tgt := 41) h8 (by decide +kernel) (fun c54 => ?_) (fun c54 => ?_)
  · exact p52 c54
  · exact n53 c54
def wr_length (bb : Nat × Nat) (a0 : Nat) (a1 : Int) (σ : ST) : Option (Option Int × ST) := gd (sc σ a0 = 12) (Option.bind (wr_varint bb a0 a1 σ) (tB (fun z => (none, z)) fun y3 σ4 => Option.bind (gd (¬ (y3 < 0) → sc σ4 a0 = 12) (if (y3 < 0) ∨ ((iL (a1 - (sI σ4 177 a0))) < y3) then (some 0) else (some 1))) fun (v9 : Int) => Option.bind (s_must bb v9 σ4) (tB (fun z => (none, z)) fun y14 σ15 => gd (sc σ15 a0 = 12) (some ((some ((sI σ15 177 a0) + (lI y3)), σ15))))))
set_option maxHeartbeats 4000000 in
theorem wr_length_ok {g : GE} (G : GG g) {τ : TT} (d : Nat) (hd1 : 8 ≤ d) (a0 : Nat) (a1 : Int)  (σ : ST) (Q : VQ) : Sm (V g mX11_length d 0 [(0, vr (some a0)), (1, vi a1)] [] σ τ Q) (wr_length (gRm g) a0 a1 σ) (fun r => tQ Q τ (fun r : Int => some (vi r)) r) := by
  unfold wr_length
  refine sm_top (fun K hRET => ?_)
  refine sm_b (l' := [(0, vr (some a0)), (1, vi a1)]) (st' := [vi a1, vr (some a0)]) (pc' := 2) [(.aload_n 0, vi 0, 1), (.iload_n 1, vi 0, 2)] (by decide +kernel) rfl rfl ?_
  refine sm_gd (fun h1 => ?_)
  refine sm_cvT (N := mX11_varint) (d' := d - 1) (fun r : Int64 => some (vl r)) (fun z => (none, z)) [vi a1] [] rfl (by decide +kernel) q980 q982 qs24 (Or.inl ⟨rfl, q983⟩) (show okN yX11_varint 1 = true by decide +kernel) (fun H hR => hR.rv G.1 cd11 rfl h1) rfl rfl (by omega) rfl (fun Q' => wr_varint_ok G (d - 1) (by omega) a0 a1 σ Q') (fun z h => hRET _ h) (fun y3 σ4 => ?_)
  refine sm_b (l' := [(0, vr (some a0)), (1, vi a1), (2, vl y3)]) (st' := [vl 0, vl y3]) (pc' := 8) [(.lstore_n 2, vi 0, 6), (.lload_n 2, vi 0, 7), (.lconst 0, vl 0, 8)] (by decide +kernel) rfl rfl ?_
  refine sm_bind1 (fun (v9 : Int) => V g mX11_length d 29 [(0, vr (some a0)), (2, vl y3)] [vi v9] σ4 τ Q) (fun v9 => ?_) (fun K10 j11 => ?_)
  · refine sm_csTE (N := mX11_must) (d' := d - 1) (fun _ : Unit => none) (fun z => (none, z)) [vi v9] [] rfl (by decide +kernel) q984 q985 q158 (Or.inl ⟨rfl, q986⟩) (show okN yX11_must 1 = true by decide +kernel) rfl rfl (by omega) rfl (fun Q' => wr_must_ok G (d - 1) (by omega) v9 σ4 Q') (fun z h => hRET _ h) (fun y14 σ15 => ?_)
    refine sm_b (l' := [(0, vr (some a0)), (2, vl y3)]) (st' := [vr (some a0)]) (pc' := 33) [(.aload_n 0, vi 0, 33)] (by decide +kernel) rfl rfl ?_
    refine sm_gd (fun h16 => ?_)
    refine sm_g (k := 1) (x := vi (sI σ15 177 a0)) cd11 rfl h16 rfl q971 rfl (by decide +kernel) ?_
    refine sm_b (l' := [(0, vr (some a0)), (2, vl y3)]) (st' := [vi ((sI σ15 177 a0) + (lI y3))]) (pc' := 39) [(.lload_n 2, vi 0, 37), (.l2i, vi 0, 38), (.iadd, vi 0, 39)] (by decide +kernel) rfl rfl ?_
    exact sm_iret rfl (by decide +kernel) (fun h => hRET _ h)
  · refine sm_gd (fun h6 => ?_)
    refine sm_case (V g mX11_length d 28 [(0, vr (some a0)), (1, vi a1), (2, vl y3)] [] σ4 τ Q) (V g mX11_length d 24 [(0, vr (some a0)), (1, vi a1), (2, vl y3)] [] σ4 τ Q) ?_ ?_ (fun f17 p18 n19 => ?_)
    · refine sm_b (l' := [(0, vr (some a0)), (1, vi a1), (2, vl y3)]) (st' := [vi 0]) (pc' := 29) [(.iconst 0, vi 0, 29)] (by decide +kernel) rfl rfl ?_
      refine sm_pick [0, 2] (l' := [(0, vr (some a0)), (2, vl y3)]) rfl ?_
      exact sm_leaf (fun h => j11 _ h)
    · refine sm_b (l' := [(0, vr (some a0)), (1, vi a1), (2, vl y3)]) (st' := [vi 1]) (pc' := 29) [(.iconst 1, vi 1, 25), (.goto 4, vi 0, 29)] (by decide +kernel) rfl rfl ?_
      refine sm_pick [0, 2] (l' := [(0, vr (some a0)), (2, vl y3)]) rfl ?_
      exact sm_leaf (fun h => j11 _ h)
    refine sm_lc_lt (off := 19) (tgt := 28) (by decide +kernel) (by decide +kernel) (fun c20 => ?_) (fun c20 => ?_)
    · exact p18 (Or.inl c20)
    · have w5 : ¬ (y3 < 0) := c20
      refine sm_b (l' := [(0, vr (some a0)), (1, vi a1), (2, vl y3)]) (st' := [vr (some a0), vi a1, vl y3]) (pc' := 15) [(.lload_n 2, vi 0, 13), (.iload_n 1, vi 0, 14), (.aload_n 0, vi 0, 15)] (by decide +kernel) rfl rfl ?_
      refine sm_g (k := 1) (x := vi (sI σ4 177 a0)) cd11 rfl (h6 w5) rfl q971 rfl (by decide +kernel) ?_
      refine sm_b (l' := [(0, vr (some a0)), (1, vi a1), (2, vl y3)]) (st' := [vl (iL (a1 - (sI σ4 177 a0))), vl y3]) (pc' := 20) [(.isub, vi 0, 19), (.i2l, vi 0, 20)] (by decide +kernel) rfl rfl ?_
      refine sm_lc_gt (off := 7) (tgt := 28) (by decide +kernel) (by decide +kernel) (fun c21 => ?_) (fun c21 => ?_)
      · exact p18 (Or.inr c21)
      · exact n19 (fun q => q.elim c20 c21)
def row_signLength_L90 (u0 : Nat) (u1 : Int) (u2 : Int) (u3 : Int) (σ : ST) : Nat → Int → Option ((Int) ⊕ (Unit))
  | 0, _ => none
  | n + 1, w4 => gd (rg w4) (gd (rg u3) (if u3 ≤ w4 then (some (Sum.inr (()))) else (gd (sc σ u0 = 4) (Option.bind (row_at u0 (u1 + w4) σ) fun y75 => if (iAnd y75 192) = 128 then (row_signLength_L90 u0 u1 u2 u3 σ n (w4 + 1)) else (some (Sum.inl 0))))))
def row_signLength (a0 : Nat) (a1 : Int) (σ : ST) : Option (Int) := gd (sc σ a0 = 4) (Option.bind (row_at a0 a1 σ) fun y2 => gd (rg y2) (if 128 ≤ y2 then (Option.bind (if (y2 < 240) ∨ (245 ≤ y2) then (if (y2 < 224) ∨ (240 ≤ y2) then (if (y2 < 194) ∨ (224 ≤ y2) then (some 0) else (some 2)) else (some 3)) else (some 4)) fun (v9 : Int) => gd (rg v9) (gd (¬ (v9 = 0) → rg (a1 + v9)) (if (v9 = 0) ∨ (¬ ((a1 + v9) ≤ ((((sW σ a0).length : Nat) : Int)))) then (some 0) else (Option.bind (row_signLength_L90 a0 a1 y2 v9 σ FU 1) (Sum.elim some fun (v20 : Unit) => Option.bind (row_at a0 (a1 + 1) σ) fun y24 => Option.bind (gd (y2 = 224 → rg y24) (if (y2 = 224) ∧ (y24 < 160) then (some 1) else (gd (y2 = 237 → rg y24) (if (y2 = 237) ∧ (159 < y24) then (some 1) else (gd (y2 = 240 → rg y24) (if (y2 = 240) ∧ (y24 < 144) then (some 1) else (gd (y2 = 244 → rg y24) (if (y2 = 244) ∧ (¬ (y24 ≤ 143)) then (some 1) else (some 0))))))))) fun (v28 : Int) => gd (rg v28) (if v28 = 0 then (some v9) else (some 0))))))) else (some 1)))
set_option maxHeartbeats 4000000 in
theorem row_signLength_L90_ok {g : GE} (G : GG g) {τ : TT} {Q : VQ} (d : Nat) (hd1 : 1 ≤ d) (u0 : Nat) (u1 : Int) (u2 : Int) (u3 : Int) (σ : ST)  {K : (Int) ⊕ (Unit) → Prop} (hRET : ∀ r : Int, K (Sum.inl r) → Q.1 (some (vi r)) σ τ) (hE122 : ∀ v68 : Unit, K (Sum.inr v68) → V g mX3_signLength d 122 [(0, vr (some u0)), (1, vi u1), (2, vi u2), (3, vi u3)] [] σ τ Q) : ∀ (n : Nat) (w4 : Int), Sm (V g mX3_signLength d 90 [(0, vr (some u0)), (1, vi u1), (2, vi u2), (3, vi u3), (4, vi w4)] [] σ τ Q) (row_signLength_L90 u0 u1 u2 u3 σ n w4) K := by
  intro n
  induction n with
  | zero => intro w4; exact sm_none
  | succ n ih =>
    intro w4
    rw [row_signLength_L90.eq_2]
    refine sm_b (l' := [(0, vr (some u0)), (1, vi u1), (2, vi u2), (3, vi u3), (4, vi w4)]) (st' := [vi u3, vi w4]) (pc' := 93) [(.iload 4, vi 0, 92), (.iload_n 3, vi 0, 93)] (by decide +kernel) rfl rfl ?_
    refine sm_gd (fun h69 => ?_)
    refine sm_gd (fun h70 => ?_)
    refine sm_case (V g mX3_signLength d 122 [(0, vr (some u0)), (1, vi u1), (2, vi u2), (3, vi u3), (4, vi w4)] [] σ τ Q) (V g mX3_signLength d 96 [(0, vr (some u0)), (1, vi u1), (2, vi u2), (3, vi u3), (4, vi w4)] [] σ τ Q) ?_ ?_ (fun f82 p83 n84 => ?_)
    · refine sm_pick [0, 1, 2, 3] (l' := [(0, vr (some u0)), (1, vi u1), (2, vi u2), (3, vi u3)]) rfl ?_
      exact sm_leaf (fun h => hE122 _ h)
    · refine sm_b (l' := [(0, vr (some u0)), (1, vi u1), (2, vi u2), (3, vi u3), (4, vi w4)]) (st' := [vi (u1 + w4), vr (some u0)]) (pc' := 101) [(.aload_n 0, vi 0, 97), (.iload_n 1, vi 0, 98), (.iload 4, vi 0, 100), (.iadd, vi 0, 101)] (by decide +kernel) rfl rfl ?_
      refine sm_gd (fun h74 => ?_)
      refine sm_cv (N := mX3_at) (d' := d - 1) (fun r => (some (vi r))) (fun _ => σ) (fun _ => τ) [vi (u1 + w4)] [] rfl (by decide +kernel) q1086 q710 q711 (Or.inl ⟨rfl, q712⟩) (show okN yX3_at 1 = true by decide +kernel) (fun H hR => hR.rvR G.1 h74) rfl rfl (by omega) rfl (fun Q' => row_at_ok G (d - 1) (by omega) u0 (u1 + w4) σ Q') (fun y75 => ?_)
      refine sm_b (l' := [(0, vr (some u0)), (1, vi u1), (2, vi u2), (3, vi u3), (4, vi w4)]) (st' := [vi 128, vi (iAnd y75 192)]) (pc' := 111) [(.sipush 192, vi 192, 107), (.iand, vi 0, 108), (.sipush 128, vi 128, 111)] (by decide +kernel) rfl rfl ?_
      refine sm_case (V g mX3_signLength d 116 [(0, vr (some u0)), (1, vi u1), (2, vi u2), (3, vi u3), (4, vi w4)] [] σ τ Q) (V g mX3_signLength d 114 [(0, vr (some u0)), (1, vi u1), (2, vi u2), (3, vi u3), (4, vi w4)] [] σ τ Q) ?_ ?_ (fun f78 p79 n80 => ?_)
      · refine sm_b (l' := [(0, vr (some u0)), (1, vi u1), (2, vi u2), (3, vi u3), (4, vi (w4 + 1))]) (st' := []) (pc' := 90) [(.iinc 4 1, vi 1, 119), (.goto (-29), vi 0, 90)] (by decide +kernel) rfl rfl ?_
        exact ih (w4 + 1)
      · refine sm_b (l' := [(0, vr (some u0)), (1, vi u1), (2, vi u2), (3, vi u3), (4, vi w4)]) (st' := [vi 0]) (pc' := 115) [(.iconst 0, vi 0, 115)] (by decide +kernel) rfl rfl ?_
        exact sm_iret rfl (by decide +kernel) (fun h => hRET _ h)
      refine sm_icmp_eq (off := 5) (tgt := 116) (rg_in _) (by decide) (by decide +kernel) (fun c81 => ?_) (fun c81 => ?_)
      · exact p79 c81
      · exact n80 c81
    refine sm_icmp_ge (off := 29) (tgt := 122) h69 h70 (by decide +kernel) (fun c85 => ?_) (fun c85 => ?_)
    · exact p83 c85
    · exact n84 c85
set_option maxHeartbeats 4000000 in
theorem row_signLength_ok {g : GE} (G : GG g) {τ : TT} (d : Nat) (hd1 : 1 ≤ d) (a0 : Nat) (a1 : Int)  (σ : ST) (Q : VQ) : Sm (V g mX3_signLength d 0 [(0, vr (some a0)), (1, vi a1)] [] σ τ Q) (row_signLength a0 a1 σ) (fun r => Q.1 (some (vi r)) σ τ) := by
  unfold row_signLength
  refine sm_top (fun K hRET => ?_)
  refine sm_b (l' := [(0, vr (some a0)), (1, vi a1)]) (st' := [vi a1, vr (some a0)]) (pc' := 2) [(.aload_n 0, vi 0, 1), (.iload_n 1, vi 0, 2)] (by decide +kernel) rfl rfl ?_
  refine sm_gd (fun h1 => ?_)
  refine sm_cv (N := mX3_at) (d' := d - 1) (fun r => (some (vi r))) (fun _ => σ) (fun _ => τ) [vi a1] [] rfl (by decide +kernel) q1086 q710 q711 (Or.inl ⟨rfl, q712⟩) (show okN yX3_at 1 = true by decide +kernel) (fun H hR => hR.rvR G.1 h1) rfl rfl (by omega) rfl (fun Q' => row_at_ok G (d - 1) (by omega) a0 a1 σ Q') (fun y2 => ?_)
  refine sm_b (l' := [(0, vr (some a0)), (1, vi a1), (2, vi y2)]) (st' := [vi 128, vi y2]) (pc' := 10) [(.istore_n 2, vi 0, 6), (.iload_n 2, vi 0, 7), (.sipush 128, vi 128, 10)] (by decide +kernel) rfl rfl ?_
  refine sm_gd (fun h3 => ?_)
  refine sm_case (V g mX3_signLength d 15 [(0, vr (some a0)), (1, vi a1), (2, vi y2)] [] σ τ Q) (V g mX3_signLength d 13 [(0, vr (some a0)), (1, vi a1), (2, vi y2)] [] σ τ Q) ?_ ?_ (fun f112 p113 n114 => ?_)
  · refine sm_b (l' := [(0, vr (some a0)), (1, vi a1), (2, vi y2)]) (st' := [vi 240, vi y2]) (pc' := 19) [(.iload_n 2, vi 0, 16), (.sipush 240, vi 240, 19)] (by decide +kernel) rfl rfl ?_
    refine sm_bind1 (fun (v9 : Int) => V g mX3_signLength d 70 [(0, vr (some a0)), (1, vi a1), (2, vi y2)] [vi v9] σ τ Q) (fun v9 => ?_) (fun K10 j11 => ?_)
    · refine sm_b (l' := [(0, vr (some a0)), (1, vi a1), (2, vi y2), (3, vi v9)]) (st' := [vi v9]) (pc' := 72) [(.istore_n 3, vi 0, 71), (.iload_n 3, vi 0, 72)] (by decide +kernel) rfl rfl ?_
      refine sm_gd (fun h13 => ?_)
      refine sm_gd (fun h17 => ?_)
      refine sm_case (V g mX3_signLength d 85 [(0, vr (some a0)), (1, vi a1), (2, vi y2), (3, vi v9)] [] σ τ Q) (V g mX3_signLength d 87 [(0, vr (some a0)), (1, vi a1), (2, vi y2), (3, vi v9)] [] σ τ Q) ?_ ?_ (fun f86 p87 n88 => ?_)
      · refine sm_b (l' := [(0, vr (some a0)), (1, vi a1), (2, vi y2), (3, vi v9)]) (st' := [vi 0]) (pc' := 86) [(.iconst 0, vi 0, 86)] (by decide +kernel) rfl rfl ?_
        exact sm_iret rfl (by decide +kernel) (fun h => hRET _ h)
      · refine sm_b (l' := [(0, vr (some a0)), (1, vi a1), (2, vi y2), (3, vi v9), (4, vi 1)]) (st' := []) (pc' := 90) [(.iconst 1, vi 1, 88), (.istore 4, vi 0, 90)] (by decide +kernel) rfl rfl ?_
        refine sm_bindS (fun (v20 : Unit) => V g mX3_signLength d 122 [(0, vr (some a0)), (1, vi a1), (2, vi y2), (3, vi v9)] [] σ τ Q) (fun v20 => ?_) (fun K21 o23 j22 => ?_)
        · refine sm_b (l' := [(0, vr (some a0)), (1, vi a1), (2, vi y2), (3, vi v9)]) (st' := [vi (a1 + 1), vr (some a0)]) (pc' := 126) [(.aload_n 0, vi 0, 123), (.iload_n 1, vi 0, 124), (.iconst 1, vi 1, 125), (.iadd, vi 0, 126)] (by decide +kernel) rfl rfl ?_
          refine sm_cv (N := mX3_at) (d' := d - 1) (fun r => (some (vi r))) (fun _ => σ) (fun _ => τ) [vi (a1 + 1)] [] rfl (by decide +kernel) q1086 q710 q711 (Or.inl ⟨rfl, q712⟩) (show okN yX3_at 1 = true by decide +kernel) (fun H hR => hR.rvR G.1 h1) rfl rfl (by omega) rfl (fun Q' => row_at_ok G (d - 1) (by omega) a0 (a1 + 1) σ Q') (fun y24 => ?_)
          refine sm_b (l' := [(0, vr (some a0)), (1, vi a1), (2, vi y2), (3, vi v9), (4, vi y24)]) (st' := [vi 224, vi y2]) (pc' := 135) [(.istore 4, vi 0, 131), (.iload_n 2, vi 0, 132), (.sipush 224, vi 224, 135)] (by decide +kernel) rfl rfl ?_
          refine sm_bind1 (fun (v28 : Int) => V g mX3_signLength d 196 [(3, vi v9)] [vi v28] σ τ Q) (fun v28 => ?_) (fun K29 j30 => ?_)
          · refine sm_b (l' := [(3, vi v9), (5, vi v28)]) (st' := [vi v28]) (pc' := 200) [(.istore 5, vi 0, 198), (.iload 5, vi 0, 200)] (by decide +kernel) rfl rfl ?_
            refine sm_gd (fun h32 => ?_)
            refine sm_case (V g mX3_signLength d 207 [(3, vi v9), (5, vi v28)] [] σ τ Q) (V g mX3_signLength d 203 [(3, vi v9), (5, vi v28)] [] σ τ Q) ?_ ?_ (fun f35 p36 n37 => ?_)
            · refine sm_b (l' := [(3, vi v9), (5, vi v28)]) (st' := [vi v9]) (pc' := 208) [(.iload_n 3, vi 0, 208)] (by decide +kernel) rfl rfl ?_
              exact sm_iret rfl (by decide +kernel) (fun h => hRET _ h)
            · refine sm_b (l' := [(3, vi v9), (5, vi v28)]) (st' := [vi 0]) (pc' := 208) [(.iconst 0, vi 0, 204), (.goto 4, vi 0, 208)] (by decide +kernel) rfl rfl ?_
              exact sm_iret rfl (by decide +kernel) (fun h => hRET _ h)
            refine sm_if_eq (off := 7) (tgt := 207) h32 (by decide +kernel) (fun c38 => ?_) (fun c38 => ?_)
            · exact p36 c38
            · exact n37 c38
          · refine sm_gd (fun h26 => ?_)
            refine sm_case (V g mX3_signLength d 191 [(0, vr (some a0)), (1, vi a1), (2, vi y2), (3, vi v9), (4, vi y24)] [] σ τ Q) (V g mX3_signLength d 146 [(0, vr (some a0)), (1, vi a1), (2, vi y2), (3, vi v9), (4, vi y24)] [] σ τ Q) ?_ ?_ (fun f63 p64 n65 => ?_)
            · refine sm_b (l' := [(0, vr (some a0)), (1, vi a1), (2, vi y2), (3, vi v9), (4, vi y24)]) (st' := [vi 1]) (pc' := 196) [(.iconst 1, vi 1, 192), (.goto 4, vi 0, 196)] (by decide +kernel) rfl rfl ?_
              refine sm_pick [3] (l' := [(3, vi v9)]) rfl ?_
              exact sm_leaf (fun h => j30 _ h)
            · refine sm_b (l' := [(0, vr (some a0)), (1, vi a1), (2, vi y2), (3, vi v9), (4, vi y24)]) (st' := [vi 237, vi y2]) (pc' := 150) [(.iload_n 2, vi 0, 147), (.sipush 237, vi 237, 150)] (by decide +kernel) rfl rfl ?_
              refine sm_gd (fun h40 => ?_)
              refine sm_case (V g mX3_signLength d 191 [(0, vr (some a0)), (1, vi a1), (2, vi y2), (3, vi v9), (4, vi y24)] [] σ τ Q) (V g mX3_signLength d 161 [(0, vr (some a0)), (1, vi a1), (2, vi y2), (3, vi v9), (4, vi y24)] [] σ τ Q) ?_ ?_ (fun f58 p59 n60 => ?_)
              · refine sm_b (l' := [(0, vr (some a0)), (1, vi a1), (2, vi y2), (3, vi v9), (4, vi y24)]) (st' := [vi 1]) (pc' := 196) [(.iconst 1, vi 1, 192), (.goto 4, vi 0, 196)] (by decide +kernel) rfl rfl ?_
                refine sm_pick [3] (l' := [(3, vi v9)]) rfl ?_
                exact sm_leaf (fun h => j30 _ h)
              · refine sm_b (l' := [(0, vr (some a0)), (1, vi a1), (2, vi y2), (3, vi v9), (4, vi y24)]) (st' := [vi 240, vi y2]) (pc' := 165) [(.iload_n 2, vi 0, 162), (.sipush 240, vi 240, 165)] (by decide +kernel) rfl rfl ?_
                refine sm_gd (fun h43 => ?_)
                refine sm_case (V g mX3_signLength d 191 [(0, vr (some a0)), (1, vi a1), (2, vi y2), (3, vi v9), (4, vi y24)] [] σ τ Q) (V g mX3_signLength d 176 [(0, vr (some a0)), (1, vi a1), (2, vi y2), (3, vi v9), (4, vi y24)] [] σ τ Q) ?_ ?_ (fun f53 p54 n55 => ?_)
                · refine sm_b (l' := [(0, vr (some a0)), (1, vi a1), (2, vi y2), (3, vi v9), (4, vi y24)]) (st' := [vi 1]) (pc' := 196) [(.iconst 1, vi 1, 192), (.goto 4, vi 0, 196)] (by decide +kernel) rfl rfl ?_
                  refine sm_pick [3] (l' := [(3, vi v9)]) rfl ?_
                  exact sm_leaf (fun h => j30 _ h)
                · refine sm_b (l' := [(0, vr (some a0)), (1, vi a1), (2, vi y2), (3, vi v9), (4, vi y24)]) (st' := [vi 244, vi y2]) (pc' := 180) [(.iload_n 2, vi 0, 177), (.sipush 244, vi 244, 180)] (by decide +kernel) rfl rfl ?_
                  refine sm_gd (fun h46 => ?_)
                  refine sm_case (V g mX3_signLength d 191 [(0, vr (some a0)), (1, vi a1), (2, vi y2), (3, vi v9), (4, vi y24)] [] σ τ Q) (V g mX3_signLength d 195 [(0, vr (some a0)), (1, vi a1), (2, vi y2), (3, vi v9), (4, vi y24)] [] σ τ Q) ?_ ?_ (fun f48 p49 n50 => ?_)
                  · refine sm_b (l' := [(0, vr (some a0)), (1, vi a1), (2, vi y2), (3, vi v9), (4, vi y24)]) (st' := [vi 1]) (pc' := 196) [(.iconst 1, vi 1, 192), (.goto 4, vi 0, 196)] (by decide +kernel) rfl rfl ?_
                    refine sm_pick [3] (l' := [(3, vi v9)]) rfl ?_
                    exact sm_leaf (fun h => j30 _ h)
                  · refine sm_b (l' := [(0, vr (some a0)), (1, vi a1), (2, vi y2), (3, vi v9), (4, vi y24)]) (st' := [vi 0]) (pc' := 196) [(.iconst 0, vi 0, 196)] (by decide +kernel) rfl rfl ?_
                    refine sm_pick [3] (l' := [(3, vi v9)]) rfl ?_
                    exact sm_leaf (fun h => j30 _ h)
                  refine sm_icmp_ne (off := 15) (tgt := 195) h3 (by decide) (by decide +kernel) (fun c51 => ?_) (fun c51 => ?_)
                  · exact n50 (fun q => c51 q.1)
                  · have w45 : y2 = 244 := c51
                    refine sm_b (l' := [(0, vr (some a0)), (1, vi a1), (2, vi y2), (3, vi v9), (4, vi y24)]) (st' := [vi 143, vi y24]) (pc' := 188) [(.iload 4, vi 0, 185), (.sipush 143, vi 143, 188)] (by decide +kernel) rfl rfl ?_
                    refine sm_icmp_le (off := 7) (tgt := 195) (h46 w45) (by decide) (by decide +kernel) (fun c52 => ?_) (fun c52 => ?_)
                    · exact n50 (fun q => (fun q => q c52) q.2)
                    · exact p49 ⟨c51, c52⟩
                refine sm_icmp_ne (off := 11) (tgt := 176) h3 (by decide) (by decide +kernel) (fun c56 => ?_) (fun c56 => ?_)
                · exact n55 (fun q => c56 q.1)
                · have w42 : y2 = 240 := c56
                  refine sm_b (l' := [(0, vr (some a0)), (1, vi a1), (2, vi y2), (3, vi v9), (4, vi y24)]) (st' := [vi 144, vi y24]) (pc' := 173) [(.iload 4, vi 0, 170), (.sipush 144, vi 144, 173)] (by decide +kernel) rfl rfl ?_
                  refine sm_icmp_lt (off := 18) (tgt := 191) (h43 w42) (by decide) (by decide +kernel) (fun c57 => ?_) (fun c57 => ?_)
                  · exact p54 ⟨c56, c57⟩
                  · exact n55 (fun q => c57 q.2)
              refine sm_icmp_ne (off := 11) (tgt := 161) h3 (by decide) (by decide +kernel) (fun c61 => ?_) (fun c61 => ?_)
              · exact n60 (fun q => c61 q.1)
              · have w39 : y2 = 237 := c61
                refine sm_b (l' := [(0, vr (some a0)), (1, vi a1), (2, vi y2), (3, vi v9), (4, vi y24)]) (st' := [vi 159, vi y24]) (pc' := 158) [(.iload 4, vi 0, 155), (.sipush 159, vi 159, 158)] (by decide +kernel) rfl rfl ?_
                refine sm_icmp_gt (off := 33) (tgt := 191) (h40 w39) (by decide) (by decide +kernel) (fun c62 => ?_) (fun c62 => ?_)
                · exact p59 ⟨c61, c62⟩
                · exact n60 (fun q => c62 q.2)
            refine sm_icmp_ne (off := 11) (tgt := 146) h3 (by decide) (by decide +kernel) (fun c66 => ?_) (fun c66 => ?_)
            · exact n65 (fun q => c66 q.1)
            · have w25 : y2 = 224 := c66
              refine sm_b (l' := [(0, vr (some a0)), (1, vi a1), (2, vi y2), (3, vi v9), (4, vi y24)]) (st' := [vi 160, vi y24]) (pc' := 143) [(.iload 4, vi 0, 140), (.sipush 160, vi 160, 143)] (by decide +kernel) rfl rfl ?_
              refine sm_icmp_lt (off := 48) (tgt := 191) (h26 w25) (by decide) (by decide +kernel) (fun c67 => ?_) (fun c67 => ?_)
              · exact p64 ⟨c66, c67⟩
              · exact n65 (fun q => c67 q.2)
        · exact row_signLength_L90_ok G d hd1 a0 a1 y2 v9 σ  (fun r h => hRET _ (o23 _ h)) (fun _ h => j22 _ h) FU 1
      refine sm_if_eq (off := 13) (tgt := 85) h13 (by decide +kernel) (fun c89 => ?_) (fun c89 => ?_)
      · exact p87 (Or.inl c89)
      · have w14 : ¬ (v9 = 0) := c89
        refine sm_b (l' := [(0, vr (some a0)), (1, vi a1), (2, vi y2), (3, vi v9)]) (st' := [vr (some a0), vi (a1 + v9)]) (pc' := 79) [(.iload_n 1, vi 0, 76), (.iload_n 3, vi 0, 77), (.iadd, vi 0, 78), (.aload_n 0, vi 0, 79)] (by decide +kernel) rfl rfl ?_
        refine sm_rsz h1 q278 (by decide +kernel) ?_
        refine sm_rowf h1 (fun b15 b16 => ?_)
        refine sm_icmp_le (off := 5) (tgt := 87) (h17 w14) (rwl_rg (Nat.lt_of_le_of_lt b15 b16)) (by decide +kernel) (fun c90 => ?_) (fun c90 => ?_)
        · exact n88 (fun q => q.elim c89 (fun q => q c90))
        · exact p87 (Or.inr c90)
    · refine sm_case (V g mX3_signLength d 33 [(0, vr (some a0)), (1, vi a1), (2, vi y2)] [] σ τ Q) (V g mX3_signLength d 29 [(0, vr (some a0)), (1, vi a1), (2, vi y2)] [] σ τ Q) ?_ ?_ (fun f107 p108 n109 => ?_)
      · refine sm_b (l' := [(0, vr (some a0)), (1, vi a1), (2, vi y2)]) (st' := [vi 224, vi y2]) (pc' := 37) [(.iload_n 2, vi 0, 34), (.sipush 224, vi 224, 37)] (by decide +kernel) rfl rfl ?_
        refine sm_case (V g mX3_signLength d 51 [(0, vr (some a0)), (1, vi a1), (2, vi y2)] [] σ τ Q) (V g mX3_signLength d 47 [(0, vr (some a0)), (1, vi a1), (2, vi y2)] [] σ τ Q) ?_ ?_ (fun f102 p103 n104 => ?_)
        · refine sm_b (l' := [(0, vr (some a0)), (1, vi a1), (2, vi y2)]) (st' := [vi 194, vi y2]) (pc' := 55) [(.iload_n 2, vi 0, 52), (.sipush 194, vi 194, 55)] (by decide +kernel) rfl rfl ?_
          refine sm_case (V g mX3_signLength d 69 [(0, vr (some a0)), (1, vi a1), (2, vi y2)] [] σ τ Q) (V g mX3_signLength d 65 [(0, vr (some a0)), (1, vi a1), (2, vi y2)] [] σ τ Q) ?_ ?_ (fun f97 p98 n99 => ?_)
          · refine sm_b (l' := [(0, vr (some a0)), (1, vi a1), (2, vi y2)]) (st' := [vi 0]) (pc' := 70) [(.iconst 0, vi 0, 70)] (by decide +kernel) rfl rfl ?_
            exact sm_leaf (fun h => j11 _ h)
          · refine sm_b (l' := [(0, vr (some a0)), (1, vi a1), (2, vi y2)]) (st' := [vi 2]) (pc' := 70) [(.iconst 2, vi 2, 66), (.goto 4, vi 0, 70)] (by decide +kernel) rfl rfl ?_
            exact sm_leaf (fun h => j11 _ h)
          refine sm_icmp_lt (off := 14) (tgt := 69) h3 (by decide) (by decide +kernel) (fun c100 => ?_) (fun c100 => ?_)
          · exact p98 (Or.inl c100)
          · refine sm_b (l' := [(0, vr (some a0)), (1, vi a1), (2, vi y2)]) (st' := [vi 224, vi y2]) (pc' := 62) [(.iload_n 2, vi 0, 59), (.sipush 224, vi 224, 62)] (by decide +kernel) rfl rfl ?_
            refine sm_icmp_ge (off := 7) (tgt := 69) h3 (by decide) (by decide +kernel) (fun c101 => ?_) (fun c101 => ?_)
            · exact p98 (Or.inr c101)
            · exact n99 (fun q => q.elim c100 c101)
        · refine sm_b (l' := [(0, vr (some a0)), (1, vi a1), (2, vi y2)]) (st' := [vi 3]) (pc' := 70) [(.iconst 3, vi 3, 48), (.goto 22, vi 0, 70)] (by decide +kernel) rfl rfl ?_
          exact sm_leaf (fun h => j11 _ h)
        refine sm_icmp_lt (off := 14) (tgt := 51) h3 (by decide) (by decide +kernel) (fun c105 => ?_) (fun c105 => ?_)
        · exact p103 (Or.inl c105)
        · refine sm_b (l' := [(0, vr (some a0)), (1, vi a1), (2, vi y2)]) (st' := [vi 240, vi y2]) (pc' := 44) [(.iload_n 2, vi 0, 41), (.sipush 240, vi 240, 44)] (by decide +kernel) rfl rfl ?_
          refine sm_icmp_ge (off := 7) (tgt := 51) h3 (by decide) (by decide +kernel) (fun c106 => ?_) (fun c106 => ?_)
          · exact p103 (Or.inr c106)
          · exact n104 (fun q => q.elim c105 c106)
      · refine sm_b (l' := [(0, vr (some a0)), (1, vi a1), (2, vi y2)]) (st' := [vi 4]) (pc' := 70) [(.iconst 4, vi 4, 30), (.goto 40, vi 0, 70)] (by decide +kernel) rfl rfl ?_
        exact sm_leaf (fun h => j11 _ h)
      refine sm_icmp_lt (off := 14) (tgt := 33) h3 (by decide) (by decide +kernel) (fun c110 => ?_) (fun c110 => ?_)
      · exact p108 (Or.inl c110)
      · refine sm_b (l' := [(0, vr (some a0)), (1, vi a1), (2, vi y2)]) (st' := [vi 245, vi y2]) (pc' := 26) [(.iload_n 2, vi 0, 23), (.sipush 245, vi 245, 26)] (by decide +kernel) rfl rfl ?_
        refine sm_icmp_ge (off := 7) (tgt := 33) h3 (by decide) (by decide +kernel) (fun c111 => ?_) (fun c111 => ?_)
        · exact p108 (Or.inr c111)
        · exact n109 (fun q => q.elim c110 c111)
  · refine sm_b (l' := [(0, vr (some a0)), (1, vi a1), (2, vi y2)]) (st' := [vi 1]) (pc' := 14) [(.iconst 1, vi 1, 14)] (by decide +kernel) rfl rfl ?_
    exact sm_iret rfl (by decide +kernel) (fun h => hRET _ h)
  refine sm_icmp_ge (off := 5) (tgt := 15) h3 (by decide) (by decide +kernel) (fun c115 => ?_) (fun c115 => ?_)
  · exact p113 c115
  · exact n114 c115
def row_isText_L2 (u0 : Nat) (σ : ST) : Nat → Int → Option (Int)
  | 0, _ => none
  | n + 1, w1 => gd (sc σ u0 = 4) (gd (rg w1) (if ((((sW σ u0).length : Nat) : Int)) ≤ w1 then (some 1) else (Option.bind (row_signLength u0 w1 σ) fun y8 => gd (rg y8) (if y8 = 0 then (some 0) else (nm (w1 + y8) fun x12 => row_isText_L2 u0 σ n x12)))))
def row_isText (a0 : Nat) (σ : ST) : Option (Int) := row_isText_L2 a0 σ FU 0
set_option maxHeartbeats 4000000 in
theorem row_isText_L2_ok {g : GE} (G : GG g) {τ : TT} {Q : VQ} (d : Nat) (hd1 : 2 ≤ d) (u0 : Nat) (σ : ST)  {K : Int → Prop} (hRET : ∀ r : Int, K (r) → Q.1 (some (vi r)) σ τ) : ∀ (n : Nat) (w1 : Int), Sm (V g mX3_isText d 2 [(0, vr (some u0)), (1, vi w1)] [] σ τ Q) (row_isText_L2 u0 σ n w1) K := by
  intro n
  induction n with
  | zero => intro w1; exact sm_none
  | succ n ih =>
    intro w1
    rw [row_isText_L2.eq_2]
    refine sm_b (l' := [(0, vr (some u0)), (1, vi w1)]) (st' := [vr (some u0), vi w1]) (pc' := 4) [(.iload_n 1, vi 0, 3), (.aload_n 0, vi 0, 4)] (by decide +kernel) rfl rfl ?_
    refine sm_gd (fun h1 => ?_)
    refine sm_rsz h1 q278 (by decide +kernel) ?_
    refine sm_rowf h1 (fun b2 b3 => ?_)
    refine sm_gd (fun h4 => ?_)
    refine sm_case (V g mX3_isText d 29 [(0, vr (some u0)), (1, vi w1)] [] σ τ Q) (V g mX3_isText d 10 [(0, vr (some u0)), (1, vi w1)] [] σ τ Q) ?_ ?_ (fun f17 p18 n19 => ?_)
    · refine sm_b (l' := [(0, vr (some u0)), (1, vi w1)]) (st' := [vi 1]) (pc' := 30) [(.iconst 1, vi 1, 30)] (by decide +kernel) rfl rfl ?_
      exact sm_zret rfl (by decide +kernel) (by decide) (fun h => hRET _ h)
    · refine sm_b (l' := [(0, vr (some u0)), (1, vi w1)]) (st' := [vi w1, vr (some u0)]) (pc' := 12) [(.aload_n 0, vi 0, 11), (.iload_n 1, vi 0, 12)] (by decide +kernel) rfl rfl ?_
      refine sm_cv (N := mX3_signLength) (d' := d - 1) (fun r => (some (vi r))) (fun _ => σ) (fun _ => τ) [vi w1] [] rfl (by decide +kernel) q1082 q1084 qs29 (Or.inl ⟨rfl, q1085⟩) (show okN yX3_signLength 1 = true by decide +kernel) (fun H hR => hR.rvR G.1 h1) rfl rfl (by omega) rfl (fun Q' => row_signLength_ok G (d - 1) (by omega) u0 w1 σ Q') (fun y8 => ?_)
      refine sm_b (l' := [(0, vr (some u0)), (1, vi w1), (2, vi y8)]) (st' := [vi y8]) (pc' := 17) [(.istore_n 2, vi 0, 16), (.iload_n 2, vi 0, 17)] (by decide +kernel) rfl rfl ?_
      refine sm_gd (fun h9 => ?_)
      refine sm_case (V g mX3_isText d 20 [(0, vr (some u0)), (1, vi w1), (2, vi y8)] [] σ τ Q) (V g mX3_isText d 22 [(0, vr (some u0)), (1, vi w1), (2, vi y8)] [] σ τ Q) ?_ ?_ (fun f13 p14 n15 => ?_)
      · refine sm_b (l' := [(0, vr (some u0)), (1, vi w1), (2, vi y8)]) (st' := [vi 0]) (pc' := 21) [(.iconst 0, vi 0, 21)] (by decide +kernel) rfl rfl ?_
        exact sm_zret rfl (by decide +kernel) (by decide) (fun h => hRET _ h)
      · refine sm_b (l' := [(0, vr (some u0)), (1, vi w1), (2, vi y8)]) (st' := [vi (w1 + y8)]) (pc' := 25) [(.iload_n 1, vi 0, 23), (.iload_n 2, vi 0, 24), (.iadd, vi 0, 25)] (by decide +kernel) rfl rfl ?_
        refine sm_nmi (fun x12 => ?_)
        refine sm_b (l' := [(0, vr (some u0)), (1, vi x12), (2, vi y8)]) (st' := []) (pc' := 2) [(.istore_n 1, vi 0, 26), (.goto (-24), vi 0, 2)] (by decide +kernel) rfl rfl ?_
        refine sm_pick [0, 1] (l' := [(0, vr (some u0)), (1, vi x12)]) rfl ?_
        exact ih x12
      refine sm_if_ne (off := 5) (tgt := 22) h9 (by decide +kernel) (fun c16 => ?_) (fun c16 => ?_)
      · exact n15 c16
      · exact p14 c16
    refine sm_icmp_ge (off := 22) (tgt := 29) h4 (rwl_rg (Nat.lt_of_le_of_lt b2 b3)) (by decide +kernel) (fun c20 => ?_) (fun c20 => ?_)
    · exact p18 c20
    · exact n19 c20
set_option maxHeartbeats 4000000 in
theorem row_isText_ok {g : GE} (G : GG g) {τ : TT} (d : Nat) (hd1 : 2 ≤ d) (a0 : Nat)  (σ : ST) (Q : VQ) : Sm (V g mX3_isText d 0 [(0, vr (some a0))] [] σ τ Q) (row_isText a0 σ) (fun r => Q.1 (some (vi r)) σ τ) := by
  unfold row_isText
  refine sm_top (fun K hRET => ?_)
  refine sm_b (l' := [(0, vr (some a0)), (1, vi 0)]) (st' := []) (pc' := 2) [(.iconst 0, vi 0, 1), (.istore_n 1, vi 0, 2)] (by decide +kernel) rfl rfl ?_
  exact row_isText_L2_ok G d hd1 a0 σ  (fun r h => hRET _ h) FU 0
def vlu_get_L5 (u1 : Option Nat) (σ : ST) : Nat → Option Nat → Option (Option Nat)
  | 0, _ => none
  | n + 1, w2 => gd (¬ (w2 = none) → ¬ w2 = none) (gd (¬ (w2 = none) → sc σ (ad w2) = 13) (if (w2 = none) ∨ ((sR σ 192 (ad w2)) = u1) then (some w2) else (Option.bind w2 fun p12 => gd (sc σ p12 = 13) (nm (sR σ 196 p12) fun x15 => vlu_get_L5 u1 σ n x15))))
def vlu_get (a0 : Nat) (a1 : Option Nat) (σ : ST) : Option (Option Nat) := gd (sc σ a0 = 11) (nm (sR σ 161 a0) fun x2 => vlu_get_L5 a1 σ FU x2)
set_option maxHeartbeats 4000000 in
theorem vlu_get_L5_ok {g : GE} (G : GG g) {τ : TT} {Q : VQ} (d : Nat) (hd1 : 0 ≤ d) (u1 : Option Nat) (σ : ST)  {K : Option Nat → Prop} (hRET : ∀ r : Option Nat, K (r) → Q.1 (some (vr r)) σ τ) : ∀ (n : Nat) (w2 : Option Nat), Sm (V g mX10_get d 5 [(1, vr u1), (2, vr w2)] [] σ τ Q) (vlu_get_L5 u1 σ n w2) K := by
  intro n
  induction n with
  | zero => intro w2; exact sm_none
  | succ n ih =>
    intro w2
    rw [vlu_get_L5.eq_2]
    refine sm_b (l' := [(1, vr u1), (2, vr w2)]) (st' := [vr w2]) (pc' := 6) [(.aload_n 2, vi 0, 6)] (by decide +kernel) rfl rfl ?_
    refine sm_gd (fun h4 => ?_)
    refine sm_gd (fun h6 => ?_)
    refine sm_case (V g mX10_get d 25 [(1, vr u1), (2, vr w2)] [] σ τ Q) (V g mX10_get d 17 [(1, vr u1), (2, vr w2)] [] σ τ Q) ?_ ?_ (fun f16 p17 n18 => ?_)
    · refine sm_b (l' := [(1, vr u1), (2, vr w2)]) (st' := [vr w2]) (pc' := 26) [(.aload_n 2, vi 0, 26)] (by decide +kernel) rfl rfl ?_
      exact sm_aret rfl rfl (by decide +kernel) (fun h => hRET _ h)
    · refine sm_b (l' := [(1, vr u1), (2, vr w2)]) (st' := [vr w2]) (pc' := 18) [(.aload_n 2, vi 0, 18)] (by decide +kernel) rfl rfl ?_
      refine sm_de (fun p12 h13 => ?_)
      refine sm_st [vr (some p12)] (by rw [h13] <;> rfl) ?_
      refine sm_gd (fun h14 => ?_)
      refine sm_gN (k := 4) (x := vr (sR σ 196 p12)) cd12 rfl h14 rfl q1036 rfl (by decide +kernel) ?_
      refine sm_nmr (fun x15 => ?_)
      refine sm_b (l' := [(1, vr u1), (2, vr x15)]) (st' := []) (pc' := 5) [(.astore_n 2, vi 0, 22), (.goto (-17), vi 0, 5)] (by decide +kernel) rfl rfl ?_
      exact ih x15
    refine sm_ifnull (off := 19) (tgt := 25) (by decide +kernel) (fun c19 => ?_) (fun c19 => ?_)
    · exact p17 (Or.inl c19)
    · have w3 : ¬ (w2 = none) := c19
      refine sm_b (l' := [(1, vr u1), (2, vr w2)]) (st' := [vr w2]) (pc' := 10) [(.aload_n 2, vi 0, 10)] (by decide +kernel) rfl rfl ?_
      have q5 := (ad_some (h4 w3))
      refine sm_st [vr (some (ad w2))] (congrArg (fun z => [vr z]) q5) ?_
      refine sm_gN (k := 0) (x := vr (sR σ 192 (ad w2))) cd12 rfl (h6 w3) rfl q1018 rfl (by decide +kernel) ?_
      refine sm_b (l' := [(1, vr u1), (2, vr w2)]) (st' := [vr u1, vr (sR σ 192 (ad w2))]) (pc' := 14) [(.aload_n 1, vi 0, 14)] (by decide +kernel) rfl rfl ?_
      refine sm_acmp_eq (off := 11) (tgt := 25) (by decide +kernel) (fun c20 => ?_) (fun c20 => ?_)
      · exact p17 (Or.inr c20)
      · exact n18 (fun q => q.elim c19 c20)
set_option maxHeartbeats 4000000 in
theorem vlu_get_ok {g : GE} (G : GG g) {τ : TT} (d : Nat) (hd1 : 0 ≤ d) (a0 : Nat) (a1 : Option Nat)  (σ : ST) (Q : VQ) : Sm (V g mX10_get d 0 [(0, vr (some a0)), (1, vr a1)] [] σ τ Q) (vlu_get a0 a1 σ) (fun r => Q.1 (some (vr r)) σ τ) := by
  unfold vlu_get
  refine sm_top (fun K hRET => ?_)
  refine sm_b (l' := [(0, vr (some a0)), (1, vr a1)]) (st' := [vr (some a0)]) (pc' := 1) [(.aload_n 0, vi 0, 1)] (by decide +kernel) rfl rfl ?_
  refine sm_gd (fun h1 => ?_)
  refine sm_g (k := 1) (x := vr (sR σ 161 a0)) cd10 rfl h1 rfl q950 rfl (by decide +kernel) ?_
  refine sm_nmr (fun x2 => ?_)
  refine sm_b (l' := [(0, vr (some a0)), (1, vr a1), (2, vr x2)]) (st' := []) (pc' := 5) [(.astore_n 2, vi 0, 5)] (by decide +kernel) rfl rfl ?_
  refine sm_pick [1, 2] (l' := [(1, vr a1), (2, vr x2)]) rfl ?_
  exact vlu_get_L5_ok G d hd1 a1 σ  (fun r h => hRET _ h) FU x2
def wr_skip (bb : Nat × Nat) (a0 : Nat) (a1 : Int) (a2 : Int) (σ : ST) : Option (Option Unit × ST) := gd (rg a1) (if a1 = 0 then (gd (sc σ a0 = 12) (Option.bind (wr_varint bb a0 a2 σ) (tB (fun z => (none, z)) fun y6 σ7 => some ((some (), σ7))))) else (if a1 = 1 then (gd (sc σ a0 = 12) (Option.bind (wr_fixed bb a0 8 a2 σ) (tB (fun z => (none, z)) fun y12 σ13 => some ((some (), σ13))))) else (if a1 = 5 then (gd (sc σ a0 = 12) (Option.bind (wr_fixed bb a0 4 a2 σ) (tB (fun z => (none, z)) fun y18 σ19 => some ((some (), σ19))))) else (gd (sc σ a0 = 12) (Option.bind (wr_length bb a0 a2 σ) (tB (fun z => (none, z)) fun y22 σ23 => gd (sc σ23 a0 = 12) (nm (pI σ23 177 a0 y22) fun σ25 => some ((some (), σ25)))))))))
set_option maxHeartbeats 4000000 in
theorem wr_skip_ok {g : GE} (G : GG g) {τ : TT} (d : Nat) (hd1 : 9 ≤ d) (a0 : Nat) (a1 : Int) (a2 : Int)  (σ : ST) (Q : VQ) : Sm (V g mX11_skip d 0 [(0, vr (some a0)), (1, vi a1), (2, vi a2)] [] σ τ Q) (wr_skip (gRm g) a0 a1 a2 σ) (fun r => tQ Q τ (fun _ : Unit => none) r) := by
  unfold wr_skip
  refine sm_top (fun K hRET => ?_)
  refine sm_b (l' := [(0, vr (some a0)), (1, vi a1), (2, vi a2)]) (st' := [vi a1]) (pc' := 1) [(.iload_n 1, vi 0, 1)] (by decide +kernel) rfl rfl ?_
  refine sm_gd (fun h1 => ?_)
  refine sm_case (V g mX11_skip d 4 [(0, vr (some a0)), (1, vi a1), (2, vi a2)] [] σ τ Q) (V g mX11_skip d 13 [(0, vr (some a0)), (1, vi a1), (2, vi a2)] [] σ τ Q) ?_ ?_ (fun f34 p35 n36 => ?_)
  · refine sm_b (l' := [(0, vr (some a0)), (1, vi a1), (2, vi a2)]) (st' := [vi a2, vr (some a0)]) (pc' := 6) [(.aload_n 0, vi 0, 5), (.iload_n 2, vi 0, 6)] (by decide +kernel) rfl rfl ?_
    refine sm_gd (fun h4 => ?_)
    refine sm_cvT (N := mX11_varint) (d' := d - 1) (fun r : Int64 => some (vl r)) (fun z => (none, z)) [vi a2] [] rfl (by decide +kernel) q980 q982 qs24 (Or.inl ⟨rfl, q983⟩) (show okN yX11_varint 1 = true by decide +kernel) (fun H hR => hR.rv G.1 cd11 rfl h4) rfl rfl (by omega) rfl (fun Q' => wr_varint_ok G (d - 1) (by omega) a0 a2 σ Q') (fun z h => hRET _ h) (fun y6 σ7 => ?_)
    refine sm_b (l' := [(0, vr (some a0)), (1, vi a1), (2, vi a2)]) (st' := []) (pc' := 53) [(.pop2, vi 0, 10), (.goto 43, vi 0, 53)] (by decide +kernel) rfl rfl ?_
    exact sm_vret rfl (by decide +kernel) (fun h => hRET _ h)
  · refine sm_b (l' := [(0, vr (some a0)), (1, vi a1), (2, vi a2)]) (st' := [vi 1, vi a1]) (pc' := 15) [(.iload_n 1, vi 0, 14), (.iconst 1, vi 1, 15)] (by decide +kernel) rfl rfl ?_
    refine sm_case (V g mX11_skip d 18 [(0, vr (some a0)), (1, vi a1), (2, vi a2)] [] σ τ Q) (V g mX11_skip d 29 [(0, vr (some a0)), (1, vi a1), (2, vi a2)] [] σ τ Q) ?_ ?_ (fun f30 p31 n32 => ?_)
    · refine sm_b (l' := [(0, vr (some a0)), (1, vi a1), (2, vi a2)]) (st' := [vi a2, vi 8, vr (some a0)]) (pc' := 22) [(.aload_n 0, vi 0, 19), (.bipush 8, vi 8, 21), (.iload_n 2, vi 0, 22)] (by decide +kernel) rfl rfl ?_
      refine sm_gd (fun h10 => ?_)
      refine sm_cvT (N := mX11_fixed) (d' := d - 1) (fun r : Int64 => some (vl r)) (fun z => (none, z)) [vi 8, vi a2] [] rfl (by decide +kernel) q1050 q1052 qs26 (Or.inl ⟨rfl, q1053⟩) (show okN yX11_fixed 2 = true by decide +kernel) (fun H hR => hR.rv G.1 cd11 rfl h10) rfl rfl (by omega) rfl (fun Q' => wr_fixed_ok G (d - 1) (by omega) a0 8 a2 σ Q') (fun z h => hRET _ h) (fun y12 σ13 => ?_)
      refine sm_b (l' := [(0, vr (some a0)), (1, vi a1), (2, vi a2)]) (st' := []) (pc' := 53) [(.pop2, vi 0, 26), (.goto 27, vi 0, 53)] (by decide +kernel) rfl rfl ?_
      exact sm_vret rfl (by decide +kernel) (fun h => hRET _ h)
    · refine sm_b (l' := [(0, vr (some a0)), (1, vi a1), (2, vi a2)]) (st' := [vi 5, vi a1]) (pc' := 31) [(.iload_n 1, vi 0, 30), (.iconst 5, vi 5, 31)] (by decide +kernel) rfl rfl ?_
      refine sm_case (V g mX11_skip d 34 [(0, vr (some a0)), (1, vi a1), (2, vi a2)] [] σ τ Q) (V g mX11_skip d 44 [(0, vr (some a0)), (1, vi a1), (2, vi a2)] [] σ τ Q) ?_ ?_ (fun f26 p27 n28 => ?_)
      · refine sm_b (l' := [(0, vr (some a0)), (1, vi a1), (2, vi a2)]) (st' := [vi a2, vi 4, vr (some a0)]) (pc' := 37) [(.aload_n 0, vi 0, 35), (.iconst 4, vi 4, 36), (.iload_n 2, vi 0, 37)] (by decide +kernel) rfl rfl ?_
        refine sm_gd (fun h16 => ?_)
        refine sm_cvT (N := mX11_fixed) (d' := d - 1) (fun r : Int64 => some (vl r)) (fun z => (none, z)) [vi 4, vi a2] [] rfl (by decide +kernel) q1050 q1052 qs26 (Or.inl ⟨rfl, q1053⟩) (show okN yX11_fixed 2 = true by decide +kernel) (fun H hR => hR.rv G.1 cd11 rfl h16) rfl rfl (by omega) rfl (fun Q' => wr_fixed_ok G (d - 1) (by omega) a0 4 a2 σ Q') (fun z h => hRET _ h) (fun y18 σ19 => ?_)
        refine sm_b (l' := [(0, vr (some a0)), (1, vi a1), (2, vi a2)]) (st' := []) (pc' := 53) [(.pop2, vi 0, 41), (.goto 12, vi 0, 53)] (by decide +kernel) rfl rfl ?_
        exact sm_vret rfl (by decide +kernel) (fun h => hRET _ h)
      · refine sm_b (l' := [(0, vr (some a0)), (1, vi a1), (2, vi a2)]) (st' := [vi a2, vr (some a0), vr (some a0)]) (pc' := 47) [(.aload_n 0, vi 0, 45), (.aload_n 0, vi 0, 46), (.iload_n 2, vi 0, 47)] (by decide +kernel) rfl rfl ?_
        refine sm_gd (fun h20 => ?_)
        refine sm_cvT (N := mX11_length) (d' := d - 1) (fun r : Int => some (vi r)) (fun z => (none, z)) [vi a2] [vr (some a0)] rfl (by decide +kernel) q1071 q1073 qs28 (Or.inl ⟨rfl, q1074⟩) (show okN yX11_length 1 = true by decide +kernel) (fun H hR => hR.rv G.1 cd11 rfl h20) rfl rfl (by omega) rfl (fun Q' => wr_length_ok G (d - 1) (by omega) a0 a2 σ Q') (fun z h => hRET _ h) (fun y22 σ23 => ?_)
        refine sm_gd (fun h24 => ?_)
        refine sm_p (k := 1) (x := vi y22) cd11 rfl h24 rfl q971 rfl (nar_i _) (fit_i _) rfl (at_pI σ23 177 a0 y22) (fp_177 σ23 a0 y22) (by decide +kernel) ?_
        refine sm_nms (fun σ25 => ?_)
        exact sm_vret rfl (by decide +kernel) (fun h => hRET _ h)
      refine sm_icmp_ne (off := 13) (tgt := 44) h1 (by decide) (by decide +kernel) (fun c29 => ?_) (fun c29 => ?_)
      · exact n28 c29
      · exact p27 c29
    refine sm_icmp_ne (off := 14) (tgt := 29) h1 (by decide) (by decide +kernel) (fun c33 => ?_) (fun c33 => ?_)
    · exact n32 c33
    · exact p31 c33
  refine sm_if_ne (off := 12) (tgt := 13) h1 (by decide +kernel) (fun c37 => ?_) (fun c37 => ?_)
  · exact n36 c37
  · exact p35 c37
