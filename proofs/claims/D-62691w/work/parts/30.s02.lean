set_option maxRecDepth 100000
/-! the system: X8_init, X5_plain, X5_oneof, X5_reserve, X5_field -/
def fd_init_L51 (bb : Nat × Nat) (u0 : Nat) (u2 : Option Nat) : Nat → Int → Int → ST → Option (ST)
  | 0, _, _, _ => none
  | n + 1, w3, w4, σ => Option.bind u2 fun p17 => gd (sc σ p17 = 4) (gd (rg w4) (if ((((sW σ p17).length : Nat) : Int)) ≤ w4 then (some σ) else (Option.bind (row_at p17 w4 σ) fun y26 => Option.bind (gd (rg y26) (if y26 = 95 then (some σ) else (gd (sc σ u0 = 9) (Option.bind (gd (rg w3) (if ((w3 = 0) ∨ (y26 < 97)) ∨ (122 < y26) then (some y26) else (some ((y26 - 32))))) fun (v52 : Int) => Option.bind (sR σ 130 u0) fun p56 => gd (sc σ p56 = 4) (Option.bind (r_add bb p56 v52 σ) fun y59 => some y59))))) fun (v31 : ST) => Option.bind (gd (rg y26) (if y26 = 95 then (some 1) else (some 0))) fun (v38 : Int) => fd_init_L51 bb u0 u2 n v38 (w4 + 1) v31)))
def fd_init (bb : Nat × Nat) (a0 : Nat) (a1 : Option Nat) (a2 : Option Nat) (σ : ST) : Option (ST) := gd (rm bb σ 2) (nm (nW σ) fun σ2 => gd (sc σ2 a0 = 9) (nm (pR σ2 130 a0 (some (sZ σ))) fun σ4 => gd (sc σ4 a0 = 9) (nm (pI σ4 132 a0 ((-1))) fun σ6 => gd (sc σ6 a0 = 9) (nm (pI σ6 133 a0 ((-1))) fun σ8 => gd (rm bb σ8 3) (nm (nL σ8) fun σ10 => gd (sc σ10 a0 = 9) (nm (pR σ10 139 a0 (some (sZ σ8))) fun σ12 => gd (sc σ12 a0 = 9) (nm (pR σ12 128 a0 a1) fun σ14 => gd (sc σ14 a0 = 9) (nm (pR σ14 129 a0 a2) fun σ16 => fd_init_L51 bb a0 a2 FU 0 0 σ16))))))))
set_option maxHeartbeats 4000000 in
theorem fd_init_L51_ok {g : GE} (G : GG g) {τ : TT} {Q : VQ} (d : Nat) (hd1 : 4 ≤ d) (u0 : Nat) (u2 : Option Nat)  {K : ST → Prop} (hRET : ∀ r : ST, K (r) → Q.1 none r τ) : ∀ (n : Nat) (w3 : Int) (w4 : Int) (σ : ST), Sm (V g mX8_init d 51 [(0, vr (some u0)), (2, vr u2), (3, vi w3), (4, vi w4)] [] σ τ Q) (fd_init_L51 (gRm g) u0 u2 n w3 w4 σ) K := by
  intro n
  induction n with
  | zero => intro w3 w4 σ; exact sm_none
  | succ n ih =>
    intro w3 w4 σ
    rw [fd_init_L51.eq_2]
    refine sm_b (l' := [(0, vr (some u0)), (2, vr u2), (3, vi w3), (4, vi w4)]) (st' := [vr u2, vi w4]) (pc' := 54) [(.iload 4, vi 0, 53), (.aload_n 2, vi 0, 54)] (by decide +kernel) rfl rfl ?_
    refine sm_de (fun p17 h18 => ?_)
    refine sm_st [vr (some p17), vi w4] (by rw [h18] <;> rfl) ?_
    refine sm_gd (fun h19 => ?_)
    refine sm_rszN h19 q277 (by decide +kernel) ?_
    refine sm_rowf h19 (fun b20 b21 => ?_)
    refine sm_gd (fun h22 => ?_)
    refine sm_case (V g mX8_init d 129 [(0, vr (some u0)), (2, vr u2), (3, vi w3), (4, vi w4)] [] σ τ Q) (V g mX8_init d 60 [(0, vr (some u0)), (2, vr u2), (3, vi w3), (4, vi w4)] [] σ τ Q) ?_ ?_ (fun f70 p71 n72 => ?_)
    · exact sm_vret rfl (by decide +kernel) (fun h => hRET _ h)
    · refine sm_b (l' := [(0, vr (some u0)), (2, vr u2), (3, vi w3), (4, vi w4)]) (st' := [vi w4, vr u2]) (pc' := 63) [(.aload_n 2, vi 0, 61), (.iload 4, vi 0, 63)] (by decide +kernel) rfl rfl ?_
      refine sm_st [vi w4, vr (some p17)] (by rw [h18] <;> rfl) ?_
      refine sm_cv (N := mX3_at) (d' := d - 1) (fun r => (some (vi r))) (fun _ => σ) (fun _ => τ) [vi w4] [] rfl (by decide +kernel) q709 q710 q711 (Or.inl ⟨rfl, q712⟩) (show okN yX3_at 1 = true by decide +kernel) (fun H hR => hR.rvR G.1 h19) rfl rfl (by omega) rfl (fun Q' => row_at_ok G (d - 1) (by omega) p17 w4 σ Q') (fun y26 => ?_)
      refine sm_b (l' := [(0, vr (some u0)), (2, vr u2), (3, vi w3), (4, vi w4), (5, vi y26)]) (st' := [vi 95, vi y26]) (pc' := 72) [(.istore 5, vi 0, 68), (.iload 5, vi 0, 70), (.bipush 95, vi 95, 72)] (by decide +kernel) rfl rfl ?_
      refine sm_bind1 (fun (v31 : ST) => V g mX8_init d 110 [(0, vr (some u0)), (2, vr u2), (4, vi w4), (5, vi y26)] [] v31 τ Q) (fun v31 => ?_) (fun K32 j33 => ?_)
      · refine sm_b (l' := [(0, vr (some u0)), (2, vr u2), (4, vi w4), (5, vi y26)]) (st' := [vi 95, vi y26]) (pc' := 114) [(.iload 5, vi 0, 112), (.bipush 95, vi 95, 114)] (by decide +kernel) rfl rfl ?_
        refine sm_bind1 (fun (v38 : Int) => V g mX8_init d 122 [(0, vr (some u0)), (2, vr u2), (4, vi w4)] [vi v38] v31 τ Q) (fun v38 => ?_) (fun K39 j40 => ?_)
        · refine sm_b (l' := [(0, vr (some u0)), (2, vr u2), (4, vi (w4 + 1)), (3, vi v38)]) (st' := []) (pc' := 51) [(.istore_n 3, vi 0, 123), (.iinc 4 1, vi 1, 126), (.goto (-75), vi 0, 51)] (by decide +kernel) rfl rfl ?_
          refine sm_pick [0, 1, 3, 2] (l' := [(0, vr (some u0)), (2, vr u2), (3, vi v38), (4, vi (w4 + 1))]) rfl ?_
          exact ih v38 (w4 + 1) v31
        · refine sm_gd (fun h35 => ?_)
          refine sm_case (V g mX8_init d 117 [(0, vr (some u0)), (2, vr u2), (4, vi w4), (5, vi y26)] [] v31 τ Q) (V g mX8_init d 121 [(0, vr (some u0)), (2, vr u2), (4, vi w4), (5, vi y26)] [] v31 τ Q) ?_ ?_ (fun f42 p43 n44 => ?_)
          · refine sm_b (l' := [(0, vr (some u0)), (2, vr u2), (4, vi w4), (5, vi y26)]) (st' := [vi 1]) (pc' := 122) [(.iconst 1, vi 1, 118), (.goto 4, vi 0, 122)] (by decide +kernel) rfl rfl ?_
            refine sm_pick [0, 1, 2] (l' := [(0, vr (some u0)), (2, vr u2), (4, vi w4)]) rfl ?_
            exact sm_leaf (fun h => j40 _ h)
          · refine sm_b (l' := [(0, vr (some u0)), (2, vr u2), (4, vi w4), (5, vi y26)]) (st' := [vi 0]) (pc' := 122) [(.iconst 0, vi 0, 122)] (by decide +kernel) rfl rfl ?_
            refine sm_pick [0, 1, 2] (l' := [(0, vr (some u0)), (2, vr u2), (4, vi w4)]) rfl ?_
            exact sm_leaf (fun h => j40 _ h)
          refine sm_icmp_ne (off := 7) (tgt := 121) h35 (by decide) (by decide +kernel) (fun c45 => ?_) (fun c45 => ?_)
          · exact n44 c45
          · exact p43 c45
      · refine sm_gd (fun h27 => ?_)
        refine sm_case (V g mX8_init d 110 [(0, vr (some u0)), (2, vr u2), (3, vi w3), (4, vi w4), (5, vi y26)] [] σ τ Q) (V g mX8_init d 75 [(0, vr (some u0)), (2, vr u2), (3, vi w3), (4, vi w4), (5, vi y26)] [] σ τ Q) ?_ ?_ (fun f66 p67 n68 => ?_)
        · refine sm_pick [0, 1, 3, 4] (l' := [(0, vr (some u0)), (2, vr u2), (4, vi w4), (5, vi y26)]) rfl ?_
          exact sm_leaf (fun h => j33 _ h)
        · refine sm_b (l' := [(0, vr (some u0)), (2, vr u2), (3, vi w3), (4, vi w4), (5, vi y26)]) (st' := [vr (some u0)]) (pc' := 76) [(.aload_n 0, vi 0, 76)] (by decide +kernel) rfl rfl ?_
          refine sm_gd (fun h46 => ?_)
          refine sm_g (k := 2) (x := vr (sR σ 130 u0)) cd8 rfl h46 rfl q720 rfl (by decide +kernel) ?_
          refine sm_b (l' := [(0, vr (some u0)), (2, vr u2), (3, vi w3), (4, vi w4), (5, vi y26)]) (st' := [vi w3, vr (sR σ 130 u0)]) (pc' := 80) [(.iload_n 3, vi 0, 80)] (by decide +kernel) rfl rfl ?_
          refine sm_bind1 (fun (v52 : Int) => V g mX8_init d 107 [(0, vr (some u0)), (2, vr u2), (4, vi w4), (5, vi y26)] [vi v52, vr (sR σ 130 u0)] σ τ Q) (fun v52 => ?_) (fun K53 j54 => ?_)
          · refine sm_de (fun p56 h57 => ?_)
            refine sm_st [vi v52, vr (some p56)] (by rw [h57] <;> rfl) ?_
            refine sm_gd (fun h58 => ?_)
            refine sm_cv (N := mX3_add) (d' := d - 1) (fun r => none) (fun r => r) (fun _ => τ) [vi v52] [] rfl (by decide +kernel) q713 q535 q536 (Or.inl ⟨rfl, q537⟩) (show okN yX3_add 1 = true by decide +kernel) (fun H hR => hR.rvR G.1 h58) rfl rfl (by omega) rfl (fun Q' => r_add_ok G (d - 1) (by omega) p56 v52 σ Q') (fun y59 => ?_)
            exact sm_leaf (fun h => j33 _ h)
          · refine sm_gd (fun h47 => ?_)
            refine sm_case (V g mX8_init d 105 [(0, vr (some u0)), (2, vr u2), (3, vi w3), (4, vi w4), (5, vi y26)] [vr (sR σ 130 u0)] σ τ Q) (V g mX8_init d 97 [(0, vr (some u0)), (2, vr u2), (3, vi w3), (4, vi w4), (5, vi y26)] [vr (sR σ 130 u0)] σ τ Q) ?_ ?_ (fun f60 p61 n62 => ?_)
            · refine sm_b (l' := [(0, vr (some u0)), (2, vr u2), (3, vi w3), (4, vi w4), (5, vi y26)]) (st' := [vi y26, vr (sR σ 130 u0)]) (pc' := 107) [(.iload 5, vi 0, 107)] (by decide +kernel) rfl rfl ?_
              refine sm_pick [0, 1, 3, 4] (l' := [(0, vr (some u0)), (2, vr u2), (4, vi w4), (5, vi y26)]) rfl ?_
              exact sm_leaf (fun h => j54 _ h)
            · refine sm_b (l' := [(0, vr (some u0)), (2, vr u2), (3, vi w3), (4, vi w4), (5, vi y26)]) (st' := [vi (y26 - 32), vr (sR σ 130 u0)]) (pc' := 107) [(.iload 5, vi 0, 99), (.bipush 32, vi 32, 101), (.isub, vi 0, 102), (.goto 5, vi 0, 107)] (by decide +kernel) rfl rfl ?_
              refine sm_pick [0, 1, 3, 4] (l' := [(0, vr (some u0)), (2, vr u2), (4, vi w4), (5, vi y26)]) rfl ?_
              exact sm_leaf (fun h => j54 _ h)
            refine sm_if_eq (off := 25) (tgt := 105) h47 (by decide +kernel) (fun c63 => ?_) (fun c63 => ?_)
            · exact p61 (Or.inl (Or.inl c63))
            · refine sm_b (l' := [(0, vr (some u0)), (2, vr u2), (3, vi w3), (4, vi w4), (5, vi y26)]) (st' := [vi 97, vi y26, vr (sR σ 130 u0)]) (pc' := 87) [(.iload 5, vi 0, 85), (.bipush 97, vi 97, 87)] (by decide +kernel) rfl rfl ?_
              refine sm_icmp_lt (off := 18) (tgt := 105) h27 (by decide) (by decide +kernel) (fun c64 => ?_) (fun c64 => ?_)
              · exact p61 (Or.inl (Or.inr c64))
              · refine sm_b (l' := [(0, vr (some u0)), (2, vr u2), (3, vi w3), (4, vi w4), (5, vi y26)]) (st' := [vi 122, vi y26, vr (sR σ 130 u0)]) (pc' := 94) [(.iload 5, vi 0, 92), (.bipush 122, vi 122, 94)] (by decide +kernel) rfl rfl ?_
                refine sm_icmp_gt (off := 11) (tgt := 105) h27 (by decide) (by decide +kernel) (fun c65 => ?_) (fun c65 => ?_)
                · exact p61 (Or.inr c65)
                · exact n62 (fun q => q.elim (fun q => q.elim c63 c64) c65)
        refine sm_icmp_eq (off := 38) (tgt := 110) h27 (by decide) (by decide +kernel) (fun c69 => ?_) (fun c69 => ?_)
        · exact p67 c69
        · exact n68 c69
    refine sm_icmp_ge (off := 72) (tgt := 129) h22 (rwl_rg (Nat.lt_of_le_of_lt b20 b21)) (by decide +kernel) (fun c73 => ?_) (fun c73 => ?_)
    · exact p71 c73
    · exact n72 c73
set_option maxHeartbeats 4000000 in
theorem fd_init_ok {g : GE} (G : GG g) {τ : TT} (d : Nat) (hd1 : 4 ≤ d) (a0 : Nat) (a1 : Option Nat) (a2 : Option Nat)  (σ : ST) (Q : VQ) : Sm (V g mX8_init d 0 [(0, vr (some a0)), (1, vr a1), (2, vr a2)] [] σ τ Q) (fd_init (gRm g) a0 a1 a2 σ) (fun r => Q.1 none r τ) := by
  unfold fd_init
  refine sm_top (fun K hRET => ?_)
  refine sm_b (l' := [(0, vr (some a0)), (1, vr a1), (2, vr a2)]) (st' := [vr (some a0)]) (pc' := 1) [(.aload_n 0, vi 0, 1)] (by decide +kernel) rfl rfl ?_
  refine sm_obj q704 (by omega) rfl (by decide +kernel) ?_
  refine sm_b (l' := [(0, vr (some a0)), (1, vr a1), (2, vr a2)]) (st' := [vr (some a0)]) (pc' := 5) [(.aload_n 0, vi 0, 5)] (by decide +kernel) rfl rfl ?_
  refine sm_gd (fun h1 => ?_)
  refine sm_newRowN (i := 9) (i2 := 11) q705 rfl q706 h1 (by omega) rfl (by decide +kernel) (by decide +kernel) (by decide +kernel) ?_
  refine sm_nms (fun σ2 => ?_)
  refine sm_gd (fun h3 => ?_)
  refine sm_pF (k := 2) (x := vr (some (sZ σ))) cd8 rfl h3 rfl q720 rfl rfl rfl (nar_r _ rfl) (fit_r _ rfl) rfl (at_pR σ2 130 a0 (some (sZ σ))) (fp_130 σ2 a0 (some (sZ σ))) (by decide +kernel) ?_
  refine sm_nms (fun σ4 => ?_)
  refine sm_b (l' := [(0, vr (some a0)), (1, vr a1), (2, vr a2)]) (st' := [vi ((-1)), vr (some a0)]) (pc' := 17) [(.aload_n 0, vi 0, 16), (.iconst (-1), vi (-1), 17)] (by decide +kernel) rfl rfl ?_
  refine sm_gd (fun h5 => ?_)
  refine sm_p (k := 4) (x := vi ((-1))) cd8 rfl h5 rfl q730 rfl (nar_i _) (fit_i _) rfl (at_pI σ4 132 a0 ((-1))) (fp_132 σ4 a0 ((-1))) (by decide +kernel) ?_
  refine sm_nms (fun σ6 => ?_)
  refine sm_b (l' := [(0, vr (some a0)), (1, vr a1), (2, vr a2)]) (st' := [vi ((-1)), vr (some a0)]) (pc' := 22) [(.aload_n 0, vi 0, 21), (.iconst (-1), vi (-1), 22)] (by decide +kernel) rfl rfl ?_
  refine sm_gd (fun h7 => ?_)
  refine sm_p (k := 5) (x := vi ((-1))) cd8 rfl h7 rfl q737 rfl (nar_i _) (fit_i _) rfl (at_pI σ6 133 a0 ((-1))) (fp_133 σ6 a0 ((-1))) (by decide +kernel) ?_
  refine sm_nms (fun σ8 => ?_)
  refine sm_b (l' := [(0, vr (some a0)), (1, vr a1), (2, vr a2)]) (st' := [vr (some a0)]) (pc' := 26) [(.aload_n 0, vi 0, 26)] (by decide +kernel) rfl rfl ?_
  refine sm_gd (fun h9 => ?_)
  refine sm_newList (i := 25) (i2 := 27) q707 rfl q708 h9 (by omega) rfl (by decide +kernel) (by decide +kernel) (by decide +kernel) ?_
  refine sm_nms (fun σ10 => ?_)
  refine sm_gd (fun h11 => ?_)
  refine sm_pF (k := 11) (x := vr (some (sZ σ8))) cd8 rfl h11 rfl q762 rfl rfl rfl (nar_r _ rfl) (fit_r _ rfl) rfl (at_pR σ10 139 a0 (some (sZ σ8))) (fp_139 σ10 a0 (some (sZ σ8))) (by decide +kernel) ?_
  refine sm_nms (fun σ12 => ?_)
  refine sm_b (l' := [(0, vr (some a0)), (1, vr a1), (2, vr a2)]) (st' := [vr a1, vr (some a0)]) (pc' := 38) [(.aload_n 0, vi 0, 37), (.aload_n 1, vi 0, 38)] (by decide +kernel) rfl rfl ?_
  refine sm_gd (fun h13 => ?_)
  refine sm_pF (k := 0) (x := vr a1) cd8 rfl h13 rfl q714 rfl rfl rfl (nar_r _ rfl) (fit_r _ rfl) rfl (at_pR σ12 128 a0 a1) (fp_128 σ12 a0 a1) (by decide +kernel) ?_
  refine sm_nms (fun σ14 => ?_)
  refine sm_b (l' := [(0, vr (some a0)), (1, vr a1), (2, vr a2)]) (st' := [vr a2, vr (some a0)]) (pc' := 43) [(.aload_n 0, vi 0, 42), (.aload_n 2, vi 0, 43)] (by decide +kernel) rfl rfl ?_
  refine sm_gd (fun h15 => ?_)
  refine sm_pF (k := 1) (x := vr a2) cd8 rfl h15 rfl q717 rfl rfl rfl (nar_r _ rfl) (fit_r _ rfl) rfl (at_pR σ14 129 a0 a2) (fp_129 σ14 a0 a2) (by decide +kernel) ?_
  refine sm_nms (fun σ16 => ?_)
  refine sm_b (l' := [(0, vr (some a0)), (1, vr a1), (2, vr a2), (3, vi 0), (4, vi 0)]) (st' := []) (pc' := 51) [(.iconst 0, vi 0, 47), (.istore_n 3, vi 0, 48), (.iconst 0, vi 0, 49), (.istore 4, vi 0, 51)] (by decide +kernel) rfl rfl ?_
  refine sm_pick [0, 2, 3, 4] (l' := [(0, vr (some a0)), (2, vr a2), (3, vi 0), (4, vi 0)]) rfl ?_
  exact fd_init_L51_ok G d hd1 a0 a2  (fun r h => hRET _ h) FU 0 0 σ16
def sr_plain_L82 (bb : Nat × Nat) (u0 : Nat) (u1 : Option Nat) (u2 : Nat) (u3 : Nat) : Nat → Int → ST → Option (ST)
  | 0, _, _ => none
  | n + 1, w4, σ => gd (sc σ u2 = 16) (Option.bind (l_size u2 σ) fun y73 => gd (rg w4) (gd (rg y73) (if y73 ≤ w4 then (some σ) else (gd (sc σ u3 = 9) (Option.bind (l_get u2 w4 σ) fun y83 => Option.bind y83 fun p84 => gd (sc σ p84 = 4) (Option.bind (sR σ 139 u3) fun p87 => gd (sc σ p87 = 16) (Option.bind (l_add bb p87 (some p84) σ) fun y90 => sr_plain_L82 bb u0 u1 u2 u3 n (w4 + 1) y90.2)))))))
def sr_plain_L41 (bb : Nat × Nat) (u0 : Nat) (u1 : Option Nat) (u2 : Nat) : Nat → ST → Option ((Option (Option Nat) × ST) ⊕ (ST))
  | 0, _ => none
  | n + 1, σ => gd (sc σ u0 = 6) (Option.bind (sr_isSign u0 46 σ) fun y97 => gd (rg y97) (if y97 = 0 then (some (Sum.inr σ)) else (Option.bind (sr_next bb u0 σ) fun y100 => gd (sc y100 u0 = 6) (Option.bind (sr_name bb u0 y100) (tB (fun z => Sum.inl ((none, z))) fun y103 σ104 => gd (sc σ104 u2 = 16) (Option.bind (l_add bb u2 y103 σ104) fun y106 => sr_plain_L41 bb u0 u1 u2 n y106.2))))))
def sr_plain (bb : Nat × Nat) (a0 : Nat) (a1 : Option Nat) (σ : ST) : Option (Option (Option Nat) × ST) := gd (sc σ a0 = 6) (Option.bind (sR σ 86 a0) fun p2 => gd (sc σ p2 = 2) (Option.bind (sR σ 19 p2) fun p5 => gd (sc σ p5 = 16) (Option.bind (l_size p5 σ) fun y8 => Option.bind (gd (rg y8) (if 50 ≤ y8 then (some 0) else (some 1))) fun (v12 : Int) => Option.bind (sr_must bb a0 v12 σ) (tB (fun z => (none, z)) fun y17 σ18 => gd (rm bb σ18 3) (nm (nL σ18) fun σ20 => gd (sc σ20 a0 = 6) (Option.bind (sr_name bb a0 σ20) (tB (fun z => (none, z)) fun y23 σ24 => gd (sc σ24 (sZ σ18) = 16) (Option.bind (l_add bb (sZ σ18) y23 σ24) fun y26 => Option.bind (sr_plain_L41 bb a0 a1 (sZ σ18) FU y26.2) (Sum.elim some fun (v27 : ST) => gd (rm bb v27 12) (nm (nO v27 9 12) fun σ32 => gd (sc σ32 a0 = 6) (Option.bind (sr_name bb a0 σ32) (tB (fun z => (none, z)) fun y35 σ36 => Option.bind (fd_init bb (sZ v27) a1 y35 σ36) fun y37 => Option.bind (sr_plain_L82 bb a0 a1 (sZ σ18) (sZ v27) FU 0 y37) fun (v38 : ST) => gd (sc v38 a0 = 6) (Option.bind (sr_sign bb a0 61 v38) (tB (fun z => (none, z)) fun y44 σ45 => gd (sc σ45 a0 = 6) (Option.bind (sr_number bb a0 σ45) (tB (fun z => (none, z)) fun y48 σ49 => gd (sc σ49 (sZ v27) = 9) (nm (pI σ49 131 (sZ v27) y48) fun σ51 => gd (sc σ51 a0 = 6) (Option.bind (sr_sign bb a0 59 σ51) (tB (fun z => (none, z)) fun y54 σ55 => Option.bind a1 fun p56 => gd (sc σ55 p56 = 7) (Option.bind (sR σ55 99 p56) fun p59 => gd (sc σ55 p59 = 16) (Option.bind (l_add bb p59 (some (sZ v27)) σ55) fun y62 => gd (sc y62.2 a0 = 6) (Option.bind (sR y62.2 86 a0) fun p64 => gd (sc y62.2 p64 = 2) (Option.bind (sR y62.2 19 p64) fun p67 => gd (sc y62.2 p67 = 16) (Option.bind (l_add bb p67 (some (sZ v27)) y62.2) fun y70 => some ((some (some (sZ v27)), y70.2))))))))))))))))))))))))))
set_option maxHeartbeats 4000000 in
theorem sr_plain_L82_ok {g : GE} (G : GG g) {τ : TT} {Q : VQ} (d : Nat) (hd1 : 9 ≤ d) (u0 : Nat) (u1 : Option Nat) (u2 : Nat) (u3 : Nat)  {K : ST → Prop} (hE114 : ∀ v71 : ST, K (v71) → V g mX5_plain d 114 [(0, vr (some u0)), (1, vr u1), (3, vr (some u3))] [] v71 τ Q) : ∀ (n : Nat) (w4 : Int) (σ : ST), Sm (V g mX5_plain d 82 [(0, vr (some u0)), (1, vr u1), (2, vr (some u2)), (3, vr (some u3)), (4, vi w4)] [] σ τ Q) (sr_plain_L82 (gRm g) u0 u1 u2 u3 n w4 σ) K := by
  intro n
  induction n with
  | zero => intro w4 σ; exact sm_none
  | succ n ih =>
    intro w4 σ
    rw [sr_plain_L82.eq_2]
    refine sm_b (l' := [(0, vr (some u0)), (1, vr u1), (2, vr (some u2)), (3, vr (some u3)), (4, vi w4)]) (st' := [vr (some u2), vi w4]) (pc' := 85) [(.iload 4, vi 0, 84), (.aload_n 2, vi 0, 85)] (by decide +kernel) rfl rfl ?_
    refine sm_gd (fun h72 => ?_)
    refine sm_cv (N := mJ2_size) (d' := d - 1) (fun r => (some (vi r))) (fun _ => σ) (fun _ => τ) [] [vi w4] rfl (by decide +kernel) q518 q519 q520 (Or.inl ⟨rfl, q521⟩) (show okN yJ2_size 0 = true by decide +kernel) (fun H hR => hR.rvL G.1 h72) rfl rfl (by omega) rfl (fun Q' => l_size_ok G (d - 1) (by omega) u2 σ Q') (fun y73 => ?_)
    refine sm_gd (fun h74 => ?_)
    refine sm_gd (fun h75 => ?_)
    refine sm_case (V g mX5_plain d 114 [(0, vr (some u0)), (1, vr u1), (2, vr (some u2)), (3, vr (some u3)), (4, vi w4)] [] σ τ Q) (V g mX5_plain d 91 [(0, vr (some u0)), (1, vr u1), (2, vr (some u2)), (3, vr (some u3)), (4, vi w4)] [] σ τ Q) ?_ ?_ (fun f91 p92 n93 => ?_)
    · refine sm_pick [0, 1, 3] (l' := [(0, vr (some u0)), (1, vr u1), (3, vr (some u3))]) rfl ?_
      exact sm_leaf (fun h => hE114 _ h)
    · refine sm_b (l' := [(0, vr (some u0)), (1, vr u1), (2, vr (some u2)), (3, vr (some u3)), (4, vi w4)]) (st' := [vr (some u3)]) (pc' := 92) [(.aload_n 3, vi 0, 92)] (by decide +kernel) rfl rfl ?_
      refine sm_gd (fun h82 => ?_)
      refine sm_gN (k := 11) (x := vr (sR σ 139 u3)) cd8 rfl h82 rfl q764 rfl (by decide +kernel) ?_
      refine sm_b (l' := [(0, vr (some u0)), (1, vr u1), (2, vr (some u2)), (3, vr (some u3)), (4, vi w4)]) (st' := [vi w4, vr (some u2), vr (sR σ 139 u3)]) (pc' := 98) [(.aload_n 2, vi 0, 96), (.iload 4, vi 0, 98)] (by decide +kernel) rfl rfl ?_
      refine sm_cv (N := mJ2_get) (d' := d - 1) (fun r => (some (vr r))) (fun _ => σ) (fun _ => τ) [vi w4] [vr (sR σ 139 u3)] rfl (by decide +kernel) q790 q791 q792 (Or.inl ⟨rfl, q793⟩) (show okN yJ2_get 1 = true by decide +kernel) (fun H hR => hR.rvL G.1 h72) rfl rfl (by omega) rfl (fun Q' => l_get_ok G (d - 1) (by omega) u2 w4 σ Q') (fun y83 => ?_)
      refine sm_de (fun p84 h85 => ?_)
      refine sm_st [vr (some p84), vr (sR σ 139 u3)] (by rw [h85] <;> rfl) ?_
      refine sm_gd (fun h86 => ?_)
      refine sm_cast cd3 q528 (fun H hR => hR.rvR G.1 h86) (by decide +kernel) ?_
      refine sm_de (fun p87 h88 => ?_)
      refine sm_st [vr (some p84), vr (some p87)] (by rw [h88] <;> rfl) ?_
      refine sm_gd (fun h89 => ?_)
      refine sm_cv (N := mJ2_add) (d' := d - 1) (fun r => (some (vi r.1))) (fun r => r.2) (fun _ => τ) [vr (some p84)] [] rfl (by decide +kernel) q592 q593 q594 (Or.inl ⟨rfl, q595⟩) (show okN yJ2_add 1 = true by decide +kernel) (fun H hR => hR.rvL G.1 h89) rfl rfl (by omega) rfl (fun Q' => l_add_ok G (d - 1) (by omega) p87 (some p84) σ Q') (fun y90 => ?_)
      refine sm_b (l' := [(0, vr (some u0)), (1, vr u1), (2, vr (some u2)), (3, vr (some u3)), (4, vi (w4 + 1))]) (st' := []) (pc' := 82) [(.pop, vi 0, 108), (.iinc 4 1, vi 1, 111), (.goto (-29), vi 0, 82)] (by decide +kernel) rfl rfl ?_
      exact ih (w4 + 1) y90.2
    refine sm_icmp_ge (off := 26) (tgt := 114) h74 h75 (by decide +kernel) (fun c94 => ?_) (fun c94 => ?_)
    · exact p92 c94
    · exact n93 c94
set_option maxHeartbeats 4000000 in
theorem sr_plain_L41_ok {g : GE} (G : GG g) {τ : TT} {Q : VQ} (d : Nat) (hd1 : 9 ≤ d) (u0 : Nat) (u1 : Option Nat) (u2 : Nat)  {K : (Option (Option Nat) × ST) ⊕ (ST) → Prop} (hRET : ∀ r : Option (Option Nat) × ST, K (Sum.inl r) → tQ Q τ (fun r : Option Nat => some (vr r)) r) (hE66 : ∀ v95 : ST, K (Sum.inr v95) → V g mX5_plain d 66 [(0, vr (some u0)), (1, vr u1), (2, vr (some u2))] [] v95 τ Q) : ∀ (n : Nat) (σ : ST), Sm (V g mX5_plain d 41 [(0, vr (some u0)), (1, vr u1), (2, vr (some u2))] [] σ τ Q) (sr_plain_L41 (gRm g) u0 u1 u2 n σ) K := by
  intro n
  induction n with
  | zero => intro σ; exact sm_none
  | succ n ih =>
    intro σ
    rw [sr_plain_L41.eq_2]
    refine sm_b (l' := [(0, vr (some u0)), (1, vr u1), (2, vr (some u2))]) (st' := [vi 46, vr (some u0)]) (pc' := 44) [(.aload_n 0, vi 0, 42), (.bipush 46, vi 46, 44)] (by decide +kernel) rfl rfl ?_
    refine sm_gd (fun h96 => ?_)
    refine sm_cv (N := mX5_isSign) (d' := d - 1) (fun r => (some (vi r))) (fun _ => σ) (fun _ => τ) [vi 46] [] rfl (by decide +kernel) q509 q511 qs8 (Or.inl ⟨rfl, q512⟩) (show okN yX5_isSign 1 = true by decide +kernel) (fun H hR => hR.rv G.1 cd5 rfl h96) rfl rfl (by omega) rfl (fun Q' => sr_isSign_ok G (d - 1) (by omega) u0 46 σ Q') (fun y97 => ?_)
    refine sm_gd (fun h98 => ?_)
    refine sm_case (V g mX5_plain d 66 [(0, vr (some u0)), (1, vr u1), (2, vr (some u2))] [] σ τ Q) (V g mX5_plain d 50 [(0, vr (some u0)), (1, vr u1), (2, vr (some u2))] [] σ τ Q) ?_ ?_ (fun f107 p108 n109 => ?_)
    · exact sm_leaf (fun h => hE66 _ h)
    · refine sm_b (l' := [(0, vr (some u0)), (1, vr u1), (2, vr (some u2))]) (st' := [vr (some u0)]) (pc' := 51) [(.aload_n 0, vi 0, 51)] (by decide +kernel) rfl rfl ?_
      refine sm_cv (N := mX5_next) (d' := d - 1) (fun r => none) (fun r => r) (fun _ => τ) [] [] rfl (by decide +kernel) q366 q368 qs1 (Or.inl ⟨rfl, q369⟩) (show okN yX5_next 0 = true by decide +kernel) (fun H hR => hR.rv G.1 cd5 rfl h96) rfl rfl (by omega) rfl (fun Q' => sr_next_ok G (d - 1) (by omega) u0 σ Q') (fun y100 => ?_)
      refine sm_b (l' := [(0, vr (some u0)), (1, vr u1), (2, vr (some u2))]) (st' := [vr (some u0), vr (some u2)]) (pc' := 56) [(.aload_n 2, vi 0, 55), (.aload_n 0, vi 0, 56)] (by decide +kernel) rfl rfl ?_
      refine sm_gd (fun h101 => ?_)
      refine sm_cvT (N := mX5_name) (d' := d - 1) (fun r : Option Nat => some (vr r)) (fun z => Sum.inl ((none, z))) [] [vr (some u2)] rfl (by decide +kernel) q524 q526 qs9 (Or.inl ⟨rfl, q527⟩) (show okN yX5_name 0 = true by decide +kernel) (fun H hR => hR.rv G.1 cd5 rfl h101) rfl rfl (by omega) rfl (fun Q' => sr_name_ok G (d - 1) (by omega) u0 y100 Q') (fun z h => hRET _ h) (fun y103 σ104 => ?_)
      refine sm_gd (fun h105 => ?_)
      refine sm_cv (N := mJ2_add) (d' := d - 1) (fun r => (some (vi r.1))) (fun r => r.2) (fun _ => τ) [vr y103] [] rfl (by decide +kernel) q592 q593 q594 (Or.inl ⟨rfl, q595⟩) (show okN yJ2_add 1 = true by decide +kernel) (fun H hR => hR.rvL G.1 h105) rfl rfl (by omega) rfl (fun Q' => l_add_ok G (d - 1) (by omega) u2 y103 σ104 Q') (fun y106 => ?_)
      refine sm_b (l' := [(0, vr (some u0)), (1, vr u1), (2, vr (some u2))]) (st' := []) (pc' := 41) [(.pop, vi 0, 63), (.goto (-22), vi 0, 41)] (by decide +kernel) rfl rfl ?_
      exact ih y106.2
    refine sm_if_eq (off := 19) (tgt := 66) h98 (by decide +kernel) (fun c110 => ?_) (fun c110 => ?_)
    · exact p108 c110
    · exact n109 c110
set_option maxHeartbeats 4000000 in
theorem sr_plain_ok {g : GE} (G : GG g) {τ : TT} (d : Nat) (hd1 : 9 ≤ d) (a0 : Nat) (a1 : Option Nat)  (σ : ST) (Q : VQ) : Sm (V g mX5_plain d 0 [(0, vr (some a0)), (1, vr a1)] [] σ τ Q) (sr_plain (gRm g) a0 a1 σ) (fun r => tQ Q τ (fun r : Option Nat => some (vr r)) r) := by
  unfold sr_plain
  refine sm_top (fun K hRET => ?_)
  refine sm_b (l' := [(0, vr (some a0)), (1, vr a1)]) (st' := [vr (some a0), vr (some a0)]) (pc' := 2) [(.aload_n 0, vi 0, 1), (.aload_n 0, vi 0, 2)] (by decide +kernel) rfl rfl ?_
  refine sm_gd (fun h1 => ?_)
  refine sm_g (k := 6) (x := vr (sR σ 86 a0)) cd5 rfl h1 rfl q346 rfl (by decide +kernel) ?_
  refine sm_de (fun p2 h3 => ?_)
  refine sm_st [vr (some p2), vr (some a0)] (by rw [h3] <;> rfl) ?_
  refine sm_gd (fun h4 => ?_)
  refine sm_gN (k := 3) (x := vr (sR σ 19 p2)) cd1 rfl h4 rfl q247 rfl (by decide +kernel) ?_
  refine sm_de (fun p5 h6 => ?_)
  refine sm_st [vr (some p5), vr (some a0)] (by rw [h6] <;> rfl) ?_
  refine sm_gd (fun h7 => ?_)
  refine sm_cv (N := mJ2_size) (d' := d - 1) (fun r => (some (vi r))) (fun _ => σ) (fun _ => τ) [] [vr (some a0)] rfl (by decide +kernel) q518 q519 q520 (Or.inl ⟨rfl, q521⟩) (show okN yJ2_size 0 = true by decide +kernel) (fun H hR => hR.rvL G.1 h7) rfl rfl (by omega) rfl (fun Q' => l_size_ok G (d - 1) (by omega) p5 σ Q') (fun y8 => ?_)
  refine sm_b (l' := [(0, vr (some a0)), (1, vr a1)]) (st' := [vi 50, vi y8, vr (some a0)]) (pc' := 13) [(.bipush 50, vi 50, 13)] (by decide +kernel) rfl rfl ?_
  refine sm_bind1 (fun (v12 : Int) => V g mX5_plain d 21 [(0, vr (some a0)), (1, vr a1)] [vi v12, vr (some a0)] σ τ Q) (fun v12 => ?_) (fun K13 j14 => ?_)
  · refine sm_cvT (N := mX5_must) (d' := d - 1) (fun _ : Unit => none) (fun z => (none, z)) [vi v12] [] rfl (by decide +kernel) q437 q439 qs5 (Or.inl ⟨rfl, q440⟩) (show okN yX5_must 1 = true by decide +kernel) (fun H hR => hR.rv G.1 cd5 rfl h1) rfl rfl (by omega) rfl (fun Q' => sr_must_ok G (d - 1) (by omega) a0 v12 σ Q') (fun z h => hRET _ h) (fun y17 σ18 => ?_)
    refine sm_gd (fun h19 => ?_)
    refine sm_newList (i := 118) (i2 := 209) q697 rfl q698 h19 (by omega) rfl (by decide +kernel) (by decide +kernel) (by decide +kernel) ?_
    refine sm_nms (fun σ20 => ?_)
    refine sm_b (l' := [(0, vr (some a0)), (1, vr a1), (2, vr (some (sZ σ18)))]) (st' := [vr (some a0), vr (some (sZ σ18))]) (pc' := 34) [(.astore_n 2, vi 0, 32), (.aload_n 2, vi 0, 33), (.aload_n 0, vi 0, 34)] (by decide +kernel) rfl rfl ?_
    refine sm_gd (fun h21 => ?_)
    refine sm_cvT (N := mX5_name) (d' := d - 1) (fun r : Option Nat => some (vr r)) (fun z => (none, z)) [] [vr (some (sZ σ18))] rfl (by decide +kernel) q524 q526 qs9 (Or.inl ⟨rfl, q527⟩) (show okN yX5_name 0 = true by decide +kernel) (fun H hR => hR.rv G.1 cd5 rfl h21) rfl rfl (by omega) rfl (fun Q' => sr_name_ok G (d - 1) (by omega) a0 σ20 Q') (fun z h => hRET _ h) (fun y23 σ24 => ?_)
    refine sm_gd (fun h25 => ?_)
    refine sm_cv (N := mJ2_add) (d' := d - 1) (fun r => (some (vi r.1))) (fun r => r.2) (fun _ => τ) [vr y23] [] rfl (by decide +kernel) q592 q593 q594 (Or.inl ⟨rfl, q595⟩) (show okN yJ2_add 1 = true by decide +kernel) (fun H hR => hR.rvL G.1 h25) rfl rfl (by omega) rfl (fun Q' => l_add_ok G (d - 1) (by omega) (sZ σ18) y23 σ24 Q') (fun y26 => ?_)
    refine sm_b (l' := [(0, vr (some a0)), (1, vr a1), (2, vr (some (sZ σ18)))]) (st' := []) (pc' := 41) [(.pop, vi 0, 41)] (by decide +kernel) rfl rfl ?_
    refine sm_bindS (fun (v27 : ST) => V g mX5_plain d 66 [(0, vr (some a0)), (1, vr a1), (2, vr (some (sZ σ18)))] [] v27 τ Q) (fun v27 => ?_) (fun K28 o30 j29 => ?_)
    · refine sm_gd (fun h31 => ?_)
      refine sm_new cd8 rfl q699 q700 q154 (new_8 v27) h31 (by decide +kernel) ?_
      refine sm_nms (fun σ32 => ?_)
      refine sm_b (l' := [(0, vr (some a0)), (1, vr a1), (2, vr (some (sZ σ18)))]) (st' := [vr (some a0), vr a1, vr (some (sZ v27)), vr (some (sZ v27))]) (pc' := 72) [(.dup, vi 0, 70), (.aload_n 1, vi 0, 71), (.aload_n 0, vi 0, 72)] (by decide +kernel) rfl rfl ?_
      refine sm_gd (fun h33 => ?_)
      refine sm_cvT (N := mX5_name) (d' := d - 1) (fun r : Option Nat => some (vr r)) (fun z => (none, z)) [] [vr a1, vr (some (sZ v27)), vr (some (sZ v27))] rfl (by decide +kernel) q524 q526 qs9 (Or.inl ⟨rfl, q527⟩) (show okN yX5_name 0 = true by decide +kernel) (fun H hR => hR.rv G.1 cd5 rfl h33) rfl rfl (by omega) rfl (fun Q' => sr_name_ok G (d - 1) (by omega) a0 σ32 Q') (fun z h => hRET _ h) (fun y35 σ36 => ?_)
      refine sm_ci (N := mX8_init) (d' := d - 1) [vr a1, vr y35] [vr (some (sZ v27))] rfl (by decide +kernel) q701 q702 rfl q703 rfl rfl (show okN yX8_init 2 = true by decide +kernel) rfl rfl (by omega) rfl (fun Q' => fd_init_ok G (d - 1) (by omega) (sZ v27) a1 y35 σ36 Q') (fun y37 => ?_)
      refine sm_b (l' := [(0, vr (some a0)), (1, vr a1), (2, vr (some (sZ σ18))), (3, vr (some (sZ v27))), (4, vi 0)]) (st' := []) (pc' := 82) [(.astore_n 3, vi 0, 79), (.iconst 0, vi 0, 80), (.istore 4, vi 0, 82)] (by decide +kernel) rfl rfl ?_
      refine sm_bind1 (fun (v38 : ST) => V g mX5_plain d 114 [(0, vr (some a0)), (1, vr a1), (3, vr (some (sZ v27)))] [] v38 τ Q) (fun v38 => ?_) (fun K39 j40 => ?_)
      · refine sm_b (l' := [(0, vr (some a0)), (1, vr a1), (3, vr (some (sZ v27)))]) (st' := [vi 61, vr (some a0)]) (pc' := 117) [(.aload_n 0, vi 0, 115), (.bipush 61, vi 61, 117)] (by decide +kernel) rfl rfl ?_
        refine sm_gd (fun h42 => ?_)
        refine sm_cvT (N := mX5_sign) (d' := d - 1) (fun _ : Unit => none) (fun z => (none, z)) [vi 61] [] rfl (by decide +kernel) q505 q507 qs7 (Or.inl ⟨rfl, q508⟩) (show okN yX5_sign 1 = true by decide +kernel) (fun H hR => hR.rv G.1 cd5 rfl h42) rfl rfl (by omega) rfl (fun Q' => sr_sign_ok G (d - 1) (by omega) a0 61 v38 Q') (fun z h => hRET _ h) (fun y44 σ45 => ?_)
        refine sm_b (l' := [(0, vr (some a0)), (1, vr a1), (3, vr (some (sZ v27)))]) (st' := [vr (some a0), vr (some (sZ v27))]) (pc' := 122) [(.aload_n 3, vi 0, 121), (.aload_n 0, vi 0, 122)] (by decide +kernel) rfl rfl ?_
        refine sm_gd (fun h46 => ?_)
        refine sm_cvT (N := mX5_number) (d' := d - 1) (fun r : Int => some (vi r)) (fun z => (none, z)) [] [vr (some (sZ v27))] rfl (by decide +kernel) q684 q686 qs14 (Or.inl ⟨rfl, q687⟩) (show okN yX5_number 0 = true by decide +kernel) (fun H hR => hR.rv G.1 cd5 rfl h46) rfl rfl (by omega) rfl (fun Q' => sr_number_ok G (d - 1) (by omega) a0 σ45 Q') (fun z h => hRET _ h) (fun y48 σ49 => ?_)
        refine sm_gd (fun h50 => ?_)
        refine sm_pN (k := 3) (x := vi y48) cd8 rfl h50 rfl q729 rfl (nar_i _) (fit_i _) rfl (at_pI σ49 131 (sZ v27) y48) (fp_131 σ49 (sZ v27) y48) (by decide +kernel) ?_
        refine sm_nms (fun σ51 => ?_)
        refine sm_b (l' := [(0, vr (some a0)), (1, vr a1), (3, vr (some (sZ v27)))]) (st' := [vi 59, vr (some a0)]) (pc' := 131) [(.aload_n 0, vi 0, 129), (.bipush 59, vi 59, 131)] (by decide +kernel) rfl rfl ?_
        refine sm_gd (fun h52 => ?_)
        refine sm_cvT (N := mX5_sign) (d' := d - 1) (fun _ : Unit => none) (fun z => (none, z)) [vi 59] [] rfl (by decide +kernel) q505 q507 qs7 (Or.inl ⟨rfl, q508⟩) (show okN yX5_sign 1 = true by decide +kernel) (fun H hR => hR.rv G.1 cd5 rfl h52) rfl rfl (by omega) rfl (fun Q' => sr_sign_ok G (d - 1) (by omega) a0 59 σ51 Q') (fun z h => hRET _ h) (fun y54 σ55 => ?_)
        refine sm_b (l' := [(0, vr (some a0)), (1, vr a1), (3, vr (some (sZ v27)))]) (st' := [vr a1]) (pc' := 135) [(.aload_n 1, vi 0, 135)] (by decide +kernel) rfl rfl ?_
        refine sm_de (fun p56 h57 => ?_)
        refine sm_st [vr (some p56)] (by rw [h57] <;> rfl) ?_
        refine sm_gd (fun h58 => ?_)
        refine sm_gN (k := 3) (x := vr (sR σ55 99 p56)) cd6 rfl h58 rfl q562 rfl (by decide +kernel) ?_
        refine sm_b (l' := [(0, vr (some a0)), (1, vr a1), (3, vr (some (sZ v27)))]) (st' := [vr (some (sZ v27)), vr (sR σ55 99 p56)]) (pc' := 139) [(.aload_n 3, vi 0, 139)] (by decide +kernel) rfl rfl ?_
        refine sm_de (fun p59 h60 => ?_)
        refine sm_st [vr (some (sZ v27)), vr (some p59)] (by rw [h60] <;> rfl) ?_
        refine sm_gd (fun h61 => ?_)
        refine sm_cv (N := mJ2_add) (d' := d - 1) (fun r => (some (vi r.1))) (fun r => r.2) (fun _ => τ) [vr (some (sZ v27))] [] rfl (by decide +kernel) q592 q593 q594 (Or.inl ⟨rfl, q595⟩) (show okN yJ2_add 1 = true by decide +kernel) (fun H hR => hR.rvL G.1 h61) rfl rfl (by omega) rfl (fun Q' => l_add_ok G (d - 1) (by omega) p59 (some (sZ v27)) σ55 Q') (fun y62 => ?_)
        refine sm_b (l' := [(0, vr (some a0)), (1, vr a1), (3, vr (some (sZ v27)))]) (st' := [vr (some a0)]) (pc' := 144) [(.pop, vi 0, 143), (.aload_n 0, vi 0, 144)] (by decide +kernel) rfl rfl ?_
        refine sm_gd (fun h63 => ?_)
        refine sm_g (k := 6) (x := vr (sR y62.2 86 a0)) cd5 rfl h63 rfl q346 rfl (by decide +kernel) ?_
        refine sm_de (fun p64 h65 => ?_)
        refine sm_st [vr (some p64)] (by rw [h65] <;> rfl) ?_
        refine sm_gd (fun h66 => ?_)
        refine sm_gN (k := 3) (x := vr (sR y62.2 19 p64)) cd1 rfl h66 rfl q247 rfl (by decide +kernel) ?_
        refine sm_b (l' := [(0, vr (some a0)), (1, vr a1), (3, vr (some (sZ v27)))]) (st' := [vr (some (sZ v27)), vr (sR y62.2 19 p64)]) (pc' := 151) [(.aload_n 3, vi 0, 151)] (by decide +kernel) rfl rfl ?_
        refine sm_de (fun p67 h68 => ?_)
        refine sm_st [vr (some (sZ v27)), vr (some p67)] (by rw [h68] <;> rfl) ?_
        refine sm_gd (fun h69 => ?_)
        refine sm_cv (N := mJ2_add) (d' := d - 1) (fun r => (some (vi r.1))) (fun r => r.2) (fun _ => τ) [vr (some (sZ v27))] [] rfl (by decide +kernel) q592 q593 q594 (Or.inl ⟨rfl, q595⟩) (show okN yJ2_add 1 = true by decide +kernel) (fun H hR => hR.rvL G.1 h69) rfl rfl (by omega) rfl (fun Q' => l_add_ok G (d - 1) (by omega) p67 (some (sZ v27)) y62.2 Q') (fun y70 => ?_)
        refine sm_b (l' := [(0, vr (some a0)), (1, vr a1), (3, vr (some (sZ v27)))]) (st' := [vr (some (sZ v27))]) (pc' := 156) [(.pop, vi 0, 155), (.aload_n 3, vi 0, 156)] (by decide +kernel) rfl rfl ?_
        exact sm_aret rfl rfl (by decide +kernel) (fun h => hRET _ h)
      · exact sr_plain_L82_ok G d hd1 a0 a1 (sZ σ18) (sZ v27)  (fun _ h => j40 _ h) FU 0 y37
    · exact sr_plain_L41_ok G d hd1 a0 a1 (sZ σ18)  (fun r h => hRET _ (o30 _ h)) (fun _ h => j29 _ h) FU y26.2
  · refine sm_gd (fun h9 => ?_)
    refine sm_case (V g mX5_plain d 20 [(0, vr (some a0)), (1, vr a1)] [vr (some a0)] σ τ Q) (V g mX5_plain d 16 [(0, vr (some a0)), (1, vr a1)] [vr (some a0)] σ τ Q) ?_ ?_ (fun f111 p112 n113 => ?_)
    · refine sm_b (l' := [(0, vr (some a0)), (1, vr a1)]) (st' := [vi 0, vr (some a0)]) (pc' := 21) [(.iconst 0, vi 0, 21)] (by decide +kernel) rfl rfl ?_
      exact sm_leaf (fun h => j14 _ h)
    · refine sm_b (l' := [(0, vr (some a0)), (1, vr a1)]) (st' := [vi 1, vr (some a0)]) (pc' := 21) [(.iconst 1, vi 1, 17), (.goto 4, vi 0, 21)] (by decide +kernel) rfl rfl ?_
      exact sm_leaf (fun h => j14 _ h)
    refine sm_icmp_ge (off := 7) (tgt := 20) h9 (by decide) (by decide +kernel) (fun c114 => ?_) (fun c114 => ?_)
    · exact p112 c114
    · exact n113 c114
def sr_oneof_L66 (bb : Nat × Nat) (u0 : Nat) (u1 : Option Nat) (u2 : Int) : Nat → ST → Option ((Option Unit × ST) ⊕ (ST))
  | 0, _ => none
  | n + 1, σ => gd (sc σ u0 = 6) (Option.bind (sr_plain bb u0 u1 σ) (tB (fun z => Sum.inl ((none, z))) fun y49 σ50 => Option.bind y49 fun p51 => gd (sc σ50 p51 = 9) (nm (pI σ50 133 p51 u2) fun σ54 => gd (sc σ54 u0 = 6) (Option.bind (sr_isSign u0 125 σ54) fun y56 => gd (rg y56) (if y56 = 0 then (sr_oneof_L66 bb u0 u1 u2 n σ54) else (some (Sum.inr σ54)))))))
def sr_oneof (bb : Nat × Nat) (a0 : Nat) (a1 : Option Nat) (σ : ST) : Option (Option Unit × ST) := gd (sc σ a0 = 6) (Option.bind (sr_word bb a0 32 σ) (tB (fun z => (none, z)) fun y3 σ4 => gd (sc σ4 a0 = 6) (Option.bind (sR σ4 86 a0) fun p6 => gd (sc σ4 p6 = 2) (Option.bind (gd (rg (sI σ4 21 p6)) (if 12 ≤ (sI σ4 21 p6) then (some 0) else (some 1))) fun (v12 : Int) => Option.bind (sr_must bb a0 v12 σ4) (tB (fun z => (none, z)) fun y17 σ18 => gd (sc σ18 a0 = 6) (Option.bind (sR σ18 86 a0) fun p20 => gd (sc σ18 p20 = 2) (nm (sI σ18 21 p20) fun x23 => nm (pI σ18 21 p20 ((sI σ18 21 p20) + 1)) fun σ24 => Option.bind a1 fun p25 => gd (sc σ24 p25 = 7) (gd (sc σ24 a0 = 6) (Option.bind (sr_name bb a0 σ24) (tB (fun z => (none, z)) fun y30 σ31 => Option.bind (sR σ24 100 p25) fun p32 => gd (sc σ31 p32 = 16) (Option.bind (l_add bb p32 y30 σ31) fun y35 => gd (sc y35.2 a0 = 6) (Option.bind (sr_sign bb a0 123 y35.2) (tB (fun z => (none, z)) fun y38 σ39 => Option.bind (sr_oneof_L66 bb a0 a1 x23 FU σ39) (Sum.elim some fun (v40 : ST) => gd (sc v40 a0 = 6) (Option.bind (sr_next bb a0 v40) fun y45 => some ((some (), y45)))))))))))))))))
set_option maxHeartbeats 4000000 in
theorem sr_oneof_L66_ok {g : GE} (G : GG g) {τ : TT} {Q : VQ} (d : Nat) (hd1 : 10 ≤ d) (u0 : Nat) (u1 : Option Nat) (u2 : Int)  {K : (Option Unit × ST) ⊕ (ST) → Prop} (hRET : ∀ r : Option Unit × ST, K (Sum.inl r) → tQ Q τ (fun _ : Unit => none) r) (hE84 : ∀ v46 : ST, K (Sum.inr v46) → V g mX5_oneof d 84 [(0, vr (some u0))] [] v46 τ Q) : ∀ (n : Nat) (σ : ST), Sm (V g mX5_oneof d 66 [(0, vr (some u0)), (1, vr u1), (2, vi u2)] [] σ τ Q) (sr_oneof_L66 (gRm g) u0 u1 u2 n σ) K := by
  intro n
  induction n with
  | zero => intro σ; exact sm_none
  | succ n ih =>
    intro σ
    rw [sr_oneof_L66.eq_2]
    refine sm_b (l' := [(0, vr (some u0)), (1, vr u1), (2, vi u2)]) (st' := [vr u1, vr (some u0)]) (pc' := 68) [(.aload_n 0, vi 0, 67), (.aload_n 1, vi 0, 68)] (by decide +kernel) rfl rfl ?_
    refine sm_gd (fun h47 => ?_)
    refine sm_cvT (N := mX5_plain) (d' := d - 1) (fun r : Option Nat => some (vr r)) (fun z => Sum.inl ((none, z))) [vr u1] [] rfl (by decide +kernel) q693 q695 qs16 (Or.inl ⟨rfl, q696⟩) (show okN yX5_plain 1 = true by decide +kernel) (fun H hR => hR.rv G.1 cd5 rfl h47) rfl rfl (by omega) rfl (fun Q' => sr_plain_ok G (d - 1) (by omega) u0 u1 σ Q') (fun z h => hRET _ h) (fun y49 σ50 => ?_)
    refine sm_b (l' := [(0, vr (some u0)), (1, vr u1), (2, vi u2)]) (st' := [vi u2, vr y49]) (pc' := 72) [(.iload_n 2, vi 0, 72)] (by decide +kernel) rfl rfl ?_
    refine sm_de (fun p51 h52 => ?_)
    refine sm_st [vi u2, vr (some p51)] (by rw [h52] <;> rfl) ?_
    refine sm_gd (fun h53 => ?_)
    refine sm_pN (k := 5) (x := vi u2) cd8 rfl h53 rfl q740 rfl (nar_i _) (fit_i _) rfl (at_pI σ50 133 p51 u2) (fp_133 σ50 p51 u2) (by decide +kernel) ?_
    refine sm_nms (fun σ54 => ?_)
    refine sm_b (l' := [(0, vr (some u0)), (1, vr u1), (2, vi u2)]) (st' := [vi 125, vr (some u0)]) (pc' := 78) [(.aload_n 0, vi 0, 76), (.bipush 125, vi 125, 78)] (by decide +kernel) rfl rfl ?_
    refine sm_gd (fun h55 => ?_)
    refine sm_cv (N := mX5_isSign) (d' := d - 1) (fun r => (some (vi r))) (fun _ => σ54) (fun _ => τ) [vi 125] [] rfl (by decide +kernel) q509 q511 qs8 (Or.inl ⟨rfl, q512⟩) (show okN yX5_isSign 1 = true by decide +kernel) (fun H hR => hR.rv G.1 cd5 rfl h55) rfl rfl (by omega) rfl (fun Q' => sr_isSign_ok G (d - 1) (by omega) u0 125 σ54 Q') (fun y56 => ?_)
    refine sm_gd (fun h57 => ?_)
    refine sm_case (V g mX5_oneof d 66 [(0, vr (some u0)), (1, vr u1), (2, vi u2)] [] σ54 τ Q) (V g mX5_oneof d 84 [(0, vr (some u0)), (1, vr u1), (2, vi u2)] [] σ54 τ Q) ?_ ?_ (fun f58 p59 n60 => ?_)
    · exact ih σ54
    · refine sm_pick [0] (l' := [(0, vr (some u0))]) rfl ?_
      exact sm_leaf (fun h => hE84 _ h)
    refine sm_if_eq (off := (-15)) (tgt := 66) h57 (by decide +kernel) (fun c61 => ?_) (fun c61 => ?_)
    · exact p59 c61
    · exact n60 c61
set_option maxHeartbeats 4000000 in
theorem sr_oneof_ok {g : GE} (G : GG g) {τ : TT} (d : Nat) (hd1 : 10 ≤ d) (a0 : Nat) (a1 : Option Nat)  (σ : ST) (Q : VQ) : Sm (V g mX5_oneof d 0 [(0, vr (some a0)), (1, vr a1)] [] σ τ Q) (sr_oneof (gRm g) a0 a1 σ) (fun r => tQ Q τ (fun _ : Unit => none) r) := by
  unfold sr_oneof
  refine sm_top (fun K hRET => ?_)
  refine sm_b (l' := [(0, vr (some a0)), (1, vr a1)]) (st' := [vr (some a0)]) (pc' := 1) [(.aload_n 0, vi 0, 1)] (by decide +kernel) rfl rfl ?_
  refine sm_str (k := 32) G rfl (by decide +kernel) ?_
  refine sm_gd (fun h1 => ?_)
  refine sm_cvT (N := mX5_word) (d' := d - 1) (fun _ : Unit => none) (fun z => (none, z)) [vr (some (gK g 32))] [] rfl (by decide +kernel) q381 q383 qs3 (Or.inl ⟨rfl, q384⟩) (show okN yX5_word 1 = true by decide +kernel) (fun H hR => hR.rv G.1 cd5 rfl h1) rfl rfl (by omega) rfl (fun Q' => sr_word_ok G (d - 1) (by omega) a0 32 σ Q') (fun z h => hRET _ h) (fun y3 σ4 => ?_)
  refine sm_b (l' := [(0, vr (some a0)), (1, vr a1)]) (st' := [vr (some a0), vr (some a0)]) (pc' := 8) [(.aload_n 0, vi 0, 7), (.aload_n 0, vi 0, 8)] (by decide +kernel) rfl rfl ?_
  refine sm_gd (fun h5 => ?_)
  refine sm_g (k := 6) (x := vr (sR σ4 86 a0)) cd5 rfl h5 rfl q346 rfl (by decide +kernel) ?_
  refine sm_de (fun p6 h7 => ?_)
  refine sm_st [vr (some p6), vr (some a0)] (by rw [h7] <;> rfl) ?_
  refine sm_gd (fun h8 => ?_)
  refine sm_gN (k := 5) (x := vi (sI σ4 21 p6)) cd1 rfl h8 rfl q249 rfl (by decide +kernel) ?_
  refine sm_b (l' := [(0, vr (some a0)), (1, vr a1)]) (st' := [vi 12, vi (sI σ4 21 p6), vr (some a0)]) (pc' := 16) [(.bipush 12, vi 12, 16)] (by decide +kernel) rfl rfl ?_
  refine sm_bind1 (fun (v12 : Int) => V g mX5_oneof d 24 [(0, vr (some a0)), (1, vr a1)] [vi v12, vr (some a0)] σ4 τ Q) (fun v12 => ?_) (fun K13 j14 => ?_)
  · refine sm_cvT (N := mX5_must) (d' := d - 1) (fun _ : Unit => none) (fun z => (none, z)) [vi v12] [] rfl (by decide +kernel) q437 q439 qs5 (Or.inl ⟨rfl, q440⟩) (show okN yX5_must 1 = true by decide +kernel) (fun H hR => hR.rv G.1 cd5 rfl h5) rfl rfl (by omega) rfl (fun Q' => sr_must_ok G (d - 1) (by omega) a0 v12 σ4 Q') (fun z h => hRET _ h) (fun y17 σ18 => ?_)
    refine sm_b (l' := [(0, vr (some a0)), (1, vr a1)]) (st' := [vr (some a0)]) (pc' := 28) [(.aload_n 0, vi 0, 28)] (by decide +kernel) rfl rfl ?_
    refine sm_gd (fun h19 => ?_)
    refine sm_g (k := 6) (x := vr (sR σ18 86 a0)) cd5 rfl h19 rfl q346 rfl (by decide +kernel) ?_
    refine sm_de (fun p20 h21 => ?_)
    refine sm_st [vr (some p20)] (by rw [h21] <;> rfl) ?_
    refine sm_gd (fun h22 => ?_)
    refine sm_gN (k := 5) (x := vi (sI σ18 21 p20)) cd1 rfl h22 rfl q249 rfl (by decide +kernel) ?_
    refine sm_nmi (fun x23 => ?_)
    refine sm_b (l' := [(0, vr (some a0)), (1, vr a1), (2, vi x23)]) (st' := [vr (some a0)]) (pc' := 36) [(.istore_n 2, vi 0, 35), (.aload_n 0, vi 0, 36)] (by decide +kernel) rfl rfl ?_
    refine sm_g (k := 6) (x := vr (sR σ18 86 a0)) cd5 rfl h19 rfl q346 rfl (by decide +kernel) ?_
    refine sm_b (l' := [(0, vr (some a0)), (1, vr a1), (2, vi x23)]) (st' := [vr (sR σ18 86 a0), vr (sR σ18 86 a0)]) (pc' := 40) [(.dup, vi 0, 40)] (by decide +kernel) rfl rfl ?_
    refine sm_st [vr (some p20), vr (sR σ18 86 a0)] (by rw [h21] <;> rfl) ?_
    refine sm_gN (k := 5) (x := vi (sI σ18 21 p20)) cd1 rfl h22 rfl q249 rfl (by decide +kernel) ?_
    refine sm_b (l' := [(0, vr (some a0)), (1, vr a1), (2, vi x23)]) (st' := [vi ((sI σ18 21 p20) + 1), vr (sR σ18 86 a0)]) (pc' := 45) [(.iconst 1, vi 1, 44), (.iadd, vi 0, 45)] (by decide +kernel) rfl rfl ?_
    refine sm_st [vi ((sI σ18 21 p20) + 1), vr (some p20)] (by rw [h21] <;> rfl) ?_
    refine sm_pN (k := 5) (x := vi ((sI σ18 21 p20) + 1)) cd1 rfl h22 rfl q249 rfl (nar_i _) (fit_i _) rfl (at_pI σ18 21 p20 ((sI σ18 21 p20) + 1)) (fp_21 σ18 p20 ((sI σ18 21 p20) + 1)) (by decide +kernel) ?_
    refine sm_nms (fun σ24 => ?_)
    refine sm_b (l' := [(0, vr (some a0)), (1, vr a1), (2, vi x23)]) (st' := [vr a1]) (pc' := 49) [(.aload_n 1, vi 0, 49)] (by decide +kernel) rfl rfl ?_
    refine sm_de (fun p25 h26 => ?_)
    refine sm_st [vr (some p25)] (by rw [h26] <;> rfl) ?_
    refine sm_gd (fun h27 => ?_)
    refine sm_gN (k := 4) (x := vr (sR σ24 100 p25)) cd6 rfl h27 rfl q565 rfl (by decide +kernel) ?_
    refine sm_b (l' := [(0, vr (some a0)), (1, vr a1), (2, vi x23)]) (st' := [vr (some a0), vr (sR σ24 100 p25)]) (pc' := 53) [(.aload_n 0, vi 0, 53)] (by decide +kernel) rfl rfl ?_
    refine sm_gd (fun h28 => ?_)
    refine sm_cvT (N := mX5_name) (d' := d - 1) (fun r : Option Nat => some (vr r)) (fun z => (none, z)) [] [vr (sR σ24 100 p25)] rfl (by decide +kernel) q524 q526 qs9 (Or.inl ⟨rfl, q527⟩) (show okN yX5_name 0 = true by decide +kernel) (fun H hR => hR.rv G.1 cd5 rfl h28) rfl rfl (by omega) rfl (fun Q' => sr_name_ok G (d - 1) (by omega) a0 σ24 Q') (fun z h => hRET _ h) (fun y30 σ31 => ?_)
    refine sm_de (fun p32 h33 => ?_)
    refine sm_st [vr y30, vr (some p32)] (by rw [h33] <;> rfl) ?_
    refine sm_gd (fun h34 => ?_)
    refine sm_cv (N := mJ2_add) (d' := d - 1) (fun r => (some (vi r.1))) (fun r => r.2) (fun _ => τ) [vr y30] [] rfl (by decide +kernel) q592 q593 q594 (Or.inl ⟨rfl, q595⟩) (show okN yJ2_add 1 = true by decide +kernel) (fun H hR => hR.rvL G.1 h34) rfl rfl (by omega) rfl (fun Q' => l_add_ok G (d - 1) (by omega) p32 y30 σ31 Q') (fun y35 => ?_)
    refine sm_b (l' := [(0, vr (some a0)), (1, vr a1), (2, vi x23)]) (st' := [vi 123, vr (some a0)]) (pc' := 63) [(.pop, vi 0, 60), (.aload_n 0, vi 0, 61), (.bipush 123, vi 123, 63)] (by decide +kernel) rfl rfl ?_
    refine sm_gd (fun h36 => ?_)
    refine sm_cvT (N := mX5_sign) (d' := d - 1) (fun _ : Unit => none) (fun z => (none, z)) [vi 123] [] rfl (by decide +kernel) q505 q507 qs7 (Or.inl ⟨rfl, q508⟩) (show okN yX5_sign 1 = true by decide +kernel) (fun H hR => hR.rv G.1 cd5 rfl h36) rfl rfl (by omega) rfl (fun Q' => sr_sign_ok G (d - 1) (by omega) a0 123 y35.2 Q') (fun z h => hRET _ h) (fun y38 σ39 => ?_)
    refine sm_bindS (fun (v40 : ST) => V g mX5_oneof d 84 [(0, vr (some a0))] [] v40 τ Q) (fun v40 => ?_) (fun K41 o43 j42 => ?_)
    · refine sm_b (l' := [(0, vr (some a0))]) (st' := [vr (some a0)]) (pc' := 85) [(.aload_n 0, vi 0, 85)] (by decide +kernel) rfl rfl ?_
      refine sm_gd (fun h44 => ?_)
      refine sm_cv (N := mX5_next) (d' := d - 1) (fun r => none) (fun r => r) (fun _ => τ) [] [] rfl (by decide +kernel) q366 q368 qs1 (Or.inl ⟨rfl, q369⟩) (show okN yX5_next 0 = true by decide +kernel) (fun H hR => hR.rv G.1 cd5 rfl h44) rfl rfl (by omega) rfl (fun Q' => sr_next_ok G (d - 1) (by omega) a0 v40 Q') (fun y45 => ?_)
      exact sm_vret rfl (by decide +kernel) (fun h => hRET _ h)
    · exact sr_oneof_L66_ok G d hd1 a0 a1 x23  (fun r h => hRET _ (o43 _ h)) (fun _ h => j42 _ h) FU σ39
  · refine sm_gd (fun h9 => ?_)
    refine sm_case (V g mX5_oneof d 23 [(0, vr (some a0)), (1, vr a1)] [vr (some a0)] σ4 τ Q) (V g mX5_oneof d 19 [(0, vr (some a0)), (1, vr a1)] [vr (some a0)] σ4 τ Q) ?_ ?_ (fun f62 p63 n64 => ?_)
    · refine sm_b (l' := [(0, vr (some a0)), (1, vr a1)]) (st' := [vi 0, vr (some a0)]) (pc' := 24) [(.iconst 0, vi 0, 24)] (by decide +kernel) rfl rfl ?_
      exact sm_leaf (fun h => j14 _ h)
    · refine sm_b (l' := [(0, vr (some a0)), (1, vr a1)]) (st' := [vi 1, vr (some a0)]) (pc' := 24) [(.iconst 1, vi 1, 20), (.goto 4, vi 0, 24)] (by decide +kernel) rfl rfl ?_
      exact sm_leaf (fun h => j14 _ h)
    refine sm_icmp_ge (off := 7) (tgt := 23) h9 (by decide) (by decide +kernel) (fun c65 => ?_) (fun c65 => ?_)
    · exact p63 c65
    · exact n64 c65
def sr_reserve_L0 (bb : Nat × Nat) (u0 : Nat) (u1 : Option Nat) : Nat → ST → Option ((Option Unit × ST) ⊕ (ST))
  | 0, _ => none
  | n + 1, σ => gd (sc σ u0 = 6) (Option.bind (sr_next bb u0 σ) fun y11 => gd (sc y11 u0 = 6) (Option.bind (sR y11 86 u0) fun p13 => gd (sc y11 p13 = 2) (Option.bind (gd (rg (sI y11 22 p13)) (if 30 ≤ (sI y11 22 p13) then (some 0) else (some 1))) fun (v19 : Int) => Option.bind (sr_must bb u0 v19 y11) (tB (fun z => Sum.inl ((none, z))) fun y24 σ25 => gd (sc σ25 u0 = 6) (Option.bind (sR σ25 86 u0) fun p27 => gd (sc σ25 p27 = 2) (nm (pI σ25 22 p27 ((sI σ25 22 p27) + 1)) fun σ30 => Option.bind u1 fun p31 => gd (sc σ30 p31 = 7) (gd (sc σ30 u0 = 6) (Option.bind (sr_number bb u0 σ30) (tB (fun z => Sum.inl ((none, z))) fun y36 σ37 => Option.bind (sR σ30 101 p31) fun p38 => gd (sc σ37 p38 = 102) (gd (ib (sI σ30 102 p31) (sN σ37 p38)) (nm (pE σ37 p38 (sI σ30 102 p31).toNat y36) fun σ42 => gd (sc σ42 p31 = 7) (nm (pI σ42 102 p31 ((sI σ42 102 p31) + 1)) fun σ44 => gd (sc σ44 u0 = 6) (Option.bind (sr_isSign u0 44 σ44) fun y46 => gd (rg y46) (if y46 = 0 then (some (Sum.inr σ44)) else (sr_reserve_L0 bb u0 u1 n σ44)))))))))))))))
def sr_reserve (bb : Nat × Nat) (a0 : Nat) (a1 : Option Nat) (σ : ST) : Option (Option Unit × ST) := Option.bind (sr_reserve_L0 bb a0 a1 FU σ) (Sum.elim some fun (v1 : ST) => gd (sc v1 a0 = 6) (Option.bind (sr_sign bb a0 59 v1) (tB (fun z => (none, z)) fun y7 σ8 => some ((some (), σ8)))))
set_option maxHeartbeats 4000000 in
theorem sr_reserve_L0_ok {g : GE} (G : GG g) {τ : TT} {Q : VQ} (d : Nat) (hd1 : 9 ≤ d) (u0 : Nat) (u1 : Option Nat)  {K : (Option Unit × ST) ⊕ (ST) → Prop} (hRET : ∀ r : Option Unit × ST, K (Sum.inl r) → tQ Q τ (fun _ : Unit => none) r) (hE70 : ∀ v9 : ST, K (Sum.inr v9) → V g mX5_reserve d 70 [(0, vr (some u0))] [] v9 τ Q) : ∀ (n : Nat) (σ : ST), Sm (V g mX5_reserve d 0 [(0, vr (some u0)), (1, vr u1)] [] σ τ Q) (sr_reserve_L0 (gRm g) u0 u1 n σ) K := by
  intro n
  induction n with
  | zero => intro σ; exact sm_none
  | succ n ih =>
    intro σ
    rw [sr_reserve_L0.eq_2]
    refine sm_b (l' := [(0, vr (some u0)), (1, vr u1)]) (st' := [vr (some u0)]) (pc' := 1) [(.aload_n 0, vi 0, 1)] (by decide +kernel) rfl rfl ?_
    refine sm_gd (fun h10 => ?_)
    refine sm_cv (N := mX5_next) (d' := d - 1) (fun r => none) (fun r => r) (fun _ => τ) [] [] rfl (by decide +kernel) q366 q368 qs1 (Or.inl ⟨rfl, q369⟩) (show okN yX5_next 0 = true by decide +kernel) (fun H hR => hR.rv G.1 cd5 rfl h10) rfl rfl (by omega) rfl (fun Q' => sr_next_ok G (d - 1) (by omega) u0 σ Q') (fun y11 => ?_)
    refine sm_b (l' := [(0, vr (some u0)), (1, vr u1)]) (st' := [vr (some u0), vr (some u0)]) (pc' := 6) [(.aload_n 0, vi 0, 5), (.aload_n 0, vi 0, 6)] (by decide +kernel) rfl rfl ?_
    refine sm_gd (fun h12 => ?_)
    refine sm_g (k := 6) (x := vr (sR y11 86 u0)) cd5 rfl h12 rfl q346 rfl (by decide +kernel) ?_
    refine sm_de (fun p13 h14 => ?_)
    refine sm_st [vr (some p13), vr (some u0)] (by rw [h14] <;> rfl) ?_
    refine sm_gd (fun h15 => ?_)
    refine sm_gN (k := 6) (x := vi (sI y11 22 p13)) cd1 rfl h15 rfl q250 rfl (by decide +kernel) ?_
    refine sm_b (l' := [(0, vr (some u0)), (1, vr u1)]) (st' := [vi 30, vi (sI y11 22 p13), vr (some u0)]) (pc' := 14) [(.bipush 30, vi 30, 14)] (by decide +kernel) rfl rfl ?_
    refine sm_bind1 (fun (v19 : Int) => V g mX5_reserve d 22 [(0, vr (some u0)), (1, vr u1)] [vi v19, vr (some u0)] y11 τ Q) (fun v19 => ?_) (fun K20 j21 => ?_)
    · refine sm_cvT (N := mX5_must) (d' := d - 1) (fun _ : Unit => none) (fun z => Sum.inl ((none, z))) [vi v19] [] rfl (by decide +kernel) q437 q439 qs5 (Or.inl ⟨rfl, q440⟩) (show okN yX5_must 1 = true by decide +kernel) (fun H hR => hR.rv G.1 cd5 rfl h12) rfl rfl (by omega) rfl (fun Q' => sr_must_ok G (d - 1) (by omega) u0 v19 y11 Q') (fun z h => hRET _ h) (fun y24 σ25 => ?_)
      refine sm_b (l' := [(0, vr (some u0)), (1, vr u1)]) (st' := [vr (some u0)]) (pc' := 26) [(.aload_n 0, vi 0, 26)] (by decide +kernel) rfl rfl ?_
      refine sm_gd (fun h26 => ?_)
      refine sm_g (k := 6) (x := vr (sR σ25 86 u0)) cd5 rfl h26 rfl q346 rfl (by decide +kernel) ?_
      refine sm_b (l' := [(0, vr (some u0)), (1, vr u1)]) (st' := [vr (sR σ25 86 u0), vr (sR σ25 86 u0)]) (pc' := 30) [(.dup, vi 0, 30)] (by decide +kernel) rfl rfl ?_
      refine sm_de (fun p27 h28 => ?_)
      refine sm_st [vr (some p27), vr (sR σ25 86 u0)] (by rw [h28] <;> rfl) ?_
      refine sm_gd (fun h29 => ?_)
      refine sm_gN (k := 6) (x := vi (sI σ25 22 p27)) cd1 rfl h29 rfl q250 rfl (by decide +kernel) ?_
      refine sm_b (l' := [(0, vr (some u0)), (1, vr u1)]) (st' := [vi ((sI σ25 22 p27) + 1), vr (sR σ25 86 u0)]) (pc' := 35) [(.iconst 1, vi 1, 34), (.iadd, vi 0, 35)] (by decide +kernel) rfl rfl ?_
      refine sm_st [vi ((sI σ25 22 p27) + 1), vr (some p27)] (by rw [h28] <;> rfl) ?_
      refine sm_pN (k := 6) (x := vi ((sI σ25 22 p27) + 1)) cd1 rfl h29 rfl q250 rfl (nar_i _) (fit_i _) rfl (at_pI σ25 22 p27 ((sI σ25 22 p27) + 1)) (fp_22 σ25 p27 ((sI σ25 22 p27) + 1)) (by decide +kernel) ?_
      refine sm_nms (fun σ30 => ?_)
      refine sm_b (l' := [(0, vr (some u0)), (1, vr u1)]) (st' := [vr u1]) (pc' := 39) [(.aload_n 1, vi 0, 39)] (by decide +kernel) rfl rfl ?_
      refine sm_de (fun p31 h32 => ?_)
      refine sm_st [vr (some p31)] (by rw [h32] <;> rfl) ?_
      refine sm_gd (fun h33 => ?_)
      refine sm_gN (k := 5) (x := vr (sR σ30 101 p31)) cd6 rfl h33 rfl q568 rfl (by decide +kernel) ?_
      refine sm_b (l' := [(0, vr (some u0)), (1, vr u1)]) (st' := [vr u1, vr (sR σ30 101 p31)]) (pc' := 43) [(.aload_n 1, vi 0, 43)] (by decide +kernel) rfl rfl ?_
      refine sm_st [vr (some p31), vr (sR σ30 101 p31)] (by rw [h32] <;> rfl) ?_
      refine sm_gN (k := 6) (x := vi (sI σ30 102 p31)) cd6 rfl h33 rfl q570 rfl (by decide +kernel) ?_
      refine sm_b (l' := [(0, vr (some u0)), (1, vr u1)]) (st' := [vr (some u0), vi (sI σ30 102 p31), vr (sR σ30 101 p31)]) (pc' := 47) [(.aload_n 0, vi 0, 47)] (by decide +kernel) rfl rfl ?_
      refine sm_gd (fun h34 => ?_)
      refine sm_cvT (N := mX5_number) (d' := d - 1) (fun r : Int => some (vi r)) (fun z => Sum.inl ((none, z))) [] [vi (sI σ30 102 p31), vr (sR σ30 101 p31)] rfl (by decide +kernel) q684 q686 qs14 (Or.inl ⟨rfl, q687⟩) (show okN yX5_number 0 = true by decide +kernel) (fun H hR => hR.rv G.1 cd5 rfl h34) rfl rfl (by omega) rfl (fun Q' => sr_number_ok G (d - 1) (by omega) u0 σ30 Q') (fun z h => hRET _ h) (fun y36 σ37 => ?_)
      refine sm_de (fun p38 h39 => ?_)
      refine sm_st [vi y36, vi (sI σ30 102 p31), vr (some p38)] (by rw [h39] <;> rfl) ?_
      refine sm_gd (fun h40 => ?_)
      refine sm_gd (fun h41 => ?_)
      refine sm_es h40 h41 (by decide +kernel) ?_
      refine sm_nms (fun σ42 => ?_)
      refine sm_b (l' := [(0, vr (some u0)), (1, vr u1)]) (st' := [vr u1, vr u1]) (pc' := 53) [(.aload_n 1, vi 0, 52), (.dup, vi 0, 53)] (by decide +kernel) rfl rfl ?_
      refine sm_st [vr (some p31), vr u1] (by rw [h32] <;> rfl) ?_
      refine sm_gd (fun h43 => ?_)
      refine sm_gN (k := 6) (x := vi (sI σ42 102 p31)) cd6 rfl h43 rfl q570 rfl (by decide +kernel) ?_
      refine sm_b (l' := [(0, vr (some u0)), (1, vr u1)]) (st' := [vi ((sI σ42 102 p31) + 1), vr u1]) (pc' := 58) [(.iconst 1, vi 1, 57), (.iadd, vi 0, 58)] (by decide +kernel) rfl rfl ?_
      refine sm_st [vi ((sI σ42 102 p31) + 1), vr (some p31)] (by rw [h32] <;> rfl) ?_
      refine sm_pN (k := 6) (x := vi ((sI σ42 102 p31) + 1)) cd6 rfl h43 rfl q570 rfl (nar_i _) (fit_i _) rfl (at_pI σ42 102 p31 ((sI σ42 102 p31) + 1)) (fp_102 σ42 p31 ((sI σ42 102 p31) + 1)) (by decide +kernel) ?_
      refine sm_nms (fun σ44 => ?_)
      refine sm_b (l' := [(0, vr (some u0)), (1, vr u1)]) (st' := [vi 44, vr (some u0)]) (pc' := 64) [(.aload_n 0, vi 0, 62), (.bipush 44, vi 44, 64)] (by decide +kernel) rfl rfl ?_
      refine sm_gd (fun h45 => ?_)
      refine sm_cv (N := mX5_isSign) (d' := d - 1) (fun r => (some (vi r))) (fun _ => σ44) (fun _ => τ) [vi 44] [] rfl (by decide +kernel) q509 q511 qs8 (Or.inl ⟨rfl, q512⟩) (show okN yX5_isSign 1 = true by decide +kernel) (fun H hR => hR.rv G.1 cd5 rfl h45) rfl rfl (by omega) rfl (fun Q' => sr_isSign_ok G (d - 1) (by omega) u0 44 σ44 Q') (fun y46 => ?_)
      refine sm_gd (fun h47 => ?_)
      refine sm_case (V g mX5_reserve d 70 [(0, vr (some u0)), (1, vr u1)] [] σ44 τ Q) (V g mX5_reserve d 0 [(0, vr (some u0)), (1, vr u1)] [] σ44 τ Q) ?_ ?_ (fun f48 p49 n50 => ?_)
      · refine sm_pick [0] (l' := [(0, vr (some u0))]) rfl ?_
        exact sm_leaf (fun h => hE70 _ h)
      · exact ih σ44
      refine sm_if_ne (off := (-67)) (tgt := 0) h47 (by decide +kernel) (fun c51 => ?_) (fun c51 => ?_)
      · exact n50 c51
      · exact p49 c51
    · refine sm_gd (fun h16 => ?_)
      refine sm_case (V g mX5_reserve d 21 [(0, vr (some u0)), (1, vr u1)] [vr (some u0)] y11 τ Q) (V g mX5_reserve d 17 [(0, vr (some u0)), (1, vr u1)] [vr (some u0)] y11 τ Q) ?_ ?_ (fun f52 p53 n54 => ?_)
      · refine sm_b (l' := [(0, vr (some u0)), (1, vr u1)]) (st' := [vi 0, vr (some u0)]) (pc' := 22) [(.iconst 0, vi 0, 22)] (by decide +kernel) rfl rfl ?_
        exact sm_leaf (fun h => j21 _ h)
      · refine sm_b (l' := [(0, vr (some u0)), (1, vr u1)]) (st' := [vi 1, vr (some u0)]) (pc' := 22) [(.iconst 1, vi 1, 18), (.goto 4, vi 0, 22)] (by decide +kernel) rfl rfl ?_
        exact sm_leaf (fun h => j21 _ h)
      refine sm_icmp_ge (off := 7) (tgt := 21) h16 (by decide) (by decide +kernel) (fun c55 => ?_) (fun c55 => ?_)
      · exact p53 c55
      · exact n54 c55
set_option maxHeartbeats 4000000 in
theorem sr_reserve_ok {g : GE} (G : GG g) {τ : TT} (d : Nat) (hd1 : 9 ≤ d) (a0 : Nat) (a1 : Option Nat)  (σ : ST) (Q : VQ) : Sm (V g mX5_reserve d 0 [(0, vr (some a0)), (1, vr a1)] [] σ τ Q) (sr_reserve (gRm g) a0 a1 σ) (fun r => tQ Q τ (fun _ : Unit => none) r) := by
  unfold sr_reserve
  refine sm_top (fun K hRET => ?_)
  refine sm_bindS (fun (v1 : ST) => V g mX5_reserve d 70 [(0, vr (some a0))] [] v1 τ Q) (fun v1 => ?_) (fun K2 o4 j3 => ?_)
  · refine sm_b (l' := [(0, vr (some a0))]) (st' := [vi 59, vr (some a0)]) (pc' := 73) [(.aload_n 0, vi 0, 71), (.bipush 59, vi 59, 73)] (by decide +kernel) rfl rfl ?_
    refine sm_gd (fun h5 => ?_)
    refine sm_cvT (N := mX5_sign) (d' := d - 1) (fun _ : Unit => none) (fun z => (none, z)) [vi 59] [] rfl (by decide +kernel) q505 q507 qs7 (Or.inl ⟨rfl, q508⟩) (show okN yX5_sign 1 = true by decide +kernel) (fun H hR => hR.rv G.1 cd5 rfl h5) rfl rfl (by omega) rfl (fun Q' => sr_sign_ok G (d - 1) (by omega) a0 59 v1 Q') (fun z h => hRET _ h) (fun y7 σ8 => ?_)
    exact sm_vret rfl (by decide +kernel) (fun h => hRET _ h)
  · exact sr_reserve_L0_ok G d hd1 a0 a1  (fun r h => hRET _ (o4 _ h)) (fun _ h => j3 _ h) FU σ
def sr_field (bb : Nat × Nat) (a0 : Nat) (a1 : Option Nat) (σ : ST) : Option (Option Unit × ST) := gd (sc σ a0 = 6) (Option.bind (sr_isWord a0 34 σ) fun y2 => Option.bind (sr_isWord a0 35 σ) fun y3 => Option.bind (gd (rg y2) (gd (y2 = 0 → rg y3) (if (y2 = 0) ∧ (y3 = 0) then (some σ) else (Option.bind (sr_next bb a0 σ) fun y24 => some y24)))) fun (v8 : ST) => gd (sc v8 a0 = 6) (Option.bind (sr_plain bb a0 a1 v8) (tB (fun z => (none, z)) fun y14 σ15 => Option.bind y14 fun p16 => gd (sc σ15 p16 = 9) (gd (zb y2) (nm (pI σ15 135 p16 y2) fun σ20 => gd (sc σ20 p16 = 9) (gd (zb y3) (nm (pI σ20 136 p16 y3) fun σ23 => some ((some (), σ23)))))))))
set_option maxHeartbeats 4000000 in
theorem sr_field_ok {g : GE} (G : GG g) {τ : TT} (d : Nat) (hd1 : 10 ≤ d) (a0 : Nat) (a1 : Option Nat)  (σ : ST) (Q : VQ) : Sm (V g mX5_field d 0 [(0, vr (some a0)), (1, vr a1)] [] σ τ Q) (sr_field (gRm g) a0 a1 σ) (fun r => tQ Q τ (fun _ : Unit => none) r) := by
  unfold sr_field
  refine sm_top (fun K hRET => ?_)
  refine sm_b (l' := [(0, vr (some a0)), (1, vr a1)]) (st' := [vr (some a0)]) (pc' := 1) [(.aload_n 0, vi 0, 1)] (by decide +kernel) rfl rfl ?_
  refine sm_str (k := 34) G rfl (by decide +kernel) ?_
  refine sm_gd (fun h1 => ?_)
  refine sm_cv (N := mX5_isWord) (d' := d - 1) (fun r => (some (vi r))) (fun _ => σ) (fun _ => τ) [vr (some (gK g 34))] [] rfl (by decide +kernel) q385 q387 qs4 (Or.inl ⟨rfl, q388⟩) (show okN yX5_isWord 1 = true by decide +kernel) (fun H hR => hR.rv G.1 cd5 rfl h1) rfl rfl (by omega) rfl (fun Q' => sr_isWord_ok G (d - 1) (by omega) a0 34 σ Q') (fun y2 => ?_)
  refine sm_b (l' := [(0, vr (some a0)), (1, vr a1), (2, vi y2)]) (st' := [vr (some a0)]) (pc' := 8) [(.istore_n 2, vi 0, 7), (.aload_n 0, vi 0, 8)] (by decide +kernel) rfl rfl ?_
  refine sm_str (k := 35) G rfl (by decide +kernel) ?_
  refine sm_cv (N := mX5_isWord) (d' := d - 1) (fun r => (some (vi r))) (fun _ => σ) (fun _ => τ) [vr (some (gK g 35))] [] rfl (by decide +kernel) q385 q387 qs4 (Or.inl ⟨rfl, q388⟩) (show okN yX5_isWord 1 = true by decide +kernel) (fun H hR => hR.rv G.1 cd5 rfl h1) rfl rfl (by omega) rfl (fun Q' => sr_isWord_ok G (d - 1) (by omega) a0 35 σ Q') (fun y3 => ?_)
  refine sm_b (l' := [(0, vr (some a0)), (1, vr a1), (2, vi y2), (3, vi y3)]) (st' := [vi y2]) (pc' := 15) [(.istore_n 3, vi 0, 14), (.iload_n 2, vi 0, 15)] (by decide +kernel) rfl rfl ?_
  refine sm_bind1 (fun (v8 : ST) => V g mX5_field d 26 [(0, vr (some a0)), (1, vr a1), (2, vi y2), (3, vi y3)] [] v8 τ Q) (fun v8 => ?_) (fun K9 j10 => ?_)
  · refine sm_b (l' := [(0, vr (some a0)), (1, vr a1), (2, vi y2), (3, vi y3)]) (st' := [vr a1, vr (some a0)]) (pc' := 28) [(.aload_n 0, vi 0, 27), (.aload_n 1, vi 0, 28)] (by decide +kernel) rfl rfl ?_
    refine sm_gd (fun h12 => ?_)
    refine sm_cvT (N := mX5_plain) (d' := d - 1) (fun r : Option Nat => some (vr r)) (fun z => (none, z)) [vr a1] [] rfl (by decide +kernel) q693 q695 qs16 (Or.inl ⟨rfl, q696⟩) (show okN yX5_plain 1 = true by decide +kernel) (fun H hR => hR.rv G.1 cd5 rfl h12) rfl rfl (by omega) rfl (fun Q' => sr_plain_ok G (d - 1) (by omega) a0 a1 v8 Q') (fun z h => hRET _ h) (fun y14 σ15 => ?_)
    refine sm_b (l' := [(0, vr (some a0)), (1, vr a1), (2, vi y2), (3, vi y3), (4, vr y14)]) (st' := [vi y2, vr y14]) (pc' := 36) [(.astore 4, vi 0, 33), (.aload 4, vi 0, 35), (.iload_n 2, vi 0, 36)] (by decide +kernel) rfl rfl ?_
    refine sm_de (fun p16 h17 => ?_)
    refine sm_st [vi y2, vr (some p16)] (by rw [h17] <;> rfl) ?_
    refine sm_gd (fun h18 => ?_)
    refine sm_gd (fun h19 => ?_)
    refine sm_pN (k := 7) (x := vi y2) cd8 rfl h18 rfl q749 rfl (nar_z h19) (fit_z h19) rfl (at_pI σ15 135 p16 y2) (fp_135 σ15 p16 y2) (by decide +kernel) ?_
    refine sm_nms (fun σ20 => ?_)
    refine sm_b (l' := [(0, vr (some a0)), (1, vr a1), (2, vi y2), (3, vi y3), (4, vr y14)]) (st' := [vi y3, vr y14]) (pc' := 42) [(.aload 4, vi 0, 41), (.iload_n 3, vi 0, 42)] (by decide +kernel) rfl rfl ?_
    refine sm_st [vi y3, vr (some p16)] (by rw [h17] <;> rfl) ?_
    refine sm_gd (fun h21 => ?_)
    refine sm_gd (fun h22 => ?_)
    refine sm_pN (k := 8) (x := vi y3) cd8 rfl h21 rfl q752 rfl (nar_z h22) (fit_z h22) rfl (at_pI σ20 136 p16 y3) (fp_136 σ20 p16 y3) (by decide +kernel) ?_
    refine sm_nms (fun σ23 => ?_)
    exact sm_vret rfl (by decide +kernel) (fun h => hRET _ h)
  · refine sm_gd (fun h4 => ?_)
    refine sm_gd (fun h6 => ?_)
    refine sm_case (V g mX5_field d 26 [(0, vr (some a0)), (1, vr a1), (2, vi y2), (3, vi y3)] [] σ τ Q) (V g mX5_field d 22 [(0, vr (some a0)), (1, vr a1), (2, vi y2), (3, vi y3)] [] σ τ Q) ?_ ?_ (fun f25 p26 n27 => ?_)
    · exact sm_leaf (fun h => j10 _ h)
    · refine sm_b (l' := [(0, vr (some a0)), (1, vr a1), (2, vi y2), (3, vi y3)]) (st' := [vr (some a0)]) (pc' := 23) [(.aload_n 0, vi 0, 23)] (by decide +kernel) rfl rfl ?_
      refine sm_cv (N := mX5_next) (d' := d - 1) (fun r => none) (fun r => r) (fun _ => τ) [] [] rfl (by decide +kernel) q366 q368 qs1 (Or.inl ⟨rfl, q369⟩) (show okN yX5_next 0 = true by decide +kernel) (fun H hR => hR.rv G.1 cd5 rfl h1) rfl rfl (by omega) rfl (fun Q' => sr_next_ok G (d - 1) (by omega) a0 σ Q') (fun y24 => ?_)
      exact sm_leaf (fun h => j10 _ h)
    refine sm_if_ne (off := 7) (tgt := 22) h4 (by decide +kernel) (fun c28 => ?_) (fun c28 => ?_)
    · exact n27 (fun q => c28 q.1)
    · have w5 : y2 = 0 := c28
      refine sm_b (l' := [(0, vr (some a0)), (1, vr a1), (2, vi y2), (3, vi y3)]) (st' := [vi y3]) (pc' := 19) [(.iload_n 3, vi 0, 19)] (by decide +kernel) rfl rfl ?_
      refine sm_if_eq (off := 7) (tgt := 26) (h6 w5) (by decide +kernel) (fun c29 => ?_) (fun c29 => ?_)
      · exact p26 ⟨c28, c29⟩
      · exact n27 (fun q => c29 q.2)
