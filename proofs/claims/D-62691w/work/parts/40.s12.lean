set_option maxRecDepth 100000
/-! the system: X14_hex, X14_told, X3_addSign, X14_escape, X14_string -/
def jr_hex_L4 (bb : Nat × Nat) (u0 : Nat) : Nat → Int → Int → ST → Option (Option Int × ST)
  | 0, _, _, _ => none
  | n + 1, w1, w2, σ => gd (rg w2) (if 4 ≤ w2 then (some ((some w1, σ))) else (gd (sc σ u0 = 14) (Option.bind (jr_look u0 σ) fun y7 => Option.bind (gd (rg y7) (if (y7 < 48) ∨ (57 < y7) then (if (y7 < 97) ∨ (102 < y7) then (if (y7 < 65) ∨ (70 < y7) then (some (((-1)))) else (some ((y7 - 55)))) else (some ((y7 - 87)))) else (some ((y7 - 48))))) fun (v12 : Int) => Option.bind (gd (rg v12) (if v12 < 0 then (some 0) else (some 1))) fun (v19 : Int) => Option.bind (s_must bb v19 σ) (tB (fun z => (none, z)) fun y24 σ25 => nm ((16 * w1) + v12) fun x26 => gd (sc σ25 u0 = 14) (nm (pI σ25 210 u0 ((sI σ25 210 u0) + 1)) fun σ28 => jr_hex_L4 bb u0 n x26 (w2 + 1) σ28)))))
def jr_hex (bb : Nat × Nat) (a0 : Nat) (σ : ST) : Option (Option Int × ST) := jr_hex_L4 bb a0 FU 0 0 σ
set_option maxHeartbeats 4000000 in
theorem jr_hex_L4_ok {g : GE} (G : GG g) {τ : TT} {Q : VQ} (d : Nat) (hd1 : 7 ≤ d) (u0 : Nat)  {K : Option Int × ST → Prop} (hRET : ∀ r : Option Int × ST, K (r) → tQ Q τ (fun r : Int => some (vi r)) r) : ∀ (n : Nat) (w1 : Int) (w2 : Int) (σ : ST), Sm (V g mX14_hex d 4 [(0, vr (some u0)), (1, vi w1), (2, vi w2)] [] σ τ Q) (jr_hex_L4 (gRm g) u0 n w1 w2 σ) K := by
  intro n
  induction n with
  | zero => intro w1 w2 σ; exact sm_none
  | succ n ih =>
    intro w1 w2 σ
    rw [jr_hex_L4.eq_2]
    refine sm_b (l' := [(0, vr (some u0)), (1, vi w1), (2, vi w2)]) (st' := [vi 4, vi w2]) (pc' := 6) [(.iload_n 2, vi 0, 5), (.iconst 4, vi 4, 6)] (by decide +kernel) rfl rfl ?_
    refine sm_gd (fun h1 => ?_)
    refine sm_case (V g mX14_hex d 111 [(0, vr (some u0)), (1, vi w1), (2, vi w2)] [] σ τ Q) (V g mX14_hex d 9 [(0, vr (some u0)), (1, vi w1), (2, vi w2)] [] σ τ Q) ?_ ?_ (fun f54 p55 n56 => ?_)
    · refine sm_b (l' := [(0, vr (some u0)), (1, vi w1), (2, vi w2)]) (st' := [vi w1]) (pc' := 112) [(.iload_n 1, vi 0, 112)] (by decide +kernel) rfl rfl ?_
      exact sm_iret rfl (by decide +kernel) (fun h => hRET _ h)
    · refine sm_b (l' := [(0, vr (some u0)), (1, vi w1), (2, vi w2)]) (st' := [vr (some u0)]) (pc' := 10) [(.aload_n 0, vi 0, 10)] (by decide +kernel) rfl rfl ?_
      refine sm_gd (fun h6 => ?_)
      refine sm_cv (N := mX14_look) (d' := d - 1) (fun r => (some (vi r))) (fun _ => σ) (fun _ => τ) [] [] rfl (by decide +kernel) q1233 q1235 qs35 (Or.inl ⟨rfl, q1236⟩) (show okN yX14_look 0 = true by decide +kernel) (fun H hR => hR.rv G.1 cd13 rfl h6) rfl rfl (by omega) rfl (fun Q' => jr_look_ok G (d - 1) (by omega) u0 σ Q') (fun y7 => ?_)
      refine sm_b (l' := [(0, vr (some u0)), (1, vi w1), (2, vi w2), (3, vi y7)]) (st' := [vi 48, vi y7]) (pc' := 17) [(.istore_n 3, vi 0, 14), (.iload_n 3, vi 0, 15), (.bipush 48, vi 48, 17)] (by decide +kernel) rfl rfl ?_
      refine sm_bind1 (fun (v12 : Int) => V g mX14_hex d 72 [(0, vr (some u0)), (1, vi w1), (2, vi w2)] [vi v12] σ τ Q) (fun v12 => ?_) (fun K13 j14 => ?_)
      · refine sm_b (l' := [(0, vr (some u0)), (1, vi w1), (2, vi w2), (4, vi v12)]) (st' := [vi v12]) (pc' := 76) [(.istore 4, vi 0, 74), (.iload 4, vi 0, 76)] (by decide +kernel) rfl rfl ?_
        refine sm_bind1 (fun (v19 : Int) => V g mX14_hex d 84 [(0, vr (some u0)), (1, vi w1), (2, vi w2), (4, vi v12)] [vi v19] σ τ Q) (fun v19 => ?_) (fun K20 j21 => ?_)
        · refine sm_csTE (N := mX14_must) (d' := d - 1) (fun _ : Unit => none) (fun z => (none, z)) [vi v19] [] rfl (by decide +kernel) q1237 q1238 q162 (Or.inl ⟨rfl, q1239⟩) (show okN yX14_must 1 = true by decide +kernel) rfl rfl (by omega) rfl (fun Q' => jr_must_ok G (d - 1) (by omega) v19 σ Q') (fun z h => hRET _ h) (fun y24 σ25 => ?_)
          refine sm_b (l' := [(0, vr (some u0)), (1, vi w1), (2, vi w2), (4, vi v12)]) (st' := [vi ((16 * w1) + v12)]) (pc' := 94) [(.bipush 16, vi 16, 89), (.iload_n 1, vi 0, 90), (.imul, vi 0, 91), (.iload 4, vi 0, 93), (.iadd, vi 0, 94)] (by decide +kernel) rfl rfl ?_
          refine sm_nmi (fun x26 => ?_)
          refine sm_b (l' := [(0, vr (some u0)), (1, vi x26), (2, vi w2), (4, vi v12)]) (st' := [vr (some u0), vr (some u0)]) (pc' := 97) [(.istore_n 1, vi 0, 95), (.aload_n 0, vi 0, 96), (.dup, vi 0, 97)] (by decide +kernel) rfl rfl ?_
          refine sm_gd (fun h27 => ?_)
          refine sm_g (k := 2) (x := vi (sI σ25 210 u0)) cd13 rfl h27 rfl q1202 rfl (by decide +kernel) ?_
          refine sm_b (l' := [(0, vr (some u0)), (1, vi x26), (2, vi w2), (4, vi v12)]) (st' := [vi ((sI σ25 210 u0) + 1), vr (some u0)]) (pc' := 102) [(.iconst 1, vi 1, 101), (.iadd, vi 0, 102)] (by decide +kernel) rfl rfl ?_
          refine sm_p (k := 2) (x := vi ((sI σ25 210 u0) + 1)) cd13 rfl h27 rfl q1202 rfl (nar_i _) (fit_i _) rfl (at_pI σ25 210 u0 ((sI σ25 210 u0) + 1)) (fp_210 σ25 u0 ((sI σ25 210 u0) + 1)) (by decide +kernel) ?_
          refine sm_nms (fun σ28 => ?_)
          refine sm_b (l' := [(0, vr (some u0)), (1, vi x26), (2, vi (w2 + 1)), (4, vi v12)]) (st' := []) (pc' := 4) [(.iinc 2 1, vi 1, 108), (.goto (-104), vi 0, 4)] (by decide +kernel) rfl rfl ?_
          refine sm_pick [0, 1, 2] (l' := [(0, vr (some u0)), (1, vi x26), (2, vi (w2 + 1))]) rfl ?_
          exact ih x26 (w2 + 1) σ28
        · refine sm_gd (fun h16 => ?_)
          refine sm_case (V g mX14_hex d 83 [(0, vr (some u0)), (1, vi w1), (2, vi w2), (4, vi v12)] [] σ τ Q) (V g mX14_hex d 79 [(0, vr (some u0)), (1, vi w1), (2, vi w2), (4, vi v12)] [] σ τ Q) ?_ ?_ (fun f29 p30 n31 => ?_)
          · refine sm_b (l' := [(0, vr (some u0)), (1, vi w1), (2, vi w2), (4, vi v12)]) (st' := [vi 0]) (pc' := 84) [(.iconst 0, vi 0, 84)] (by decide +kernel) rfl rfl ?_
            exact sm_leaf (fun h => j21 _ h)
          · refine sm_b (l' := [(0, vr (some u0)), (1, vi w1), (2, vi w2), (4, vi v12)]) (st' := [vi 1]) (pc' := 84) [(.iconst 1, vi 1, 80), (.goto 4, vi 0, 84)] (by decide +kernel) rfl rfl ?_
            exact sm_leaf (fun h => j21 _ h)
          refine sm_if_lt (off := 7) (tgt := 83) h16 (by decide +kernel) (fun c32 => ?_) (fun c32 => ?_)
          · exact p30 c32
          · exact n31 c32
      · refine sm_gd (fun h8 => ?_)
        refine sm_case (V g mX14_hex d 33 [(0, vr (some u0)), (1, vi w1), (2, vi w2), (3, vi y7)] [] σ τ Q) (V g mX14_hex d 26 [(0, vr (some u0)), (1, vi w1), (2, vi w2), (3, vi y7)] [] σ τ Q) ?_ ?_ (fun f49 p50 n51 => ?_)
        · refine sm_b (l' := [(0, vr (some u0)), (1, vi w1), (2, vi w2), (3, vi y7)]) (st' := [vi 97, vi y7]) (pc' := 36) [(.iload_n 3, vi 0, 34), (.bipush 97, vi 97, 36)] (by decide +kernel) rfl rfl ?_
          refine sm_case (V g mX14_hex d 52 [(0, vr (some u0)), (1, vi w1), (2, vi w2), (3, vi y7)] [] σ τ Q) (V g mX14_hex d 45 [(0, vr (some u0)), (1, vi w1), (2, vi w2), (3, vi y7)] [] σ τ Q) ?_ ?_ (fun f44 p45 n46 => ?_)
          · refine sm_b (l' := [(0, vr (some u0)), (1, vi w1), (2, vi w2), (3, vi y7)]) (st' := [vi 65, vi y7]) (pc' := 55) [(.iload_n 3, vi 0, 53), (.bipush 65, vi 65, 55)] (by decide +kernel) rfl rfl ?_
            refine sm_case (V g mX14_hex d 71 [(0, vr (some u0)), (1, vi w1), (2, vi w2), (3, vi y7)] [] σ τ Q) (V g mX14_hex d 64 [(0, vr (some u0)), (1, vi w1), (2, vi w2), (3, vi y7)] [] σ τ Q) ?_ ?_ (fun f39 p40 n41 => ?_)
            · refine sm_b (l' := [(0, vr (some u0)), (1, vi w1), (2, vi w2), (3, vi y7)]) (st' := [vi ((-1))]) (pc' := 72) [(.iconst (-1), vi (-1), 72)] (by decide +kernel) rfl rfl ?_
              refine sm_pick [0, 1, 2] (l' := [(0, vr (some u0)), (1, vi w1), (2, vi w2)]) rfl ?_
              exact sm_leaf (fun h => j14 _ h)
            · refine sm_b (l' := [(0, vr (some u0)), (1, vi w1), (2, vi w2), (3, vi y7)]) (st' := [vi (y7 - 55)]) (pc' := 72) [(.iload_n 3, vi 0, 65), (.bipush 55, vi 55, 67), (.isub, vi 0, 68), (.goto 4, vi 0, 72)] (by decide +kernel) rfl rfl ?_
              refine sm_pick [0, 1, 2] (l' := [(0, vr (some u0)), (1, vi w1), (2, vi w2)]) rfl ?_
              exact sm_leaf (fun h => j14 _ h)
            refine sm_icmp_lt (off := 16) (tgt := 71) h8 (by decide) (by decide +kernel) (fun c42 => ?_) (fun c42 => ?_)
            · exact p40 (Or.inl c42)
            · refine sm_b (l' := [(0, vr (some u0)), (1, vi w1), (2, vi w2), (3, vi y7)]) (st' := [vi 70, vi y7]) (pc' := 61) [(.iload_n 3, vi 0, 59), (.bipush 70, vi 70, 61)] (by decide +kernel) rfl rfl ?_
              refine sm_icmp_gt (off := 10) (tgt := 71) h8 (by decide) (by decide +kernel) (fun c43 => ?_) (fun c43 => ?_)
              · exact p40 (Or.inr c43)
              · exact n41 (fun q => q.elim c42 c43)
          · refine sm_b (l' := [(0, vr (some u0)), (1, vi w1), (2, vi w2), (3, vi y7)]) (st' := [vi (y7 - 87)]) (pc' := 72) [(.iload_n 3, vi 0, 46), (.bipush 87, vi 87, 48), (.isub, vi 0, 49), (.goto 23, vi 0, 72)] (by decide +kernel) rfl rfl ?_
            refine sm_pick [0, 1, 2] (l' := [(0, vr (some u0)), (1, vi w1), (2, vi w2)]) rfl ?_
            exact sm_leaf (fun h => j14 _ h)
          refine sm_icmp_lt (off := 16) (tgt := 52) h8 (by decide) (by decide +kernel) (fun c47 => ?_) (fun c47 => ?_)
          · exact p45 (Or.inl c47)
          · refine sm_b (l' := [(0, vr (some u0)), (1, vi w1), (2, vi w2), (3, vi y7)]) (st' := [vi 102, vi y7]) (pc' := 42) [(.iload_n 3, vi 0, 40), (.bipush 102, vi 102, 42)] (by decide +kernel) rfl rfl ?_
            refine sm_icmp_gt (off := 10) (tgt := 52) h8 (by decide) (by decide +kernel) (fun c48 => ?_) (fun c48 => ?_)
            · exact p45 (Or.inr c48)
            · exact n46 (fun q => q.elim c47 c48)
        · refine sm_b (l' := [(0, vr (some u0)), (1, vi w1), (2, vi w2), (3, vi y7)]) (st' := [vi (y7 - 48)]) (pc' := 72) [(.iload_n 3, vi 0, 27), (.bipush 48, vi 48, 29), (.isub, vi 0, 30), (.goto 42, vi 0, 72)] (by decide +kernel) rfl rfl ?_
          refine sm_pick [0, 1, 2] (l' := [(0, vr (some u0)), (1, vi w1), (2, vi w2)]) rfl ?_
          exact sm_leaf (fun h => j14 _ h)
        refine sm_icmp_lt (off := 16) (tgt := 33) h8 (by decide) (by decide +kernel) (fun c52 => ?_) (fun c52 => ?_)
        · exact p50 (Or.inl c52)
        · refine sm_b (l' := [(0, vr (some u0)), (1, vi w1), (2, vi w2), (3, vi y7)]) (st' := [vi 57, vi y7]) (pc' := 23) [(.iload_n 3, vi 0, 21), (.bipush 57, vi 57, 23)] (by decide +kernel) rfl rfl ?_
          refine sm_icmp_gt (off := 10) (tgt := 33) h8 (by decide) (by decide +kernel) (fun c53 => ?_) (fun c53 => ?_)
          · exact p50 (Or.inr c53)
          · exact n51 (fun q => q.elim c52 c53)
    refine sm_icmp_ge (off := 105) (tgt := 111) h1 (by decide) (by decide +kernel) (fun c57 => ?_) (fun c57 => ?_)
    · exact p55 c57
    · exact n56 c57
set_option maxHeartbeats 4000000 in
theorem jr_hex_ok {g : GE} (G : GG g) {τ : TT} (d : Nat) (hd1 : 7 ≤ d) (a0 : Nat)  (σ : ST) (Q : VQ) : Sm (V g mX14_hex d 0 [(0, vr (some a0))] [] σ τ Q) (jr_hex (gRm g) a0 σ) (fun r => tQ Q τ (fun r : Int => some (vi r)) r) := by
  unfold jr_hex
  refine sm_top (fun K hRET => ?_)
  refine sm_b (l' := [(0, vr (some a0)), (1, vi 0), (2, vi 0)]) (st' := []) (pc' := 4) [(.iconst 0, vi 0, 1), (.istore_n 1, vi 0, 2), (.iconst 0, vi 0, 3), (.istore_n 2, vi 0, 4)] (by decide +kernel) rfl rfl ?_
  exact jr_hex_L4_ok G d hd1 a0  (fun r h => hRET _ h) FU 0 0 σ
def jr_told (bb : Nat × Nat) (a0 : Nat) (σ : ST) : Option (Option Int × ST) := gd (sc σ a0 = 14) (Option.bind (jr_hex bb a0 σ) (tB (fun z => (none, z)) fun y3 σ4 => Option.bind (gd (rg y3) (if (y3 < 56320) ∨ (¬ (y3 ≤ 57343)) then (some 1) else (some 0))) fun (v9 : Int) => Option.bind (s_must bb v9 σ4) (tB (fun z => (none, z)) fun y14 σ15 => gd (rg y3) (if (y3 < 55296) ∨ (¬ (y3 ≤ 57343)) then (some ((some y3, σ15))) else (gd (sc σ15 a0 = 14) (Option.bind (jr_look a0 σ15) fun y24 => Option.bind (gd (rg y24) (if y24 = 92 then (some 1) else (some 0))) fun (v28 : Int) => Option.bind (s_must bb v28 σ15) (tB (fun z => (none, z)) fun y33 σ34 => gd (sc σ34 a0 = 14) (nm (pI σ34 210 a0 ((sI σ34 210 a0) + 1)) fun σ36 => gd (sc σ36 a0 = 14) (Option.bind (jr_look a0 σ36) fun y38 => Option.bind (gd (rg y38) (if y38 = 117 then (some 1) else (some 0))) fun (v42 : Int) => Option.bind (s_must bb v42 σ36) (tB (fun z => (none, z)) fun y47 σ48 => gd (sc σ48 a0 = 14) (nm (pI σ48 210 a0 ((sI σ48 210 a0) + 1)) fun σ50 => gd (sc σ50 a0 = 14) (Option.bind (jr_hex bb a0 σ50) (tB (fun z => (none, z)) fun y53 σ54 => Option.bind (gd (rg y53) (if (y53 < 56320) ∨ (57343 < y53) then (some 0) else (some 1))) fun (v59 : Int) => Option.bind (s_must bb v59 σ54) (tB (fun z => (none, z)) fun y64 σ65 => some ((some (((65536 + (iShl (y3 - 55296) 10)) + y53) - 56320), σ65))))))))))))))))
set_option maxHeartbeats 4000000 in
theorem jr_told_ok {g : GE} (G : GG g) {τ : TT} (d : Nat) (hd1 : 8 ≤ d) (a0 : Nat)  (σ : ST) (Q : VQ) : Sm (V g mX14_told d 0 [(0, vr (some a0))] [] σ τ Q) (jr_told (gRm g) a0 σ) (fun r => tQ Q τ (fun r : Int => some (vi r)) r) := by
  unfold jr_told
  refine sm_top (fun K hRET => ?_)
  refine sm_b (l' := [(0, vr (some a0))]) (st' := [vr (some a0)]) (pc' := 1) [(.aload_n 0, vi 0, 1)] (by decide +kernel) rfl rfl ?_
  refine sm_gd (fun h1 => ?_)
  refine sm_cvT (N := mX14_hex) (d' := d - 1) (fun r : Int => some (vi r)) (fun z => (none, z)) [] [] rfl (by decide +kernel) q1264 q1266 qs41 (Or.inl ⟨rfl, q1267⟩) (show okN yX14_hex 0 = true by decide +kernel) (fun H hR => hR.rv G.1 cd13 rfl h1) rfl rfl (by omega) rfl (fun Q' => jr_hex_ok G (d - 1) (by omega) a0 σ Q') (fun z h => hRET _ h) (fun y3 σ4 => ?_)
  refine sm_b (l' := [(0, vr (some a0)), (1, vi y3)]) (st' := [vi y3]) (pc' := 6) [(.istore_n 1, vi 0, 5), (.iload_n 1, vi 0, 6)] (by decide +kernel) rfl rfl ?_
  refine sm_ldc (x := 56320) (by decide) (by decide +kernel) q1268 ?_
  refine sm_bind1 (fun (v9 : Int) => V g mX14_told d 22 [(0, vr (some a0)), (1, vi y3)] [vi v9] σ4 τ Q) (fun v9 => ?_) (fun K10 j11 => ?_)
  · refine sm_csTE (N := mX14_must) (d' := d - 1) (fun _ : Unit => none) (fun z => (none, z)) [vi v9] [] rfl (by decide +kernel) q1237 q1238 q162 (Or.inl ⟨rfl, q1239⟩) (show okN yX14_must 1 = true by decide +kernel) rfl rfl (by omega) rfl (fun Q' => jr_must_ok G (d - 1) (by omega) v9 σ4 Q') (fun z h => hRET _ h) (fun y14 σ15 => ?_)
    refine sm_b (l' := [(0, vr (some a0)), (1, vi y3)]) (st' := [vi y3]) (pc' := 26) [(.iload_n 1, vi 0, 26)] (by decide +kernel) rfl rfl ?_
    refine sm_ldc (x := 55296) (by decide) (by decide +kernel) q1270 ?_
    refine sm_gd (fun h16 => ?_)
    refine sm_case (V g mX14_told d 37 [(0, vr (some a0)), (1, vi y3)] [] σ15 τ Q) (V g mX14_told d 39 [(0, vr (some a0)), (1, vi y3)] [] σ15 τ Q) ?_ ?_ (fun f79 p80 n81 => ?_)
    · refine sm_b (l' := [(0, vr (some a0)), (1, vi y3)]) (st' := [vi y3]) (pc' := 38) [(.iload_n 1, vi 0, 38)] (by decide +kernel) rfl rfl ?_
      exact sm_iret rfl (by decide +kernel) (fun h => hRET _ h)
    · refine sm_b (l' := [(0, vr (some a0)), (1, vi y3)]) (st' := [vr (some a0)]) (pc' := 40) [(.aload_n 0, vi 0, 40)] (by decide +kernel) rfl rfl ?_
      refine sm_gd (fun h23 => ?_)
      refine sm_cv (N := mX14_look) (d' := d - 1) (fun r => (some (vi r))) (fun _ => σ15) (fun _ => τ) [] [] rfl (by decide +kernel) q1233 q1235 qs35 (Or.inl ⟨rfl, q1236⟩) (show okN yX14_look 0 = true by decide +kernel) (fun H hR => hR.rv G.1 cd13 rfl h23) rfl rfl (by omega) rfl (fun Q' => jr_look_ok G (d - 1) (by omega) a0 σ15 Q') (fun y24 => ?_)
      refine sm_b (l' := [(0, vr (some a0)), (1, vi y3)]) (st' := [vi 92, vi y24]) (pc' := 45) [(.bipush 92, vi 92, 45)] (by decide +kernel) rfl rfl ?_
      refine sm_bind1 (fun (v28 : Int) => V g mX14_told d 53 [(0, vr (some a0)), (1, vi y3)] [vi v28] σ15 τ Q) (fun v28 => ?_) (fun K29 j30 => ?_)
      · refine sm_csTE (N := mX14_must) (d' := d - 1) (fun _ : Unit => none) (fun z => (none, z)) [vi v28] [] rfl (by decide +kernel) q1237 q1238 q162 (Or.inl ⟨rfl, q1239⟩) (show okN yX14_must 1 = true by decide +kernel) rfl rfl (by omega) rfl (fun Q' => jr_must_ok G (d - 1) (by omega) v28 σ15 Q') (fun z h => hRET _ h) (fun y33 σ34 => ?_)
        refine sm_b (l' := [(0, vr (some a0)), (1, vi y3)]) (st' := [vr (some a0), vr (some a0)]) (pc' := 58) [(.aload_n 0, vi 0, 57), (.dup, vi 0, 58)] (by decide +kernel) rfl rfl ?_
        refine sm_gd (fun h35 => ?_)
        refine sm_g (k := 2) (x := vi (sI σ34 210 a0)) cd13 rfl h35 rfl q1202 rfl (by decide +kernel) ?_
        refine sm_b (l' := [(0, vr (some a0)), (1, vi y3)]) (st' := [vi ((sI σ34 210 a0) + 1), vr (some a0)]) (pc' := 63) [(.iconst 1, vi 1, 62), (.iadd, vi 0, 63)] (by decide +kernel) rfl rfl ?_
        refine sm_p (k := 2) (x := vi ((sI σ34 210 a0) + 1)) cd13 rfl h35 rfl q1202 rfl (nar_i _) (fit_i _) rfl (at_pI σ34 210 a0 ((sI σ34 210 a0) + 1)) (fp_210 σ34 a0 ((sI σ34 210 a0) + 1)) (by decide +kernel) ?_
        refine sm_nms (fun σ36 => ?_)
        refine sm_b (l' := [(0, vr (some a0)), (1, vi y3)]) (st' := [vr (some a0)]) (pc' := 67) [(.aload_n 0, vi 0, 67)] (by decide +kernel) rfl rfl ?_
        refine sm_gd (fun h37 => ?_)
        refine sm_cv (N := mX14_look) (d' := d - 1) (fun r => (some (vi r))) (fun _ => σ36) (fun _ => τ) [] [] rfl (by decide +kernel) q1233 q1235 qs35 (Or.inl ⟨rfl, q1236⟩) (show okN yX14_look 0 = true by decide +kernel) (fun H hR => hR.rv G.1 cd13 rfl h37) rfl rfl (by omega) rfl (fun Q' => jr_look_ok G (d - 1) (by omega) a0 σ36 Q') (fun y38 => ?_)
        refine sm_b (l' := [(0, vr (some a0)), (1, vi y3)]) (st' := [vi 117, vi y38]) (pc' := 72) [(.bipush 117, vi 117, 72)] (by decide +kernel) rfl rfl ?_
        refine sm_bind1 (fun (v42 : Int) => V g mX14_told d 80 [(0, vr (some a0)), (1, vi y3)] [vi v42] σ36 τ Q) (fun v42 => ?_) (fun K43 j44 => ?_)
        · refine sm_csTE (N := mX14_must) (d' := d - 1) (fun _ : Unit => none) (fun z => (none, z)) [vi v42] [] rfl (by decide +kernel) q1237 q1238 q162 (Or.inl ⟨rfl, q1239⟩) (show okN yX14_must 1 = true by decide +kernel) rfl rfl (by omega) rfl (fun Q' => jr_must_ok G (d - 1) (by omega) v42 σ36 Q') (fun z h => hRET _ h) (fun y47 σ48 => ?_)
          refine sm_b (l' := [(0, vr (some a0)), (1, vi y3)]) (st' := [vr (some a0), vr (some a0)]) (pc' := 85) [(.aload_n 0, vi 0, 84), (.dup, vi 0, 85)] (by decide +kernel) rfl rfl ?_
          refine sm_gd (fun h49 => ?_)
          refine sm_g (k := 2) (x := vi (sI σ48 210 a0)) cd13 rfl h49 rfl q1202 rfl (by decide +kernel) ?_
          refine sm_b (l' := [(0, vr (some a0)), (1, vi y3)]) (st' := [vi ((sI σ48 210 a0) + 1), vr (some a0)]) (pc' := 90) [(.iconst 1, vi 1, 89), (.iadd, vi 0, 90)] (by decide +kernel) rfl rfl ?_
          refine sm_p (k := 2) (x := vi ((sI σ48 210 a0) + 1)) cd13 rfl h49 rfl q1202 rfl (nar_i _) (fit_i _) rfl (at_pI σ48 210 a0 ((sI σ48 210 a0) + 1)) (fp_210 σ48 a0 ((sI σ48 210 a0) + 1)) (by decide +kernel) ?_
          refine sm_nms (fun σ50 => ?_)
          refine sm_b (l' := [(0, vr (some a0)), (1, vi y3)]) (st' := [vr (some a0)]) (pc' := 94) [(.aload_n 0, vi 0, 94)] (by decide +kernel) rfl rfl ?_
          refine sm_gd (fun h51 => ?_)
          refine sm_cvT (N := mX14_hex) (d' := d - 1) (fun r : Int => some (vi r)) (fun z => (none, z)) [] [] rfl (by decide +kernel) q1264 q1266 qs41 (Or.inl ⟨rfl, q1267⟩) (show okN yX14_hex 0 = true by decide +kernel) (fun H hR => hR.rv G.1 cd13 rfl h51) rfl rfl (by omega) rfl (fun Q' => jr_hex_ok G (d - 1) (by omega) a0 σ50 Q') (fun z h => hRET _ h) (fun y53 σ54 => ?_)
          refine sm_b (l' := [(0, vr (some a0)), (1, vi y3), (2, vi y53)]) (st' := [vi y53]) (pc' := 99) [(.istore_n 2, vi 0, 98), (.iload_n 2, vi 0, 99)] (by decide +kernel) rfl rfl ?_
          refine sm_ldc (x := 56320) (by decide) (by decide +kernel) q1268 ?_
          refine sm_bind1 (fun (v59 : Int) => V g mX14_told d 115 [(1, vi y3), (2, vi y53)] [vi v59] σ54 τ Q) (fun v59 => ?_) (fun K60 j61 => ?_)
          · refine sm_csTE (N := mX14_must) (d' := d - 1) (fun _ : Unit => none) (fun z => (none, z)) [vi v59] [] rfl (by decide +kernel) q1237 q1238 q162 (Or.inl ⟨rfl, q1239⟩) (show okN yX14_must 1 = true by decide +kernel) rfl rfl (by omega) rfl (fun Q' => jr_must_ok G (d - 1) (by omega) v59 σ54 Q') (fun z h => hRET _ h) (fun y64 σ65 => ?_)
            refine sm_ldc (x := 65536) (by decide) (by decide +kernel) q1271 ?_
            refine sm_b (l' := [(1, vi y3), (2, vi y53)]) (st' := [vi y3, vi 65536]) (pc' := 121) [(.iload_n 1, vi 0, 121)] (by decide +kernel) rfl rfl ?_
            refine sm_ldc (x := 55296) (by decide) (by decide +kernel) q1270 ?_
            refine sm_b (l' := [(1, vi y3), (2, vi y53)]) (st' := [vi ((65536 + (iShl (y3 - 55296) 10)) + y53)]) (pc' := 130) [(.isub, vi 0, 124), (.bipush 10, vi 10, 126), (.ishl, vi 0, 127), (.iadd, vi 0, 128), (.iload_n 2, vi 0, 129), (.iadd, vi 0, 130)] (by decide +kernel) rfl rfl ?_
            refine sm_ldc (x := 56320) (by decide) (by decide +kernel) q1268 ?_
            refine sm_b (l' := [(1, vi y3), (2, vi y53)]) (st' := [vi (((65536 + (iShl (y3 - 55296) 10)) + y53) - 56320)]) (pc' := 133) [(.isub, vi 0, 133)] (by decide +kernel) rfl rfl ?_
            exact sm_iret rfl (by decide +kernel) (fun h => hRET _ h)
          · refine sm_gd (fun h55 => ?_)
            refine sm_case (V g mX14_told d 114 [(0, vr (some a0)), (1, vi y3), (2, vi y53)] [] σ54 τ Q) (V g mX14_told d 110 [(0, vr (some a0)), (1, vi y3), (2, vi y53)] [] σ54 τ Q) ?_ ?_ (fun f66 p67 n68 => ?_)
            · refine sm_b (l' := [(0, vr (some a0)), (1, vi y3), (2, vi y53)]) (st' := [vi 0]) (pc' := 115) [(.iconst 0, vi 0, 115)] (by decide +kernel) rfl rfl ?_
              refine sm_pick [1, 2] (l' := [(1, vi y3), (2, vi y53)]) rfl ?_
              exact sm_leaf (fun h => j61 _ h)
            · refine sm_b (l' := [(0, vr (some a0)), (1, vi y3), (2, vi y53)]) (st' := [vi 1]) (pc' := 115) [(.iconst 1, vi 1, 111), (.goto 4, vi 0, 115)] (by decide +kernel) rfl rfl ?_
              refine sm_pick [1, 2] (l' := [(1, vi y3), (2, vi y53)]) rfl ?_
              exact sm_leaf (fun h => j61 _ h)
            refine sm_icmp_lt (off := 13) (tgt := 114) h55 (by decide) (by decide +kernel) (fun c69 => ?_) (fun c69 => ?_)
            · exact p67 (Or.inl c69)
            · refine sm_b (l' := [(0, vr (some a0)), (1, vi y3), (2, vi y53)]) (st' := [vi y53]) (pc' := 105) [(.iload_n 2, vi 0, 105)] (by decide +kernel) rfl rfl ?_
              refine sm_ldc (x := 57343) (by decide) (by decide +kernel) q1269 ?_
              refine sm_icmp_gt (off := 7) (tgt := 114) h55 (by decide) (by decide +kernel) (fun c70 => ?_) (fun c70 => ?_)
              · exact p67 (Or.inr c70)
              · exact n68 (fun q => q.elim c69 c70)
        · refine sm_gd (fun h39 => ?_)
          refine sm_case (V g mX14_told d 75 [(0, vr (some a0)), (1, vi y3)] [] σ36 τ Q) (V g mX14_told d 79 [(0, vr (some a0)), (1, vi y3)] [] σ36 τ Q) ?_ ?_ (fun f71 p72 n73 => ?_)
          · refine sm_b (l' := [(0, vr (some a0)), (1, vi y3)]) (st' := [vi 1]) (pc' := 80) [(.iconst 1, vi 1, 76), (.goto 4, vi 0, 80)] (by decide +kernel) rfl rfl ?_
            exact sm_leaf (fun h => j44 _ h)
          · refine sm_b (l' := [(0, vr (some a0)), (1, vi y3)]) (st' := [vi 0]) (pc' := 80) [(.iconst 0, vi 0, 80)] (by decide +kernel) rfl rfl ?_
            exact sm_leaf (fun h => j44 _ h)
          refine sm_icmp_ne (off := 7) (tgt := 79) h39 (by decide) (by decide +kernel) (fun c74 => ?_) (fun c74 => ?_)
          · exact n73 c74
          · exact p72 c74
      · refine sm_gd (fun h25 => ?_)
        refine sm_case (V g mX14_told d 48 [(0, vr (some a0)), (1, vi y3)] [] σ15 τ Q) (V g mX14_told d 52 [(0, vr (some a0)), (1, vi y3)] [] σ15 τ Q) ?_ ?_ (fun f75 p76 n77 => ?_)
        · refine sm_b (l' := [(0, vr (some a0)), (1, vi y3)]) (st' := [vi 1]) (pc' := 53) [(.iconst 1, vi 1, 49), (.goto 4, vi 0, 53)] (by decide +kernel) rfl rfl ?_
          exact sm_leaf (fun h => j30 _ h)
        · refine sm_b (l' := [(0, vr (some a0)), (1, vi y3)]) (st' := [vi 0]) (pc' := 53) [(.iconst 0, vi 0, 53)] (by decide +kernel) rfl rfl ?_
          exact sm_leaf (fun h => j30 _ h)
        refine sm_icmp_ne (off := 7) (tgt := 52) h25 (by decide) (by decide +kernel) (fun c78 => ?_) (fun c78 => ?_)
        · exact n77 c78
        · exact p76 c78
    refine sm_icmp_lt (off := 9) (tgt := 37) h16 (by decide) (by decide +kernel) (fun c82 => ?_) (fun c82 => ?_)
    · exact p80 (Or.inl c82)
    · refine sm_b (l' := [(0, vr (some a0)), (1, vi y3)]) (st' := [vi y3]) (pc' := 32) [(.iload_n 1, vi 0, 32)] (by decide +kernel) rfl rfl ?_
      refine sm_ldc (x := 57343) (by decide) (by decide +kernel) q1269 ?_
      refine sm_icmp_le (off := 5) (tgt := 39) h16 (by decide) (by decide +kernel) (fun c83 => ?_) (fun c83 => ?_)
      · exact n81 (fun q => q.elim c82 (fun q => q c83))
      · exact p80 (Or.inr c83)
  · refine sm_gd (fun h5 => ?_)
    refine sm_case (V g mX14_told d 17 [(0, vr (some a0)), (1, vi y3)] [] σ4 τ Q) (V g mX14_told d 21 [(0, vr (some a0)), (1, vi y3)] [] σ4 τ Q) ?_ ?_ (fun f84 p85 n86 => ?_)
    · refine sm_b (l' := [(0, vr (some a0)), (1, vi y3)]) (st' := [vi 1]) (pc' := 22) [(.iconst 1, vi 1, 18), (.goto 4, vi 0, 22)] (by decide +kernel) rfl rfl ?_
      exact sm_leaf (fun h => j11 _ h)
    · refine sm_b (l' := [(0, vr (some a0)), (1, vi y3)]) (st' := [vi 0]) (pc' := 22) [(.iconst 0, vi 0, 22)] (by decide +kernel) rfl rfl ?_
      exact sm_leaf (fun h => j11 _ h)
    refine sm_icmp_lt (off := 9) (tgt := 17) h5 (by decide) (by decide +kernel) (fun c87 => ?_) (fun c87 => ?_)
    · exact p85 (Or.inl c87)
    · refine sm_b (l' := [(0, vr (some a0)), (1, vi y3)]) (st' := [vi y3]) (pc' := 12) [(.iload_n 1, vi 0, 12)] (by decide +kernel) rfl rfl ?_
      refine sm_ldc (x := 57343) (by decide) (by decide +kernel) q1269 ?_
      refine sm_icmp_le (off := 7) (tgt := 21) h5 (by decide) (by decide +kernel) (fun c88 => ?_) (fun c88 => ?_)
      · exact n86 (fun q => q.elim c87 (fun q => q c88))
      · exact p85 (Or.inr c88)
def row_addSign (bb : Nat × Nat) (a0 : Nat) (a1 : Int) (σ : ST) : Option (ST) := gd (rg a1) (if 128 ≤ a1 then (if 2048 ≤ a1 then (if 65536 ≤ a1 then (gd (sc σ a0 = 4) (Option.bind (r_add bb a0 (iOr 240 (iShr a1 18)) σ) fun y9 => gd (sc y9 a0 = 4) (Option.bind (r_add bb a0 (iOr 128 (iAnd (iShr a1 12) 63)) y9) fun y11 => gd (sc y11 a0 = 4) (Option.bind (r_add bb a0 (iOr 128 (iAnd (iShr a1 6) 63)) y11) fun y13 => gd (sc y13 a0 = 4) (Option.bind (r_add bb a0 (iOr 128 (iAnd a1 63)) y13) fun y15 => some y15))))) else (gd (sc σ a0 = 4) (Option.bind (r_add bb a0 (iOr 224 (iShr a1 12)) σ) fun y17 => gd (sc y17 a0 = 4) (Option.bind (r_add bb a0 (iOr 128 (iAnd (iShr a1 6) 63)) y17) fun y19 => gd (sc y19 a0 = 4) (Option.bind (r_add bb a0 (iOr 128 (iAnd a1 63)) y19) fun y21 => some y21))))) else (gd (sc σ a0 = 4) (Option.bind (r_add bb a0 (iOr 192 (iShr a1 6)) σ) fun y27 => gd (sc y27 a0 = 4) (Option.bind (r_add bb a0 (iOr 128 (iAnd a1 63)) y27) fun y29 => some y29)))) else (gd (sc σ a0 = 4) (Option.bind (r_add bb a0 a1 σ) fun y35 => some y35)))
set_option maxHeartbeats 4000000 in
theorem row_addSign_ok {g : GE} (G : GG g) {τ : TT} (d : Nat) (hd1 : 3 ≤ d) (a0 : Nat) (a1 : Int)  (σ : ST) (Q : VQ) : Sm (V g mX3_addSign d 0 [(0, vr (some a0)), (1, vi a1)] [] σ τ Q) (row_addSign (gRm g) a0 a1 σ) (fun r => Q.1 none r τ) := by
  unfold row_addSign
  refine sm_top (fun K hRET => ?_)
  refine sm_b (l' := [(0, vr (some a0)), (1, vi a1)]) (st' := [vi 128, vi a1]) (pc' := 4) [(.iload_n 1, vi 0, 1), (.sipush 128, vi 128, 4)] (by decide +kernel) rfl rfl ?_
  refine sm_gd (fun h1 => ?_)
  refine sm_case (V g mX3_addSign d 15 [(0, vr (some a0)), (1, vi a1)] [] σ τ Q) (V g mX3_addSign d 7 [(0, vr (some a0)), (1, vi a1)] [] σ τ Q) ?_ ?_ (fun f36 p37 n38 => ?_)
  · refine sm_b (l' := [(0, vr (some a0)), (1, vi a1)]) (st' := [vi 2048, vi a1]) (pc' := 19) [(.iload_n 1, vi 0, 16), (.sipush 2048, vi 2048, 19)] (by decide +kernel) rfl rfl ?_
    refine sm_case (V g mX3_addSign d 49 [(0, vr (some a0)), (1, vi a1)] [] σ τ Q) (V g mX3_addSign d 22 [(0, vr (some a0)), (1, vi a1)] [] σ τ Q) ?_ ?_ (fun f30 p31 n32 => ?_)
    · refine sm_b (l' := [(0, vr (some a0)), (1, vi a1)]) (st' := [vi a1]) (pc' := 50) [(.iload_n 1, vi 0, 50)] (by decide +kernel) rfl rfl ?_
      refine sm_ldc (x := 65536) (by decide) (by decide +kernel) q1276 ?_
      refine sm_case (V g mX3_addSign d 97 [(0, vr (some a0)), (1, vi a1)] [] σ τ Q) (V g mX3_addSign d 55 [(0, vr (some a0)), (1, vi a1)] [] σ τ Q) ?_ ?_ (fun f22 p23 n24 => ?_)
      · refine sm_b (l' := [(0, vr (some a0)), (1, vi a1)]) (st' := [vi (iOr 240 (iShr a1 18)), vr (some a0)]) (pc' := 106) [(.aload_n 0, vi 0, 98), (.sipush 240, vi 240, 101), (.iload_n 1, vi 0, 102), (.bipush 18, vi 18, 104), (.ishr, vi 0, 105), (.ior, vi 0, 106)] (by decide +kernel) rfl rfl ?_
        refine sm_gd (fun h8 => ?_)
        refine sm_cv (N := mX3_add) (d' := d - 1) (fun r => none) (fun r => r) (fun _ => τ) [vi (iOr 240 (iShr a1 18))] [] rfl (by decide +kernel) q534 q535 q536 (Or.inl ⟨rfl, q537⟩) (show okN yX3_add 1 = true by decide +kernel) (fun H hR => hR.rvR G.1 h8) rfl rfl (by omega) rfl (fun Q' => r_add_ok G (d - 1) (by omega) a0 (iOr 240 (iShr a1 18)) σ Q') (fun y9 => ?_)
        refine sm_b (l' := [(0, vr (some a0)), (1, vi a1)]) (st' := [vi (iOr 128 (iAnd (iShr a1 12) 63)), vr (some a0)]) (pc' := 121) [(.aload_n 0, vi 0, 110), (.sipush 128, vi 128, 113), (.iload_n 1, vi 0, 114), (.bipush 12, vi 12, 116), (.ishr, vi 0, 117), (.bipush 63, vi 63, 119), (.iand, vi 0, 120), (.ior, vi 0, 121)] (by decide +kernel) rfl rfl ?_
        refine sm_gd (fun h10 => ?_)
        refine sm_cv (N := mX3_add) (d' := d - 1) (fun r => none) (fun r => r) (fun _ => τ) [vi (iOr 128 (iAnd (iShr a1 12) 63))] [] rfl (by decide +kernel) q534 q535 q536 (Or.inl ⟨rfl, q537⟩) (show okN yX3_add 1 = true by decide +kernel) (fun H hR => hR.rvR G.1 h10) rfl rfl (by omega) rfl (fun Q' => r_add_ok G (d - 1) (by omega) a0 (iOr 128 (iAnd (iShr a1 12) 63)) y9 Q') (fun y11 => ?_)
        refine sm_b (l' := [(0, vr (some a0)), (1, vi a1)]) (st' := [vi (iOr 128 (iAnd (iShr a1 6) 63)), vr (some a0)]) (pc' := 136) [(.aload_n 0, vi 0, 125), (.sipush 128, vi 128, 128), (.iload_n 1, vi 0, 129), (.bipush 6, vi 6, 131), (.ishr, vi 0, 132), (.bipush 63, vi 63, 134), (.iand, vi 0, 135), (.ior, vi 0, 136)] (by decide +kernel) rfl rfl ?_
        refine sm_gd (fun h12 => ?_)
        refine sm_cv (N := mX3_add) (d' := d - 1) (fun r => none) (fun r => r) (fun _ => τ) [vi (iOr 128 (iAnd (iShr a1 6) 63))] [] rfl (by decide +kernel) q534 q535 q536 (Or.inl ⟨rfl, q537⟩) (show okN yX3_add 1 = true by decide +kernel) (fun H hR => hR.rvR G.1 h12) rfl rfl (by omega) rfl (fun Q' => r_add_ok G (d - 1) (by omega) a0 (iOr 128 (iAnd (iShr a1 6) 63)) y11 Q') (fun y13 => ?_)
        refine sm_b (l' := [(0, vr (some a0)), (1, vi a1)]) (st' := [vi (iOr 128 (iAnd a1 63)), vr (some a0)]) (pc' := 148) [(.aload_n 0, vi 0, 140), (.sipush 128, vi 128, 143), (.iload_n 1, vi 0, 144), (.bipush 63, vi 63, 146), (.iand, vi 0, 147), (.ior, vi 0, 148)] (by decide +kernel) rfl rfl ?_
        refine sm_gd (fun h14 => ?_)
        refine sm_cv (N := mX3_add) (d' := d - 1) (fun r => none) (fun r => r) (fun _ => τ) [vi (iOr 128 (iAnd a1 63))] [] rfl (by decide +kernel) q534 q535 q536 (Or.inl ⟨rfl, q537⟩) (show okN yX3_add 1 = true by decide +kernel) (fun H hR => hR.rvR G.1 h14) rfl rfl (by omega) rfl (fun Q' => r_add_ok G (d - 1) (by omega) a0 (iOr 128 (iAnd a1 63)) y13 Q') (fun y15 => ?_)
        exact sm_vret rfl (by decide +kernel) (fun h => hRET _ h)
      · refine sm_b (l' := [(0, vr (some a0)), (1, vi a1)]) (st' := [vi (iOr 224 (iShr a1 12)), vr (some a0)]) (pc' := 64) [(.aload_n 0, vi 0, 56), (.sipush 224, vi 224, 59), (.iload_n 1, vi 0, 60), (.bipush 12, vi 12, 62), (.ishr, vi 0, 63), (.ior, vi 0, 64)] (by decide +kernel) rfl rfl ?_
        refine sm_gd (fun h16 => ?_)
        refine sm_cv (N := mX3_add) (d' := d - 1) (fun r => none) (fun r => r) (fun _ => τ) [vi (iOr 224 (iShr a1 12))] [] rfl (by decide +kernel) q534 q535 q536 (Or.inl ⟨rfl, q537⟩) (show okN yX3_add 1 = true by decide +kernel) (fun H hR => hR.rvR G.1 h16) rfl rfl (by omega) rfl (fun Q' => r_add_ok G (d - 1) (by omega) a0 (iOr 224 (iShr a1 12)) σ Q') (fun y17 => ?_)
        refine sm_b (l' := [(0, vr (some a0)), (1, vi a1)]) (st' := [vi (iOr 128 (iAnd (iShr a1 6) 63)), vr (some a0)]) (pc' := 79) [(.aload_n 0, vi 0, 68), (.sipush 128, vi 128, 71), (.iload_n 1, vi 0, 72), (.bipush 6, vi 6, 74), (.ishr, vi 0, 75), (.bipush 63, vi 63, 77), (.iand, vi 0, 78), (.ior, vi 0, 79)] (by decide +kernel) rfl rfl ?_
        refine sm_gd (fun h18 => ?_)
        refine sm_cv (N := mX3_add) (d' := d - 1) (fun r => none) (fun r => r) (fun _ => τ) [vi (iOr 128 (iAnd (iShr a1 6) 63))] [] rfl (by decide +kernel) q534 q535 q536 (Or.inl ⟨rfl, q537⟩) (show okN yX3_add 1 = true by decide +kernel) (fun H hR => hR.rvR G.1 h18) rfl rfl (by omega) rfl (fun Q' => r_add_ok G (d - 1) (by omega) a0 (iOr 128 (iAnd (iShr a1 6) 63)) y17 Q') (fun y19 => ?_)
        refine sm_b (l' := [(0, vr (some a0)), (1, vi a1)]) (st' := [vi (iOr 128 (iAnd a1 63)), vr (some a0)]) (pc' := 91) [(.aload_n 0, vi 0, 83), (.sipush 128, vi 128, 86), (.iload_n 1, vi 0, 87), (.bipush 63, vi 63, 89), (.iand, vi 0, 90), (.ior, vi 0, 91)] (by decide +kernel) rfl rfl ?_
        refine sm_gd (fun h20 => ?_)
        refine sm_cv (N := mX3_add) (d' := d - 1) (fun r => none) (fun r => r) (fun _ => τ) [vi (iOr 128 (iAnd a1 63))] [] rfl (by decide +kernel) q534 q535 q536 (Or.inl ⟨rfl, q537⟩) (show okN yX3_add 1 = true by decide +kernel) (fun H hR => hR.rvR G.1 h20) rfl rfl (by omega) rfl (fun Q' => r_add_ok G (d - 1) (by omega) a0 (iOr 128 (iAnd a1 63)) y19 Q') (fun y21 => ?_)
        refine sm_b (l' := [(0, vr (some a0)), (1, vi a1)]) (st' := []) (pc' := 151) [(.goto 57, vi 0, 151)] (by decide +kernel) rfl rfl ?_
        exact sm_vret rfl (by decide +kernel) (fun h => hRET _ h)
      refine sm_icmp_ge (off := 45) (tgt := 97) h1 (by decide) (by decide +kernel) (fun c25 => ?_) (fun c25 => ?_)
      · exact p23 c25
      · exact n24 c25
    · refine sm_b (l' := [(0, vr (some a0)), (1, vi a1)]) (st' := [vi (iOr 192 (iShr a1 6)), vr (some a0)]) (pc' := 31) [(.aload_n 0, vi 0, 23), (.sipush 192, vi 192, 26), (.iload_n 1, vi 0, 27), (.bipush 6, vi 6, 29), (.ishr, vi 0, 30), (.ior, vi 0, 31)] (by decide +kernel) rfl rfl ?_
      refine sm_gd (fun h26 => ?_)
      refine sm_cv (N := mX3_add) (d' := d - 1) (fun r => none) (fun r => r) (fun _ => τ) [vi (iOr 192 (iShr a1 6))] [] rfl (by decide +kernel) q534 q535 q536 (Or.inl ⟨rfl, q537⟩) (show okN yX3_add 1 = true by decide +kernel) (fun H hR => hR.rvR G.1 h26) rfl rfl (by omega) rfl (fun Q' => r_add_ok G (d - 1) (by omega) a0 (iOr 192 (iShr a1 6)) σ Q') (fun y27 => ?_)
      refine sm_b (l' := [(0, vr (some a0)), (1, vi a1)]) (st' := [vi (iOr 128 (iAnd a1 63)), vr (some a0)]) (pc' := 43) [(.aload_n 0, vi 0, 35), (.sipush 128, vi 128, 38), (.iload_n 1, vi 0, 39), (.bipush 63, vi 63, 41), (.iand, vi 0, 42), (.ior, vi 0, 43)] (by decide +kernel) rfl rfl ?_
      refine sm_gd (fun h28 => ?_)
      refine sm_cv (N := mX3_add) (d' := d - 1) (fun r => none) (fun r => r) (fun _ => τ) [vi (iOr 128 (iAnd a1 63))] [] rfl (by decide +kernel) q534 q535 q536 (Or.inl ⟨rfl, q537⟩) (show okN yX3_add 1 = true by decide +kernel) (fun H hR => hR.rvR G.1 h28) rfl rfl (by omega) rfl (fun Q' => r_add_ok G (d - 1) (by omega) a0 (iOr 128 (iAnd a1 63)) y27 Q') (fun y29 => ?_)
      refine sm_b (l' := [(0, vr (some a0)), (1, vi a1)]) (st' := []) (pc' := 151) [(.goto 105, vi 0, 151)] (by decide +kernel) rfl rfl ?_
      exact sm_vret rfl (by decide +kernel) (fun h => hRET _ h)
    refine sm_icmp_ge (off := 30) (tgt := 49) h1 (by decide) (by decide +kernel) (fun c33 => ?_) (fun c33 => ?_)
    · exact p31 c33
    · exact n32 c33
  · refine sm_b (l' := [(0, vr (some a0)), (1, vi a1)]) (st' := [vi a1, vr (some a0)]) (pc' := 9) [(.aload_n 0, vi 0, 8), (.iload_n 1, vi 0, 9)] (by decide +kernel) rfl rfl ?_
    refine sm_gd (fun h34 => ?_)
    refine sm_cv (N := mX3_add) (d' := d - 1) (fun r => none) (fun r => r) (fun _ => τ) [vi a1] [] rfl (by decide +kernel) q534 q535 q536 (Or.inl ⟨rfl, q537⟩) (show okN yX3_add 1 = true by decide +kernel) (fun H hR => hR.rvR G.1 h34) rfl rfl (by omega) rfl (fun Q' => r_add_ok G (d - 1) (by omega) a0 a1 σ Q') (fun y35 => ?_)
    refine sm_b (l' := [(0, vr (some a0)), (1, vi a1)]) (st' := []) (pc' := 151) [(.goto 139, vi 0, 151)] (by decide +kernel) rfl rfl ?_
    exact sm_vret rfl (by decide +kernel) (fun h => hRET _ h)
  refine sm_icmp_ge (off := 11) (tgt := 15) h1 (by decide) (by decide +kernel) (fun c39 => ?_) (fun c39 => ?_)
  · exact p37 c39
  · exact n38 c39
def jr_escape (bb : Nat × Nat) (a0 : Nat) (a1 : Option Nat) (σ : ST) : Option (Option Unit × ST) := gd (sc σ a0 = 14) (Option.bind (jr_look a0 σ) fun y2 => nm (pI σ 210 a0 ((sI σ 210 a0) + 1)) fun σ3 => gd (rg y2) (if y2 = 34 ∨ y2 = 47 ∨ y2 = 92 then (Option.bind a1 fun p7 => gd (sc σ3 p7 = 4) (Option.bind (r_add bb p7 y2 σ3) fun y10 => some ((some (), y10)))) else (if y2 = 98 then (Option.bind a1 fun p13 => gd (sc σ3 p13 = 4) (Option.bind (r_add bb p13 8 σ3) fun y16 => some ((some (), y16)))) else (if y2 = 102 then (Option.bind a1 fun p19 => gd (sc σ3 p19 = 4) (Option.bind (r_add bb p19 12 σ3) fun y22 => some ((some (), y22)))) else (if y2 = 110 then (Option.bind a1 fun p25 => gd (sc σ3 p25 = 4) (Option.bind (r_add bb p25 10 σ3) fun y28 => some ((some (), y28)))) else (if y2 = 114 then (Option.bind a1 fun p31 => gd (sc σ3 p31 = 4) (Option.bind (r_add bb p31 13 σ3) fun y34 => some ((some (), y34)))) else (if y2 = 116 then (Option.bind a1 fun p37 => gd (sc σ3 p37 = 4) (Option.bind (r_add bb p37 9 σ3) fun y40 => some ((some (), y40)))) else (if y2 = 117 then (gd (sc σ3 a0 = 14) (Option.bind (jr_told bb a0 σ3) (tB (fun z => (none, z)) fun y45 σ46 => Option.bind a1 fun p47 => gd (sc σ46 p47 = 4) (Option.bind (row_addSign bb p47 y45 σ46) fun y50 => some ((some (), y50)))))) else (Option.bind (s_must bb 0 σ3) (tB (fun z => (none, z)) fun y52 σ53 => some ((some (), σ53))))))))))))
set_option maxHeartbeats 4000000 in
theorem jr_escape_ok {g : GE} (G : GG g) {τ : TT} (d : Nat) (hd1 : 9 ≤ d) (a0 : Nat) (a1 : Option Nat)  (σ : ST) (Q : VQ) : Sm (V g mX14_escape d 0 [(0, vr (some a0)), (1, vr a1)] [] σ τ Q) (jr_escape (gRm g) a0 a1 σ) (fun r => tQ Q τ (fun _ : Unit => none) r) := by
  unfold jr_escape
  refine sm_top (fun K hRET => ?_)
  refine sm_b (l' := [(0, vr (some a0)), (1, vr a1)]) (st' := [vr (some a0)]) (pc' := 1) [(.aload_n 0, vi 0, 1)] (by decide +kernel) rfl rfl ?_
  refine sm_gd (fun h1 => ?_)
  refine sm_cv (N := mX14_look) (d' := d - 1) (fun r => (some (vi r))) (fun _ => σ) (fun _ => τ) [] [] rfl (by decide +kernel) q1233 q1235 qs35 (Or.inl ⟨rfl, q1236⟩) (show okN yX14_look 0 = true by decide +kernel) (fun H hR => hR.rv G.1 cd13 rfl h1) rfl rfl (by omega) rfl (fun Q' => jr_look_ok G (d - 1) (by omega) a0 σ Q') (fun y2 => ?_)
  refine sm_b (l' := [(0, vr (some a0)), (1, vr a1), (2, vi y2)]) (st' := [vr (some a0), vr (some a0)]) (pc' := 7) [(.istore_n 2, vi 0, 5), (.aload_n 0, vi 0, 6), (.dup, vi 0, 7)] (by decide +kernel) rfl rfl ?_
  refine sm_g (k := 2) (x := vi (sI σ 210 a0)) cd13 rfl h1 rfl q1202 rfl (by decide +kernel) ?_
  refine sm_b (l' := [(0, vr (some a0)), (1, vr a1), (2, vi y2)]) (st' := [vi ((sI σ 210 a0) + 1), vr (some a0)]) (pc' := 12) [(.iconst 1, vi 1, 11), (.iadd, vi 0, 12)] (by decide +kernel) rfl rfl ?_
  refine sm_p (k := 2) (x := vi ((sI σ 210 a0) + 1)) cd13 rfl h1 rfl q1202 rfl (nar_i _) (fit_i _) rfl (at_pI σ 210 a0 ((sI σ 210 a0) + 1)) (fp_210 σ a0 ((sI σ 210 a0) + 1)) (by decide +kernel) ?_
  refine sm_nms (fun σ3 => ?_)
  refine sm_b (l' := [(0, vr (some a0)), (1, vr a1), (2, vi y2)]) (st' := [vi y2]) (pc' := 16) [(.iload_n 2, vi 0, 16)] (by decide +kernel) rfl rfl ?_
  refine sm_gd (fun h4 => ?_)
  refine sm_if (fun c5 => ?_) (fun c5 => ?_)
  · refine sm_dflt (V g mX14_escape d 100 [(0, vr (some a0)), (1, vr a1), (2, vi y2)] [] σ3 τ Q) ?_ (fun f6 => ?_)
    · refine sm_b (l' := [(0, vr (some a0)), (1, vr a1), (2, vi y2)]) (st' := [vi y2, vr a1]) (pc' := 102) [(.aload_n 1, vi 0, 101), (.iload_n 2, vi 0, 102)] (by decide +kernel) rfl rfl ?_
      refine sm_de (fun p7 h8 => ?_)
      refine sm_st [vi y2, vr (some p7)] (by rw [h8] <;> rfl) ?_
      refine sm_gd (fun h9 => ?_)
      refine sm_cv (N := mX3_add) (d' := d - 1) (fun r => none) (fun r => r) (fun _ => τ) [vi y2] [] rfl (by decide +kernel) q1259 q535 q536 (Or.inl ⟨rfl, q537⟩) (show okN yX3_add 1 = true by decide +kernel) (fun H hR => hR.rvR G.1 h9) rfl rfl (by omega) rfl (fun Q' => r_add_ok G (d - 1) (by omega) p7 y2 σ3 Q') (fun y10 => ?_)
      refine sm_b (l' := [(0, vr (some a0)), (1, vr a1), (2, vi y2)]) (st' := []) (pc' := 168) [(.goto 63, vi 0, 168)] (by decide +kernel) rfl rfl ?_
      exact sm_vret rfl (by decide +kernel) (fun h => hRET _ h)
    rcases c5 with c5 | c5 | c5
    · exact sm_lcase (df := 148) (ps := [(34, 84), (47, 84), (92, 84), (98, 92), (102, 101), (110, 110), (114, 119), (116, 128), (117, 137)]) (n := 84) (k := 34) (off := 84) (tgt := 100) (by decide +kernel) c5 f6
    · exact sm_lcase (df := 148) (ps := [(34, 84), (47, 84), (92, 84), (98, 92), (102, 101), (110, 110), (114, 119), (116, 128), (117, 137)]) (n := 84) (k := 47) (off := 84) (tgt := 100) (by decide +kernel) c5 f6
    · exact sm_lcase (df := 148) (ps := [(34, 84), (47, 84), (92, 84), (98, 92), (102, 101), (110, 110), (114, 119), (116, 128), (117, 137)]) (n := 84) (k := 92) (off := 84) (tgt := 100) (by decide +kernel) c5 f6
  · refine sm_if (fun c11 => ?_) (fun c11 => ?_)
    · refine sm_dflt (V g mX14_escape d 108 [(0, vr (some a0)), (1, vr a1), (2, vi y2)] [] σ3 τ Q) ?_ (fun f12 => ?_)
      · refine sm_b (l' := [(0, vr (some a0)), (1, vr a1), (2, vi y2)]) (st' := [vi 8, vr a1]) (pc' := 111) [(.aload_n 1, vi 0, 109), (.bipush 8, vi 8, 111)] (by decide +kernel) rfl rfl ?_
        refine sm_de (fun p13 h14 => ?_)
        refine sm_st [vi 8, vr (some p13)] (by rw [h14] <;> rfl) ?_
        refine sm_gd (fun h15 => ?_)
        refine sm_cv (N := mX3_add) (d' := d - 1) (fun r => none) (fun r => r) (fun _ => τ) [vi 8] [] rfl (by decide +kernel) q1259 q535 q536 (Or.inl ⟨rfl, q537⟩) (show okN yX3_add 1 = true by decide +kernel) (fun H hR => hR.rvR G.1 h15) rfl rfl (by omega) rfl (fun Q' => r_add_ok G (d - 1) (by omega) p13 8 σ3 Q') (fun y16 => ?_)
        refine sm_b (l' := [(0, vr (some a0)), (1, vr a1), (2, vi y2)]) (st' := []) (pc' := 168) [(.goto 54, vi 0, 168)] (by decide +kernel) rfl rfl ?_
        exact sm_vret rfl (by decide +kernel) (fun h => hRET _ h)
      exact sm_lcase (df := 148) (ps := [(34, 84), (47, 84), (92, 84), (98, 92), (102, 101), (110, 110), (114, 119), (116, 128), (117, 137)]) (n := 84) (k := 98) (off := 92) (tgt := 108) (by decide +kernel) c11 f12
    · refine sm_if (fun c17 => ?_) (fun c17 => ?_)
      · refine sm_dflt (V g mX14_escape d 117 [(0, vr (some a0)), (1, vr a1), (2, vi y2)] [] σ3 τ Q) ?_ (fun f18 => ?_)
        · refine sm_b (l' := [(0, vr (some a0)), (1, vr a1), (2, vi y2)]) (st' := [vi 12, vr a1]) (pc' := 120) [(.aload_n 1, vi 0, 118), (.bipush 12, vi 12, 120)] (by decide +kernel) rfl rfl ?_
          refine sm_de (fun p19 h20 => ?_)
          refine sm_st [vi 12, vr (some p19)] (by rw [h20] <;> rfl) ?_
          refine sm_gd (fun h21 => ?_)
          refine sm_cv (N := mX3_add) (d' := d - 1) (fun r => none) (fun r => r) (fun _ => τ) [vi 12] [] rfl (by decide +kernel) q1259 q535 q536 (Or.inl ⟨rfl, q537⟩) (show okN yX3_add 1 = true by decide +kernel) (fun H hR => hR.rvR G.1 h21) rfl rfl (by omega) rfl (fun Q' => r_add_ok G (d - 1) (by omega) p19 12 σ3 Q') (fun y22 => ?_)
          refine sm_b (l' := [(0, vr (some a0)), (1, vr a1), (2, vi y2)]) (st' := []) (pc' := 168) [(.goto 45, vi 0, 168)] (by decide +kernel) rfl rfl ?_
          exact sm_vret rfl (by decide +kernel) (fun h => hRET _ h)
        exact sm_lcase (df := 148) (ps := [(34, 84), (47, 84), (92, 84), (98, 92), (102, 101), (110, 110), (114, 119), (116, 128), (117, 137)]) (n := 84) (k := 102) (off := 101) (tgt := 117) (by decide +kernel) c17 f18
      · refine sm_if (fun c23 => ?_) (fun c23 => ?_)
        · refine sm_dflt (V g mX14_escape d 126 [(0, vr (some a0)), (1, vr a1), (2, vi y2)] [] σ3 τ Q) ?_ (fun f24 => ?_)
          · refine sm_b (l' := [(0, vr (some a0)), (1, vr a1), (2, vi y2)]) (st' := [vi 10, vr a1]) (pc' := 129) [(.aload_n 1, vi 0, 127), (.bipush 10, vi 10, 129)] (by decide +kernel) rfl rfl ?_
            refine sm_de (fun p25 h26 => ?_)
            refine sm_st [vi 10, vr (some p25)] (by rw [h26] <;> rfl) ?_
            refine sm_gd (fun h27 => ?_)
            refine sm_cv (N := mX3_add) (d' := d - 1) (fun r => none) (fun r => r) (fun _ => τ) [vi 10] [] rfl (by decide +kernel) q1259 q535 q536 (Or.inl ⟨rfl, q537⟩) (show okN yX3_add 1 = true by decide +kernel) (fun H hR => hR.rvR G.1 h27) rfl rfl (by omega) rfl (fun Q' => r_add_ok G (d - 1) (by omega) p25 10 σ3 Q') (fun y28 => ?_)
            refine sm_b (l' := [(0, vr (some a0)), (1, vr a1), (2, vi y2)]) (st' := []) (pc' := 168) [(.goto 36, vi 0, 168)] (by decide +kernel) rfl rfl ?_
            exact sm_vret rfl (by decide +kernel) (fun h => hRET _ h)
          exact sm_lcase (df := 148) (ps := [(34, 84), (47, 84), (92, 84), (98, 92), (102, 101), (110, 110), (114, 119), (116, 128), (117, 137)]) (n := 84) (k := 110) (off := 110) (tgt := 126) (by decide +kernel) c23 f24
        · refine sm_if (fun c29 => ?_) (fun c29 => ?_)
          · refine sm_dflt (V g mX14_escape d 135 [(0, vr (some a0)), (1, vr a1), (2, vi y2)] [] σ3 τ Q) ?_ (fun f30 => ?_)
            · refine sm_b (l' := [(0, vr (some a0)), (1, vr a1), (2, vi y2)]) (st' := [vi 13, vr a1]) (pc' := 138) [(.aload_n 1, vi 0, 136), (.bipush 13, vi 13, 138)] (by decide +kernel) rfl rfl ?_
              refine sm_de (fun p31 h32 => ?_)
              refine sm_st [vi 13, vr (some p31)] (by rw [h32] <;> rfl) ?_
              refine sm_gd (fun h33 => ?_)
              refine sm_cv (N := mX3_add) (d' := d - 1) (fun r => none) (fun r => r) (fun _ => τ) [vi 13] [] rfl (by decide +kernel) q1259 q535 q536 (Or.inl ⟨rfl, q537⟩) (show okN yX3_add 1 = true by decide +kernel) (fun H hR => hR.rvR G.1 h33) rfl rfl (by omega) rfl (fun Q' => r_add_ok G (d - 1) (by omega) p31 13 σ3 Q') (fun y34 => ?_)
              refine sm_b (l' := [(0, vr (some a0)), (1, vr a1), (2, vi y2)]) (st' := []) (pc' := 168) [(.goto 27, vi 0, 168)] (by decide +kernel) rfl rfl ?_
              exact sm_vret rfl (by decide +kernel) (fun h => hRET _ h)
            exact sm_lcase (df := 148) (ps := [(34, 84), (47, 84), (92, 84), (98, 92), (102, 101), (110, 110), (114, 119), (116, 128), (117, 137)]) (n := 84) (k := 114) (off := 119) (tgt := 135) (by decide +kernel) c29 f30
          · refine sm_if (fun c35 => ?_) (fun c35 => ?_)
            · refine sm_dflt (V g mX14_escape d 144 [(0, vr (some a0)), (1, vr a1), (2, vi y2)] [] σ3 τ Q) ?_ (fun f36 => ?_)
              · refine sm_b (l' := [(0, vr (some a0)), (1, vr a1), (2, vi y2)]) (st' := [vi 9, vr a1]) (pc' := 147) [(.aload_n 1, vi 0, 145), (.bipush 9, vi 9, 147)] (by decide +kernel) rfl rfl ?_
                refine sm_de (fun p37 h38 => ?_)
                refine sm_st [vi 9, vr (some p37)] (by rw [h38] <;> rfl) ?_
                refine sm_gd (fun h39 => ?_)
                refine sm_cv (N := mX3_add) (d' := d - 1) (fun r => none) (fun r => r) (fun _ => τ) [vi 9] [] rfl (by decide +kernel) q1259 q535 q536 (Or.inl ⟨rfl, q537⟩) (show okN yX3_add 1 = true by decide +kernel) (fun H hR => hR.rvR G.1 h39) rfl rfl (by omega) rfl (fun Q' => r_add_ok G (d - 1) (by omega) p37 9 σ3 Q') (fun y40 => ?_)
                refine sm_b (l' := [(0, vr (some a0)), (1, vr a1), (2, vi y2)]) (st' := []) (pc' := 168) [(.goto 18, vi 0, 168)] (by decide +kernel) rfl rfl ?_
                exact sm_vret rfl (by decide +kernel) (fun h => hRET _ h)
              exact sm_lcase (df := 148) (ps := [(34, 84), (47, 84), (92, 84), (98, 92), (102, 101), (110, 110), (114, 119), (116, 128), (117, 137)]) (n := 84) (k := 116) (off := 128) (tgt := 144) (by decide +kernel) c35 f36
            · refine sm_if (fun c41 => ?_) (fun c41 => ?_)
              · refine sm_dflt (V g mX14_escape d 153 [(0, vr (some a0)), (1, vr a1), (2, vi y2)] [] σ3 τ Q) ?_ (fun f42 => ?_)
                · refine sm_b (l' := [(0, vr (some a0)), (1, vr a1), (2, vi y2)]) (st' := [vr (some a0), vr a1]) (pc' := 155) [(.aload_n 1, vi 0, 154), (.aload_n 0, vi 0, 155)] (by decide +kernel) rfl rfl ?_
                  refine sm_gd (fun h43 => ?_)
                  refine sm_cvT (N := mX14_told) (d' := d - 1) (fun r : Int => some (vi r)) (fun z => (none, z)) [] [vr a1] rfl (by decide +kernel) q1260 q1262 qs40 (Or.inl ⟨rfl, q1263⟩) (show okN yX14_told 0 = true by decide +kernel) (fun H hR => hR.rv G.1 cd13 rfl h43) rfl rfl (by omega) rfl (fun Q' => jr_told_ok G (d - 1) (by omega) a0 σ3 Q') (fun z h => hRET _ h) (fun y45 σ46 => ?_)
                  refine sm_de (fun p47 h48 => ?_)
                  refine sm_st [vi y45, vr (some p47)] (by rw [h48] <;> rfl) ?_
                  refine sm_gd (fun h49 => ?_)
                  refine sm_cv (N := mX3_addSign) (d' := d - 1) (fun r => none) (fun r => r) (fun _ => τ) [vi y45] [] rfl (by decide +kernel) q1272 q1273 q1274 (Or.inl ⟨rfl, q1275⟩) (show okN yX3_addSign 1 = true by decide +kernel) (fun H hR => hR.rvR G.1 h49) rfl rfl (by omega) rfl (fun Q' => row_addSign_ok G (d - 1) (by omega) p47 y45 σ46 Q') (fun y50 => ?_)
                  refine sm_b (l' := [(0, vr (some a0)), (1, vr a1), (2, vi y2)]) (st' := []) (pc' := 168) [(.goto 7, vi 0, 168)] (by decide +kernel) rfl rfl ?_
                  exact sm_vret rfl (by decide +kernel) (fun h => hRET _ h)
                exact sm_lcase (df := 148) (ps := [(34, 84), (47, 84), (92, 84), (98, 92), (102, 101), (110, 110), (114, 119), (116, 128), (117, 137)]) (n := 84) (k := 117) (off := 137) (tgt := 153) (by decide +kernel) c41 f42
              · refine sm_dflt (V g mX14_escape d 164 [(0, vr (some a0)), (1, vr a1), (2, vi y2)] [] σ3 τ Q) ?_ (fun f54 => ?_)
                · refine sm_b (l' := [(0, vr (some a0)), (1, vr a1), (2, vi y2)]) (st' := [vi 0]) (pc' := 165) [(.iconst 0, vi 0, 165)] (by decide +kernel) rfl rfl ?_
                  refine sm_csTE (N := mX14_must) (d' := d - 1) (fun _ : Unit => none) (fun z => (none, z)) [vi 0] [] rfl (by decide +kernel) q1237 q1238 q162 (Or.inl ⟨rfl, q1239⟩) (show okN yX14_must 1 = true by decide +kernel) rfl rfl (by omega) rfl (fun Q' => jr_must_ok G (d - 1) (by omega) 0 σ3 Q') (fun z h => hRET _ h) (fun y52 σ53 => ?_)
                  exact sm_vret rfl (by decide +kernel) (fun h => hRET _ h)
                exact sm_ldef (df := 148) (ps := [(34, 84), (47, 84), (92, 84), (98, 92), (102, 101), (110, 110), (114, 119), (116, 128), (117, 137)]) (n := 84) (tgt := 164) h4 (by decide +kernel) (by simp only [List.forall_mem_cons]; refine ⟨?_, ?_, ?_, ?_, ?_, ?_, ?_, ?_, ?_, List.forall_mem_nil _⟩ <;> omega) f54
def jr_string_L13 (bb : Nat × Nat) (u0 : Nat) : Nat → ST → Option ((Option (Option Nat) × ST) ⊕ (ST))
  | 0, _ => none
  | n + 1, σ => gd (sc σ u0 = 14) (Option.bind (jr_look u0 σ) fun y27 => gd (rg y27) (if y27 = 34 then (some (Sum.inr σ)) else (Option.bind (jr_look u0 σ) fun y32 => Option.bind (gd (rg y32) (if y32 < 32 then (some 0) else (some 1))) fun (v36 : Int) => Option.bind (s_must bb v36 σ) (tB (fun z => Sum.inl ((none, z))) fun y41 σ42 => gd (sc σ42 u0 = 14) (Option.bind (jr_look u0 σ42) fun y44 => nm (pI σ42 210 u0 ((sI σ42 210 u0) + 1)) fun σ45 => Option.bind (gd (rg y44) (if y44 = 92 then (gd (sc σ45 u0 = 14) (Option.bind (jr_escape bb u0 (sR σ45 211 u0) σ45) (tB (fun z => Sum.inl (Sum.inl ((none, z)))) fun y57 σ58 => some (Sum.inr σ58)))) else (gd (sc σ45 u0 = 14) (Option.bind (sR σ45 211 u0) fun p60 => gd (sc σ45 p60 = 4) (Option.bind (r_add bb p60 y44 σ45) fun y63 => some (Sum.inr y63)))))) (Sum.elim some fun (v51 : ST) => jr_string_L13 bb u0 n v51))))))
def jr_string (bb : Nat × Nat) (a0 : Nat) (σ : ST) : Option (Option (Option Nat) × ST) := gd (sc σ a0 = 14) (Option.bind (jr_sign bb a0 34 σ) (tB (fun z => (none, z)) fun y3 σ4 => gd (sc σ4 a0 = 14) (Option.bind (sR σ4 211 a0) fun p6 => gd (sc σ4 p6 = 4) (Option.bind (r_clear p6 σ4) fun y9 => Option.bind (jr_string_L13 bb a0 FU y9) (Sum.elim some fun (v10 : ST) => gd (sc v10 a0 = 14) (nm (pI v10 210 a0 ((sI v10 210 a0) + 1)) fun σ15 => gd (sc σ15 a0 = 14) (Option.bind (sR σ15 211 a0) fun p17 => gd (sc σ15 p17 = 4) (Option.bind (row_isText p17 σ15) fun y20 => Option.bind (s_must bb y20 σ15) (tB (fun z => (none, z)) fun y22 σ23 => gd (sc σ23 a0 = 14) (some ((some (sR σ23 211 a0), σ23))))))))))))
set_option maxHeartbeats 4000000 in
theorem jr_string_L13_ok {g : GE} (G : GG g) {τ : TT} {Q : VQ} (d : Nat) (hd1 : 10 ≤ d) (u0 : Nat)  {K : (Option (Option Nat) × ST) ⊕ (ST) → Prop} (hRET : ∀ r : Option (Option Nat) × ST, K (Sum.inl r) → tQ Q τ (fun r : Option Nat => some (vr r)) r) (hE82 : ∀ v25 : ST, K (Sum.inr v25) → V g mX14_string d 82 [(0, vr (some u0))] [] v25 τ Q) : ∀ (n : Nat) (σ : ST), Sm (V g mX14_string d 13 [(0, vr (some u0))] [] σ τ Q) (jr_string_L13 (gRm g) u0 n σ) K := by
  intro n
  induction n with
  | zero => intro σ; exact sm_none
  | succ n ih =>
    intro σ
    rw [jr_string_L13.eq_2]
    refine sm_b (l' := [(0, vr (some u0))]) (st' := [vr (some u0)]) (pc' := 14) [(.aload_n 0, vi 0, 14)] (by decide +kernel) rfl rfl ?_
    refine sm_gd (fun h26 => ?_)
    refine sm_cv (N := mX14_look) (d' := d - 1) (fun r => (some (vi r))) (fun _ => σ) (fun _ => τ) [] [] rfl (by decide +kernel) q1233 q1235 qs35 (Or.inl ⟨rfl, q1236⟩) (show okN yX14_look 0 = true by decide +kernel) (fun H hR => hR.rv G.1 cd13 rfl h26) rfl rfl (by omega) rfl (fun Q' => jr_look_ok G (d - 1) (by omega) u0 σ Q') (fun y27 => ?_)
    refine sm_b (l' := [(0, vr (some u0))]) (st' := [vi 34, vi y27]) (pc' := 19) [(.bipush 34, vi 34, 19)] (by decide +kernel) rfl rfl ?_
    refine sm_gd (fun h28 => ?_)
    refine sm_case (V g mX14_string d 82 [(0, vr (some u0))] [] σ τ Q) (V g mX14_string d 22 [(0, vr (some u0))] [] σ τ Q) ?_ ?_ (fun f72 p73 n74 => ?_)
    · exact sm_leaf (fun h => hE82 _ h)
    · refine sm_b (l' := [(0, vr (some u0))]) (st' := [vr (some u0)]) (pc' := 23) [(.aload_n 0, vi 0, 23)] (by decide +kernel) rfl rfl ?_
      refine sm_cv (N := mX14_look) (d' := d - 1) (fun r => (some (vi r))) (fun _ => σ) (fun _ => τ) [] [] rfl (by decide +kernel) q1233 q1235 qs35 (Or.inl ⟨rfl, q1236⟩) (show okN yX14_look 0 = true by decide +kernel) (fun H hR => hR.rv G.1 cd13 rfl h26) rfl rfl (by omega) rfl (fun Q' => jr_look_ok G (d - 1) (by omega) u0 σ Q') (fun y32 => ?_)
      refine sm_b (l' := [(0, vr (some u0))]) (st' := [vi 32, vi y32]) (pc' := 28) [(.bipush 32, vi 32, 28)] (by decide +kernel) rfl rfl ?_
      refine sm_bind1 (fun (v36 : Int) => V g mX14_string d 36 [(0, vr (some u0))] [vi v36] σ τ Q) (fun v36 => ?_) (fun K37 j38 => ?_)
      · refine sm_csTE (N := mX14_must) (d' := d - 1) (fun _ : Unit => none) (fun z => Sum.inl ((none, z))) [vi v36] [] rfl (by decide +kernel) q1237 q1238 q162 (Or.inl ⟨rfl, q1239⟩) (show okN yX14_must 1 = true by decide +kernel) rfl rfl (by omega) rfl (fun Q' => jr_must_ok G (d - 1) (by omega) v36 σ Q') (fun z h => hRET _ h) (fun y41 σ42 => ?_)
        refine sm_b (l' := [(0, vr (some u0))]) (st' := [vr (some u0)]) (pc' := 40) [(.aload_n 0, vi 0, 40)] (by decide +kernel) rfl rfl ?_
        refine sm_gd (fun h43 => ?_)
        refine sm_cv (N := mX14_look) (d' := d - 1) (fun r => (some (vi r))) (fun _ => σ42) (fun _ => τ) [] [] rfl (by decide +kernel) q1233 q1235 qs35 (Or.inl ⟨rfl, q1236⟩) (show okN yX14_look 0 = true by decide +kernel) (fun H hR => hR.rv G.1 cd13 rfl h43) rfl rfl (by omega) rfl (fun Q' => jr_look_ok G (d - 1) (by omega) u0 σ42 Q') (fun y44 => ?_)
        refine sm_b (l' := [(0, vr (some u0)), (1, vi y44)]) (st' := [vr (some u0), vr (some u0)]) (pc' := 46) [(.istore_n 1, vi 0, 44), (.aload_n 0, vi 0, 45), (.dup, vi 0, 46)] (by decide +kernel) rfl rfl ?_
        refine sm_g (k := 2) (x := vi (sI σ42 210 u0)) cd13 rfl h43 rfl q1202 rfl (by decide +kernel) ?_
        refine sm_b (l' := [(0, vr (some u0)), (1, vi y44)]) (st' := [vi ((sI σ42 210 u0) + 1), vr (some u0)]) (pc' := 51) [(.iconst 1, vi 1, 50), (.iadd, vi 0, 51)] (by decide +kernel) rfl rfl ?_
        refine sm_p (k := 2) (x := vi ((sI σ42 210 u0) + 1)) cd13 rfl h43 rfl q1202 rfl (nar_i _) (fit_i _) rfl (at_pI σ42 210 u0 ((sI σ42 210 u0) + 1)) (fp_210 σ42 u0 ((sI σ42 210 u0) + 1)) (by decide +kernel) ?_
        refine sm_nms (fun σ45 => ?_)
        refine sm_b (l' := [(0, vr (some u0)), (1, vi y44)]) (st' := [vi 92, vi y44]) (pc' := 57) [(.iload_n 1, vi 0, 55), (.bipush 92, vi 92, 57)] (by decide +kernel) rfl rfl ?_
        refine sm_bindS (fun (v51 : ST) => V g mX14_string d 79 [(0, vr (some u0))] [] v51 τ Q) (fun v51 => ?_) (fun K52 o54 j53 => ?_)
        · refine sm_b (l' := [(0, vr (some u0))]) (st' := []) (pc' := 13) [(.goto (-66), vi 0, 13)] (by decide +kernel) rfl rfl ?_
          exact ih v51
        · refine sm_gd (fun h46 => ?_)
          refine sm_case (V g mX14_string d 60 [(0, vr (some u0)), (1, vi y44)] [] σ45 τ Q) (V g mX14_string d 71 [(0, vr (some u0)), (1, vi y44)] [] σ45 τ Q) ?_ ?_ (fun f64 p65 n66 => ?_)
          · refine sm_b (l' := [(0, vr (some u0)), (1, vi y44)]) (st' := [vr (some u0), vr (some u0)]) (pc' := 62) [(.aload_n 0, vi 0, 61), (.aload_n 0, vi 0, 62)] (by decide +kernel) rfl rfl ?_
            refine sm_gd (fun h55 => ?_)
            refine sm_g (k := 3) (x := vr (sR σ45 211 u0)) cd13 rfl h55 rfl q1203 rfl (by decide +kernel) ?_
            refine sm_cvT (N := mX14_escape) (d' := d - 1) (fun _ : Unit => none) (fun z => Sum.inl (Sum.inl ((none, z)))) [vr (sR σ45 211 u0)] [] rfl (by decide +kernel) q1255 q1257 qs39 (Or.inl ⟨rfl, q1258⟩) (show okN yX14_escape 1 = true by decide +kernel) (fun H hR => hR.rv G.1 cd13 rfl h55) rfl rfl (by omega) rfl (fun Q' => jr_escape_ok G (d - 1) (by omega) u0 (sR σ45 211 u0) σ45 Q') (fun z h => hRET _ (o54 _ h)) (fun y57 σ58 => ?_)
            refine sm_b (l' := [(0, vr (some u0)), (1, vi y44)]) (st' := []) (pc' := 79) [(.goto 11, vi 0, 79)] (by decide +kernel) rfl rfl ?_
            refine sm_pick [0] (l' := [(0, vr (some u0))]) rfl ?_
            exact sm_leaf (fun h => j53 _ h)
          · refine sm_b (l' := [(0, vr (some u0)), (1, vi y44)]) (st' := [vr (some u0)]) (pc' := 72) [(.aload_n 0, vi 0, 72)] (by decide +kernel) rfl rfl ?_
            refine sm_gd (fun h59 => ?_)
            refine sm_g (k := 3) (x := vr (sR σ45 211 u0)) cd13 rfl h59 rfl q1203 rfl (by decide +kernel) ?_
            refine sm_b (l' := [(0, vr (some u0)), (1, vi y44)]) (st' := [vi y44, vr (sR σ45 211 u0)]) (pc' := 76) [(.iload_n 1, vi 0, 76)] (by decide +kernel) rfl rfl ?_
            refine sm_de (fun p60 h61 => ?_)
            refine sm_st [vi y44, vr (some p60)] (by rw [h61] <;> rfl) ?_
            refine sm_gd (fun h62 => ?_)
            refine sm_cv (N := mX3_add) (d' := d - 1) (fun r => none) (fun r => r) (fun _ => τ) [vi y44] [] rfl (by decide +kernel) q1259 q535 q536 (Or.inl ⟨rfl, q537⟩) (show okN yX3_add 1 = true by decide +kernel) (fun H hR => hR.rvR G.1 h62) rfl rfl (by omega) rfl (fun Q' => r_add_ok G (d - 1) (by omega) p60 y44 σ45 Q') (fun y63 => ?_)
            refine sm_pick [0] (l' := [(0, vr (some u0))]) rfl ?_
            exact sm_leaf (fun h => j53 _ h)
          refine sm_icmp_ne (off := 14) (tgt := 71) h46 (by decide) (by decide +kernel) (fun c67 => ?_) (fun c67 => ?_)
          · exact n66 c67
          · exact p65 c67
      · refine sm_gd (fun h33 => ?_)
        refine sm_case (V g mX14_string d 35 [(0, vr (some u0))] [] σ τ Q) (V g mX14_string d 31 [(0, vr (some u0))] [] σ τ Q) ?_ ?_ (fun f68 p69 n70 => ?_)
        · refine sm_b (l' := [(0, vr (some u0))]) (st' := [vi 0]) (pc' := 36) [(.iconst 0, vi 0, 36)] (by decide +kernel) rfl rfl ?_
          exact sm_leaf (fun h => j38 _ h)
        · refine sm_b (l' := [(0, vr (some u0))]) (st' := [vi 1]) (pc' := 36) [(.iconst 1, vi 1, 32), (.goto 4, vi 0, 36)] (by decide +kernel) rfl rfl ?_
          exact sm_leaf (fun h => j38 _ h)
        refine sm_icmp_lt (off := 7) (tgt := 35) h33 (by decide) (by decide +kernel) (fun c71 => ?_) (fun c71 => ?_)
        · exact p69 c71
        · exact n70 c71
    refine sm_icmp_eq (off := 63) (tgt := 82) h28 (by decide) (by decide +kernel) (fun c75 => ?_) (fun c75 => ?_)
    · exact p73 c75
    · exact n74 c75
set_option maxHeartbeats 4000000 in
theorem jr_string_ok {g : GE} (G : GG g) {τ : TT} (d : Nat) (hd1 : 10 ≤ d) (a0 : Nat)  (σ : ST) (Q : VQ) : Sm (V g mX14_string d 0 [(0, vr (some a0))] [] σ τ Q) (jr_string (gRm g) a0 σ) (fun r => tQ Q τ (fun r : Option Nat => some (vr r)) r) := by
  unfold jr_string
  refine sm_top (fun K hRET => ?_)
  refine sm_b (l' := [(0, vr (some a0))]) (st' := [vi 34, vr (some a0)]) (pc' := 3) [(.aload_n 0, vi 0, 1), (.bipush 34, vi 34, 3)] (by decide +kernel) rfl rfl ?_
  refine sm_gd (fun h1 => ?_)
  refine sm_cvT (N := mX14_sign) (d' := d - 1) (fun _ : Unit => none) (fun z => (none, z)) [vi 34] [] rfl (by decide +kernel) q1225 q1227 qs33 (Or.inl ⟨rfl, q1228⟩) (show okN yX14_sign 1 = true by decide +kernel) (fun H hR => hR.rv G.1 cd13 rfl h1) rfl rfl (by omega) rfl (fun Q' => jr_sign_ok G (d - 1) (by omega) a0 34 σ Q') (fun z h => hRET _ h) (fun y3 σ4 => ?_)
  refine sm_b (l' := [(0, vr (some a0))]) (st' := [vr (some a0)]) (pc' := 7) [(.aload_n 0, vi 0, 7)] (by decide +kernel) rfl rfl ?_
  refine sm_gd (fun h5 => ?_)
  refine sm_g (k := 3) (x := vr (sR σ4 211 a0)) cd13 rfl h5 rfl q1203 rfl (by decide +kernel) ?_
  refine sm_de (fun p6 h7 => ?_)
  refine sm_st [vr (some p6)] (by rw [h7] <;> rfl) ?_
  refine sm_gd (fun h8 => ?_)
  refine sm_cv (N := mX3_clear) (d' := d - 1) (fun r => none) (fun r => r) (fun _ => τ) [] [] rfl (by decide +kernel) q1254 q1099 q1100 (Or.inl ⟨rfl, q1101⟩) (show okN yX3_clear 0 = true by decide +kernel) (fun H hR => hR.rvR G.1 h8) rfl rfl (by omega) rfl (fun Q' => r_clear_ok G (d - 1) (by omega) p6 σ4 Q') (fun y9 => ?_)
  refine sm_bindS (fun (v10 : ST) => V g mX14_string d 82 [(0, vr (some a0))] [] v10 τ Q) (fun v10 => ?_) (fun K11 o13 j12 => ?_)
  · refine sm_b (l' := [(0, vr (some a0))]) (st' := [vr (some a0), vr (some a0)]) (pc' := 84) [(.aload_n 0, vi 0, 83), (.dup, vi 0, 84)] (by decide +kernel) rfl rfl ?_
    refine sm_gd (fun h14 => ?_)
    refine sm_g (k := 2) (x := vi (sI v10 210 a0)) cd13 rfl h14 rfl q1202 rfl (by decide +kernel) ?_
    refine sm_b (l' := [(0, vr (some a0))]) (st' := [vi ((sI v10 210 a0) + 1), vr (some a0)]) (pc' := 89) [(.iconst 1, vi 1, 88), (.iadd, vi 0, 89)] (by decide +kernel) rfl rfl ?_
    refine sm_p (k := 2) (x := vi ((sI v10 210 a0) + 1)) cd13 rfl h14 rfl q1202 rfl (nar_i _) (fit_i _) rfl (at_pI v10 210 a0 ((sI v10 210 a0) + 1)) (fp_210 v10 a0 ((sI v10 210 a0) + 1)) (by decide +kernel) ?_
    refine sm_nms (fun σ15 => ?_)
    refine sm_b (l' := [(0, vr (some a0))]) (st' := [vr (some a0)]) (pc' := 93) [(.aload_n 0, vi 0, 93)] (by decide +kernel) rfl rfl ?_
    refine sm_gd (fun h16 => ?_)
    refine sm_g (k := 3) (x := vr (sR σ15 211 a0)) cd13 rfl h16 rfl q1203 rfl (by decide +kernel) ?_
    refine sm_de (fun p17 h18 => ?_)
    refine sm_st [vr (some p17)] (by rw [h18] <;> rfl) ?_
    refine sm_gd (fun h19 => ?_)
    refine sm_cv (N := mX3_isText) (d' := d - 1) (fun r => (some (vi r))) (fun _ => σ15) (fun _ => τ) [] [] rfl (by decide +kernel) q1277 q1079 q1080 (Or.inl ⟨rfl, q1081⟩) (show okN yX3_isText 0 = true by decide +kernel) (fun H hR => hR.rvR G.1 h19) rfl rfl (by omega) rfl (fun Q' => row_isText_ok G (d - 1) (by omega) p17 σ15 Q') (fun y20 => ?_)
    refine sm_csTE (N := mX14_must) (d' := d - 1) (fun _ : Unit => none) (fun z => (none, z)) [vi y20] [] rfl (by decide +kernel) q1237 q1238 q162 (Or.inl ⟨rfl, q1239⟩) (show okN yX14_must 1 = true by decide +kernel) rfl rfl (by omega) rfl (fun Q' => jr_must_ok G (d - 1) (by omega) y20 σ15 Q') (fun z h => hRET _ h) (fun y22 σ23 => ?_)
    refine sm_b (l' := [(0, vr (some a0))]) (st' := [vr (some a0)]) (pc' := 103) [(.aload_n 0, vi 0, 103)] (by decide +kernel) rfl rfl ?_
    refine sm_gd (fun h24 => ?_)
    refine sm_g (k := 3) (x := vr (sR σ23 211 a0)) cd13 rfl h24 rfl q1203 rfl (by decide +kernel) ?_
    exact sm_aret rfl rfl (by decide +kernel) (fun h => hRET _ h)
  · exact jr_string_L13_ok G d hd1 a0  (fun r h => hRET _ (o13 _ h)) (fun _ h => j12 _ h) FU y9
