set_option maxRecDepth 100000
/-! the system: X15_read, X15_fits -/
def wh_read_L216 (bb : Nat × Nat) (u0 : Nat) (u1 : Option Nat) (u3 : Int) (u4 : Int) (u5 : Int) (u6 : Int) (u9 : Int) (u10 : Int) (σ : ST) : Nat → Int → Int64 → Option (Int × Int64)
  | 0, _, _ => none
  | n + 1, w2, w7 => Option.bind u1 fun p132 => gd (sc σ p132 = 4) (Option.bind (row_at p132 w2 σ) fun y135 => Option.bind (wh_isDigit y135) fun y136 => gd (rg y136) (if y136 = 0 then (some ((w2, w7))) else (Option.bind (row_at p132 w2 σ) fun y141 => Option.bind (jl_min_2 100000 (((10 * w7) + (iL y141)) - 48)) fun y142 => wh_read_L216 bb u0 u1 u3 u4 u5 u6 u9 u10 σ n (w2 + 1) y142)))
def wh_read_L107 (bb : Nat × Nat) (u0 : Nat) (u1 : Option Nat) (u3 : Int) (u4 : Int) (u5 : Int) (σ : ST) : Nat → Int → Option (Int)
  | 0, _ => none
  | n + 1, w2 => Option.bind u1 fun p181 => gd (sc σ p181 = 4) (Option.bind (row_at p181 w2 σ) fun y184 => Option.bind (wh_isDigit y184) fun y185 => gd (rg y185) (if y185 = 0 then (some w2) else (wh_read_L107 bb u0 u1 u3 u4 u5 σ n (w2 + 1))))
def wh_read_L42 (bb : Nat × Nat) (u0 : Nat) (u1 : Option Nat) (u3 : Int) (σ : ST) : Nat → Int → Option (Int)
  | 0, _ => none
  | n + 1, w2 => Option.bind u1 fun p212 => gd (sc σ p212 = 4) (Option.bind (row_at p212 w2 σ) fun y215 => Option.bind (wh_isDigit y215) fun y216 => gd (rg y216) (if y216 = 0 then (some w2) else (wh_read_L42 bb u0 u1 u3 σ n (w2 + 1))))
def wh_read (bb : Nat × Nat) (a0 : Nat) (a1 : Option Nat) (σ : ST) : Option (ST) := gd (sc σ a0 = 15) (nm (pI σ 224 a0 0) fun σ2 => gd (sc σ2 a0 = 15) (nm (pJ σ2 226 a0 0) fun σ4 => Option.bind a1 fun p5 => gd (sc σ4 p5 = 4) (Option.bind (row_at p5 0 σ4) fun y8 => Option.bind (gd (rg y8) (if y8 = 45 then (some 1) else (some 0))) fun (v12 : Int) => Option.bind (gd (rg v12) (if v12 = 1 then (some 1) else (some 0))) fun (v19 : Int) => gd (sc σ4 a0 = 15) (gd (zb v19) (nm (pI σ4 225 a0 v19) fun σ25 => Option.bind (wh_read_L42 bb a0 a1 v12 σ25 FU v12) fun (v26 : Int) => Option.bind (gd (rg v26) (gd (rg v12) (if v26 ≤ v12 then (some 0) else (gd (sc σ25 p5 = 4) (Option.bind (row_at p5 v12 σ25) fun y197 => gd (rg y197) (gd (y197 = 48 → rg (v12 + 1)) (if (y197 = 48) ∧ (¬ (v26 = (v12 + 1))) then (some 0) else (some 1)))))))) fun (v36 : Int) => gd (sc σ25 p5 = 4) (Option.bind (row_at p5 v26 σ25) fun y41 => Option.bind (gd (rg y41) (if y41 = 46 then (Option.bind (wh_read_L107 bb a0 a1 v12 v36 v26 σ25 FU (v26 + 1)) fun (v161 : Int) => Option.bind (gd (rg v36) (gd (¬ (v36 = 0) → rg v161) (gd (¬ (v36 = 0) → rg (v26 + 1)) (if (v36 = 0) ∨ (v161 ≤ (v26 + 1)) then (some 0) else (some 1))))) fun (v171 : Int) => some ((v161, v171, v161))) else (some ((v26, v36, v26))))) fun (v44 : Int × Int × Int) => Option.bind (row_at p5 v44.1 σ25) fun y48 => Option.bind (gd (rg y48) (gd (¬ (y48 = 101) → ok (row_at p5 v44.1 σ25)) (gd (¬ (y48 = 101) → rg (vv (row_at p5 v44.1 σ25))) (if (y48 = 101) ∨ ((vv (row_at p5 v44.1 σ25)) = 69) then (Option.bind (row_at p5 (v44.1 + 1) σ25) fun y82 => Option.bind (gd (rg y82) (if y82 = 45 then (some 1) else (some 0))) fun (v86 : Int) => Option.bind (gd (rg v86) (gd (v86 = 0 → ok (row_at p5 (v44.1 + 1) σ25)) (gd (v86 = 0 → rg (vv (row_at p5 (v44.1 + 1) σ25))) (if (v86 = 0) ∧ (¬ ((vv (row_at p5 (v44.1 + 1) σ25)) = 43)) then (some 0) else (some 1))))) fun (v96 : Int) => nm ((v44.1 + 1) + v96) fun x100 => Option.bind (wh_read_L216 bb a0 a1 v12 v44.2.1 v26 v44.2.2 v86 x100 σ25 FU x100 0) fun (v101 : Int × Int64) => Option.bind (gd (rg v44.2.1) (gd (¬ (v44.2.1 = 0) → rg v101.1) (gd (¬ (v44.2.1 = 0) → rg x100) (if (v44.2.1 = 0) ∨ (v101.1 ≤ x100) then (some 0) else (some 1))))) fun (v111 : Int) => Option.bind (gd (rg v86) (if v86 = 0 then (some v101.2) else (some ((-v101.2))))) fun (v118 : Int64) => some ((v101.1, v111, v118))) else (some ((v44.1, v44.2.1, 0))))))) fun (v54 : Int × Int × Int64) => Option.bind (gd (rg v54.2.1) (gd (¬ (v54.2.1 = 0) → rg v54.1) (if (v54.2.1 = 0) ∨ (¬ (v54.1 = ((((sW σ25 p5).length : Nat) : Int)))) then (some σ25) else (gd (sc σ25 a0 = 15) (Option.bind (wh_reckon bb a0 a1 v12 v26 v44.2.2 v54.2.2 σ25) fun y76 => some y76))))) fun (v64 : ST) => gd (sc v64 a0 = 15) (if (sJ v64 226 a0) = 0 then (nm (pI v64 225 a0 0) fun σ70 => some σ70) else (some v64))))))))
set_option maxHeartbeats 4000000 in
theorem wh_read_L216_ok {g : GE} (G : GG g) {τ : TT} {Q : VQ} (d : Nat) (hd1 : 4 ≤ d) (u0 : Nat) (u1 : Option Nat) (u3 : Int) (u4 : Int) (u5 : Int) (u6 : Int) (u9 : Int) (u10 : Int) (σ : ST)  {K : Int × Int64 → Prop} (hE258 : ∀ v131 : Int × Int64, K (v131) → V g mX15_read d 258 [(0, vr (some u0)), (1, vr u1), (2, vi v131.1), (3, vi u3), (4, vi u4), (5, vi u5), (6, vi u6), (7, vl v131.2), (9, vi u9), (10, vi u10)] [] σ τ Q) : ∀ (n : Nat) (w2 : Int) (w7 : Int64), Sm (V g mX15_read d 216 [(0, vr (some u0)), (1, vr u1), (2, vi w2), (3, vi u3), (4, vi u4), (5, vi u5), (6, vi u6), (7, vl w7), (9, vi u9), (10, vi u10)] [] σ τ Q) (wh_read_L216 (gRm g) u0 u1 u3 u4 u5 u6 u9 u10 σ n w2 w7) K := by
  intro n
  induction n with
  | zero => intro w2 w7; exact sm_none
  | succ n ih =>
    intro w2 w7
    rw [wh_read_L216.eq_2]
    refine sm_b (l' := [(0, vr (some u0)), (1, vr u1), (2, vi w2), (3, vi u3), (4, vi u4), (5, vi u5), (6, vi u6), (7, vl w7), (9, vi u9), (10, vi u10)]) (st' := [vi w2, vr u1]) (pc' := 218) [(.aload_n 1, vi 0, 217), (.iload_n 2, vi 0, 218)] (by decide +kernel) rfl rfl ?_
    refine sm_de (fun p132 h133 => ?_)
    refine sm_st [vi w2, vr (some p132)] (by rw [h133] <;> rfl) ?_
    refine sm_gd (fun h134 => ?_)
    refine sm_cv (N := mX3_at) (d' := d - 1) (fun r => (some (vi r))) (fun _ => σ) (fun _ => τ) [vi w2] [] rfl (by decide +kernel) q1339 q710 q711 (Or.inl ⟨rfl, q712⟩) (show okN yX3_at 1 = true by decide +kernel) (fun H hR => hR.rvR G.1 h134) rfl rfl (by omega) rfl (fun Q' => row_at_ok G (d - 1) (by omega) p132 w2 σ Q') (fun y135 => ?_)
    refine sm_cs (N := mX15_isDigit) (d' := d - 1) (fun r => (some (vi r))) (fun _ => σ) (fun _ => τ) [vi y135] [] rfl (by decide +kernel) q1340 q1341 q163 (Or.inl ⟨rfl, q1342⟩) (show okN yX15_isDigit 1 = true by decide +kernel) rfl rfl (by omega) rfl (fun Q' => wh_isDigit_ok G (d - 1) (by omega) y135 σ Q') (fun y136 => ?_)
    refine sm_gd (fun h137 => ?_)
    refine sm_case (V g mX15_read d 258 [(0, vr (some u0)), (1, vr u1), (2, vi w2), (3, vi u3), (4, vi u4), (5, vi u5), (6, vi u6), (7, vl w7), (9, vi u9), (10, vi u10)] [] σ τ Q) (V g mX15_read d 227 [(0, vr (some u0)), (1, vr u1), (2, vi w2), (3, vi u3), (4, vi u4), (5, vi u5), (6, vi u6), (7, vl w7), (9, vi u9), (10, vi u10)] [] σ τ Q) ?_ ?_ (fun f143 p144 n145 => ?_)
    · exact sm_leaf (fun h => hE258 _ h)
    · refine sm_ldc2 (by decide +kernel) q1343 ?_
      refine sm_ldc2 (by decide +kernel) q1344 ?_
      refine sm_b (l' := [(0, vr (some u0)), (1, vr u1), (2, vi w2), (3, vi u3), (4, vi u4), (5, vi u5), (6, vi u6), (7, vl w7), (9, vi u9), (10, vi u10)]) (st' := [vi w2, vr u1, vl (10 * w7), vl 100000]) (pc' := 238) [(.lload 7, vi 0, 235), (.lmul, vi 0, 236), (.aload_n 1, vi 0, 237), (.iload_n 2, vi 0, 238)] (by decide +kernel) rfl rfl ?_
      refine sm_st [vi w2, vr (some p132), vl (10 * w7), vl 100000] (by rw [h133] <;> rfl) ?_
      refine sm_cv (N := mX3_at) (d' := d - 1) (fun r => (some (vi r))) (fun _ => σ) (fun _ => τ) [vi w2] [vl (10 * w7), vl 100000] rfl (by decide +kernel) q1339 q710 q711 (Or.inl ⟨rfl, q712⟩) (show okN yX3_at 1 = true by decide +kernel) (fun H hR => hR.rvR G.1 h134) rfl rfl (by omega) rfl (fun Q' => row_at_ok G (d - 1) (by omega) p132 w2 σ Q') (fun y141 => ?_)
      refine sm_b (l' := [(0, vr (some u0)), (1, vr u1), (2, vi w2), (3, vi u3), (4, vi u4), (5, vi u5), (6, vi u6), (7, vl w7), (9, vi u9), (10, vi u10)]) (st' := [vl ((10 * w7) + (iL y141)), vl 100000]) (pc' := 243) [(.i2l, vi 0, 242), (.ladd, vi 0, 243)] (by decide +kernel) rfl rfl ?_
      refine sm_ldc2 (by decide +kernel) q1345 ?_
      refine sm_b (l' := [(0, vr (some u0)), (1, vr u1), (2, vi w2), (3, vi u3), (4, vi u4), (5, vi u5), (6, vi u6), (7, vl w7), (9, vi u9), (10, vi u10)]) (st' := [vl (((10 * w7) + (iL y141)) - 48), vl 100000]) (pc' := 247) [(.lsub, vi 0, 247)] (by decide +kernel) rfl rfl ?_
      refine sm_cs (N := mJ11_min_2) (d' := d - 1) (fun r => (some (vl r))) (fun _ => σ) (fun _ => τ) [vl 100000, vl (((10 * w7) + (iL y141)) - 48)] [] rfl (by decide +kernel) q1346 q1347 q150 (Or.inl ⟨rfl, q1348⟩) (show okN yJ11_min_2 2 = true by decide +kernel) rfl rfl (by omega) rfl (fun Q' => jl_min_2_ok G (d - 1) (by omega) 100000 (((10 * w7) + (iL y141)) - 48) τ Q') (fun y142 => ?_)
      refine sm_b (l' := [(0, vr (some u0)), (1, vr u1), (2, vi (w2 + 1)), (3, vi u3), (4, vi u4), (5, vi u5), (6, vi u6), (7, vl y142), (9, vi u9), (10, vi u10)]) (st' := []) (pc' := 216) [(.lstore 7, vi 0, 252), (.iinc 2 1, vi 1, 255), (.goto (-39), vi 0, 216)] (by decide +kernel) rfl rfl ?_
      exact ih (w2 + 1) y142
    refine sm_if_eq (off := 34) (tgt := 258) h137 (by decide +kernel) (fun c146 => ?_) (fun c146 => ?_)
    · exact p144 c146
    · exact n145 c146
set_option maxHeartbeats 4000000 in
theorem wh_read_L107_ok {g : GE} (G : GG g) {τ : TT} {Q : VQ} (d : Nat) (hd1 : 4 ≤ d) (u0 : Nat) (u1 : Option Nat) (u3 : Int) (u4 : Int) (u5 : Int) (σ : ST)  {K : Int → Prop} (hE124 : ∀ v180 : Int, K (v180) → V g mX15_read d 124 [(0, vr (some u0)), (1, vr u1), (2, vi v180), (3, vi u3), (4, vi u4), (5, vi u5)] [] σ τ Q) : ∀ (n : Nat) (w2 : Int), Sm (V g mX15_read d 107 [(0, vr (some u0)), (1, vr u1), (2, vi w2), (3, vi u3), (4, vi u4), (5, vi u5)] [] σ τ Q) (wh_read_L107 (gRm g) u0 u1 u3 u4 u5 σ n w2) K := by
  intro n
  induction n with
  | zero => intro w2; exact sm_none
  | succ n ih =>
    intro w2
    rw [wh_read_L107.eq_2]
    refine sm_b (l' := [(0, vr (some u0)), (1, vr u1), (2, vi w2), (3, vi u3), (4, vi u4), (5, vi u5)]) (st' := [vi w2, vr u1]) (pc' := 109) [(.aload_n 1, vi 0, 108), (.iload_n 2, vi 0, 109)] (by decide +kernel) rfl rfl ?_
    refine sm_de (fun p181 h182 => ?_)
    refine sm_st [vi w2, vr (some p181)] (by rw [h182] <;> rfl) ?_
    refine sm_gd (fun h183 => ?_)
    refine sm_cv (N := mX3_at) (d' := d - 1) (fun r => (some (vi r))) (fun _ => σ) (fun _ => τ) [vi w2] [] rfl (by decide +kernel) q1339 q710 q711 (Or.inl ⟨rfl, q712⟩) (show okN yX3_at 1 = true by decide +kernel) (fun H hR => hR.rvR G.1 h183) rfl rfl (by omega) rfl (fun Q' => row_at_ok G (d - 1) (by omega) p181 w2 σ Q') (fun y184 => ?_)
    refine sm_cs (N := mX15_isDigit) (d' := d - 1) (fun r => (some (vi r))) (fun _ => σ) (fun _ => τ) [vi y184] [] rfl (by decide +kernel) q1340 q1341 q163 (Or.inl ⟨rfl, q1342⟩) (show okN yX15_isDigit 1 = true by decide +kernel) rfl rfl (by omega) rfl (fun Q' => wh_isDigit_ok G (d - 1) (by omega) y184 σ Q') (fun y185 => ?_)
    refine sm_gd (fun h186 => ?_)
    refine sm_case (V g mX15_read d 124 [(0, vr (some u0)), (1, vr u1), (2, vi w2), (3, vi u3), (4, vi u4), (5, vi u5)] [] σ τ Q) (V g mX15_read d 118 [(0, vr (some u0)), (1, vr u1), (2, vi w2), (3, vi u3), (4, vi u4), (5, vi u5)] [] σ τ Q) ?_ ?_ (fun f188 p189 n190 => ?_)
    · exact sm_leaf (fun h => hE124 _ h)
    · refine sm_b (l' := [(0, vr (some u0)), (1, vr u1), (2, vi (w2 + 1)), (3, vi u3), (4, vi u4), (5, vi u5)]) (st' := []) (pc' := 107) [(.iinc 2 1, vi 1, 121), (.goto (-14), vi 0, 107)] (by decide +kernel) rfl rfl ?_
      exact ih (w2 + 1)
    refine sm_if_eq (off := 9) (tgt := 124) h186 (by decide +kernel) (fun c191 => ?_) (fun c191 => ?_)
    · exact p189 c191
    · exact n190 c191
set_option maxHeartbeats 4000000 in
theorem wh_read_L42_ok {g : GE} (G : GG g) {τ : TT} {Q : VQ} (d : Nat) (hd1 : 4 ≤ d) (u0 : Nat) (u1 : Option Nat) (u3 : Int) (σ : ST)  {K : Int → Prop} (hE59 : ∀ v211 : Int, K (v211) → V g mX15_read d 59 [(0, vr (some u0)), (1, vr u1), (2, vi v211), (3, vi u3)] [] σ τ Q) : ∀ (n : Nat) (w2 : Int), Sm (V g mX15_read d 42 [(0, vr (some u0)), (1, vr u1), (2, vi w2), (3, vi u3)] [] σ τ Q) (wh_read_L42 (gRm g) u0 u1 u3 σ n w2) K := by
  intro n
  induction n with
  | zero => intro w2; exact sm_none
  | succ n ih =>
    intro w2
    rw [wh_read_L42.eq_2]
    refine sm_b (l' := [(0, vr (some u0)), (1, vr u1), (2, vi w2), (3, vi u3)]) (st' := [vi w2, vr u1]) (pc' := 44) [(.aload_n 1, vi 0, 43), (.iload_n 2, vi 0, 44)] (by decide +kernel) rfl rfl ?_
    refine sm_de (fun p212 h213 => ?_)
    refine sm_st [vi w2, vr (some p212)] (by rw [h213] <;> rfl) ?_
    refine sm_gd (fun h214 => ?_)
    refine sm_cv (N := mX3_at) (d' := d - 1) (fun r => (some (vi r))) (fun _ => σ) (fun _ => τ) [vi w2] [] rfl (by decide +kernel) q1339 q710 q711 (Or.inl ⟨rfl, q712⟩) (show okN yX3_at 1 = true by decide +kernel) (fun H hR => hR.rvR G.1 h214) rfl rfl (by omega) rfl (fun Q' => row_at_ok G (d - 1) (by omega) p212 w2 σ Q') (fun y215 => ?_)
    refine sm_cs (N := mX15_isDigit) (d' := d - 1) (fun r => (some (vi r))) (fun _ => σ) (fun _ => τ) [vi y215] [] rfl (by decide +kernel) q1340 q1341 q163 (Or.inl ⟨rfl, q1342⟩) (show okN yX15_isDigit 1 = true by decide +kernel) rfl rfl (by omega) rfl (fun Q' => wh_isDigit_ok G (d - 1) (by omega) y215 σ Q') (fun y216 => ?_)
    refine sm_gd (fun h217 => ?_)
    refine sm_case (V g mX15_read d 59 [(0, vr (some u0)), (1, vr u1), (2, vi w2), (3, vi u3)] [] σ τ Q) (V g mX15_read d 53 [(0, vr (some u0)), (1, vr u1), (2, vi w2), (3, vi u3)] [] σ τ Q) ?_ ?_ (fun f219 p220 n221 => ?_)
    · exact sm_leaf (fun h => hE59 _ h)
    · refine sm_b (l' := [(0, vr (some u0)), (1, vr u1), (2, vi (w2 + 1)), (3, vi u3)]) (st' := []) (pc' := 42) [(.iinc 2 1, vi 1, 56), (.goto (-14), vi 0, 42)] (by decide +kernel) rfl rfl ?_
      exact ih (w2 + 1)
    refine sm_if_eq (off := 9) (tgt := 59) h217 (by decide +kernel) (fun c222 => ?_) (fun c222 => ?_)
    · exact p220 c222
    · exact n221 c222
set_option maxHeartbeats 4000000 in
theorem wh_read_ok {g : GE} (G : GG g) {τ : TT} (d : Nat) (hd1 : 4 ≤ d) (a0 : Nat) (a1 : Option Nat)  (σ : ST) (Q : VQ) : Sm (V g mX15_read d 0 [(0, vr (some a0)), (1, vr a1)] [] σ τ Q) (wh_read (gRm g) a0 a1 σ) (fun r => Q.1 none r τ) := by
  unfold wh_read
  refine sm_top (fun K hRET => ?_)
  refine sm_b (l' := [(0, vr (some a0)), (1, vr a1)]) (st' := [vi 0, vr (some a0)]) (pc' := 2) [(.aload_n 0, vi 0, 1), (.iconst 0, vi 0, 2)] (by decide +kernel) rfl rfl ?_
  refine sm_gd (fun h1 => ?_)
  refine sm_p (k := 0) (x := vi 0) cd14 rfl h1 rfl q1187 rfl (nar_z (Or.inl rfl)) (fit_z (Or.inl rfl)) rfl (at_pI σ 224 a0 0) (fp_224 σ a0 0) (by decide +kernel) ?_
  refine sm_nms (fun σ2 => ?_)
  refine sm_b (l' := [(0, vr (some a0)), (1, vr a1)]) (st' := [vl 0, vr (some a0)]) (pc' := 7) [(.aload_n 0, vi 0, 6), (.lconst 0, vl 0, 7)] (by decide +kernel) rfl rfl ?_
  refine sm_gd (fun h3 => ?_)
  refine sm_p (k := 2) (x := vl 0) cd14 rfl h3 rfl q1191 rfl (nar_j _) (fit_j _) rfl (at_pJ σ2 226 a0 0) (fp_226 σ2 a0 0) (by decide +kernel) ?_
  refine sm_nms (fun σ4 => ?_)
  refine sm_b (l' := [(0, vr (some a0)), (1, vr a1)]) (st' := [vi 0, vr a1]) (pc' := 12) [(.aload_n 1, vi 0, 11), (.iconst 0, vi 0, 12)] (by decide +kernel) rfl rfl ?_
  refine sm_de (fun p5 h6 => ?_)
  refine sm_st [vi 0, vr (some p5)] (by rw [h6] <;> rfl) ?_
  refine sm_gd (fun h7 => ?_)
  refine sm_cv (N := mX3_at) (d' := d - 1) (fun r => (some (vi r))) (fun _ => σ4) (fun _ => τ) [vi 0] [] rfl (by decide +kernel) q1339 q710 q711 (Or.inl ⟨rfl, q712⟩) (show okN yX3_at 1 = true by decide +kernel) (fun H hR => hR.rvR G.1 h7) rfl rfl (by omega) rfl (fun Q' => row_at_ok G (d - 1) (by omega) p5 0 σ4 Q') (fun y8 => ?_)
  refine sm_b (l' := [(0, vr (some a0)), (1, vr a1)]) (st' := [vi 45, vi y8]) (pc' := 17) [(.bipush 45, vi 45, 17)] (by decide +kernel) rfl rfl ?_
  refine sm_bind1 (fun (v12 : Int) => V g mX15_read d 25 [(0, vr (some a0)), (1, vr a1)] [vi v12] σ4 τ Q) (fun v12 => ?_) (fun K13 j14 => ?_)
  · refine sm_b (l' := [(0, vr (some a0)), (1, vr a1), (2, vi v12)]) (st' := [vi 1, vi v12, vr (some a0)]) (pc' := 29) [(.istore_n 2, vi 0, 26), (.aload_n 0, vi 0, 27), (.iload_n 2, vi 0, 28), (.iconst 1, vi 1, 29)] (by decide +kernel) rfl rfl ?_
    refine sm_bind1 (fun (v19 : Int) => V g mX15_read d 37 [(0, vr (some a0)), (1, vr a1), (2, vi v12)] [vi v19, vr (some a0)] σ4 τ Q) (fun v19 => ?_) (fun K20 j21 => ?_)
    · refine sm_gd (fun h23 => ?_)
      refine sm_gd (fun h24 => ?_)
      refine sm_p (k := 1) (x := vi v19) cd14 rfl h23 rfl q1189 rfl (nar_z h24) (fit_z h24) rfl (at_pI σ4 225 a0 v19) (fp_225 σ4 a0 v19) (by decide +kernel) ?_
      refine sm_nms (fun σ25 => ?_)
      refine sm_b (l' := [(0, vr (some a0)), (1, vr a1), (2, vi v12), (3, vi v12)]) (st' := []) (pc' := 42) [(.iload_n 2, vi 0, 41), (.istore_n 3, vi 0, 42)] (by decide +kernel) rfl rfl ?_
      refine sm_bind1 (fun (v26 : Int) => V g mX15_read d 59 [(0, vr (some a0)), (1, vr a1), (2, vi v26), (3, vi v12)] [] σ25 τ Q) (fun v26 => ?_) (fun K27 j28 => ?_)
      · refine sm_b (l' := [(0, vr (some a0)), (1, vr a1), (2, vi v26), (3, vi v12)]) (st' := [vi v12, vi v26]) (pc' := 61) [(.iload_n 2, vi 0, 60), (.iload_n 3, vi 0, 61)] (by decide +kernel) rfl rfl ?_
        refine sm_bind1 (fun (v36 : Int) => V g mX15_read d 86 [(0, vr (some a0)), (1, vr a1), (2, vi v26), (3, vi v12)] [vi v36] σ25 τ Q) (fun v36 => ?_) (fun K37 j38 => ?_)
        · refine sm_b (l' := [(0, vr (some a0)), (1, vr a1), (2, vi v26), (3, vi v12), (4, vi v36), (5, vi v26), (6, vi v26)]) (st' := [vi v26, vr a1]) (pc' := 96) [(.istore 4, vi 0, 88), (.iload_n 2, vi 0, 89), (.istore 5, vi 0, 91), (.iload_n 2, vi 0, 92), (.istore 6, vi 0, 94), (.aload_n 1, vi 0, 95), (.iload_n 2, vi 0, 96)] (by decide +kernel) rfl rfl ?_
          refine sm_st [vi v26, vr (some p5)] (by rw [h6] <;> rfl) ?_
          refine sm_gd (fun h40 => ?_)
          refine sm_cv (N := mX3_at) (d' := d - 1) (fun r => (some (vi r))) (fun _ => σ25) (fun _ => τ) [vi v26] [] rfl (by decide +kernel) q1339 q710 q711 (Or.inl ⟨rfl, q712⟩) (show okN yX3_at 1 = true by decide +kernel) (fun H hR => hR.rvR G.1 h40) rfl rfl (by omega) rfl (fun Q' => row_at_ok G (d - 1) (by omega) p5 v26 σ25 Q') (fun y41 => ?_)
          refine sm_b (l' := [(0, vr (some a0)), (1, vr a1), (2, vi v26), (3, vi v12), (4, vi v36), (5, vi v26), (6, vi v26)]) (st' := [vi 46, vi y41]) (pc' := 101) [(.bipush 46, vi 46, 101)] (by decide +kernel) rfl rfl ?_
          refine sm_bind1 (fun (v44 : Int × Int × Int) => V g mX15_read d 147 [(0, vr (some a0)), (1, vr a1), (2, vi v44.1), (3, vi v12), (4, vi v44.2.1), (5, vi v26), (6, vi v44.2.2)] [] σ25 τ Q) (fun v44 => ?_) (fun K45 j46 => ?_)
          · refine sm_b (l' := [(0, vr (some a0)), (1, vr a1), (2, vi v44.1), (3, vi v12), (4, vi v44.2.1), (5, vi v26), (6, vi v44.2.2), (7, vl 0)]) (st' := [vi v44.1, vr a1]) (pc' := 152) [(.lconst 0, vl 0, 148), (.lstore 7, vi 0, 150), (.aload_n 1, vi 0, 151), (.iload_n 2, vi 0, 152)] (by decide +kernel) rfl rfl ?_
            refine sm_st [vi v44.1, vr (some p5)] (by rw [h6] <;> rfl) ?_
            refine sm_cv (N := mX3_at) (d' := d - 1) (fun r => (some (vi r))) (fun _ => σ25) (fun _ => τ) [vi v44.1] [] rfl (by decide +kernel) q1339 q710 q711 (Or.inl ⟨rfl, q712⟩) (show okN yX3_at 1 = true by decide +kernel) (fun H hR => hR.rvR G.1 h40) rfl rfl (by omega) rfl (fun Q' => row_at_ok G (d - 1) (by omega) p5 v44.1 σ25 Q') (fun y48 => ?_)
            refine sm_b (l' := [(0, vr (some a0)), (1, vr a1), (2, vi v44.1), (3, vi v12), (4, vi v44.2.1), (5, vi v26), (6, vi v44.2.2), (7, vl 0)]) (st' := [vi 101, vi y48]) (pc' := 157) [(.bipush 101, vi 101, 157)] (by decide +kernel) rfl rfl ?_
            refine sm_bind1 (fun (v54 : Int × Int × Int64) => V g mX15_read d 291 [(0, vr (some a0)), (1, vr a1), (2, vi v54.1), (3, vi v12), (4, vi v54.2.1), (5, vi v26), (6, vi v44.2.2), (7, vl v54.2.2)] [] σ25 τ Q) (fun v54 => ?_) (fun K55 j56 => ?_)
            · refine sm_b (l' := [(0, vr (some a0)), (1, vr a1), (2, vi v54.1), (3, vi v12), (4, vi v54.2.1), (5, vi v26), (6, vi v44.2.2), (7, vl v54.2.2)]) (st' := [vi v54.2.1]) (pc' := 293) [(.iload 4, vi 0, 293)] (by decide +kernel) rfl rfl ?_
              refine sm_bind1 (fun (v64 : ST) => V g mX15_read d 316 [(0, vr (some a0))] [] v64 τ Q) (fun v64 => ?_) (fun K65 j66 => ?_)
              · refine sm_b (l' := [(0, vr (some a0))]) (st' := [vr (some a0)]) (pc' := 317) [(.aload_n 0, vi 0, 317)] (by decide +kernel) rfl rfl ?_
                refine sm_gd (fun h68 => ?_)
                refine sm_g (k := 2) (x := vl (sJ v64 226 a0)) cd14 rfl h68 rfl q1191 rfl (by decide +kernel) ?_
                refine sm_b (l' := [(0, vr (some a0))]) (st' := [vl 0, vl (sJ v64 226 a0)]) (pc' := 321) [(.lconst 0, vl 0, 321)] (by decide +kernel) rfl rfl ?_
                refine sm_case (V g mX15_read d 325 [(0, vr (some a0))] [] v64 τ Q) (V g mX15_read d 330 [(0, vr (some a0))] [] v64 τ Q) ?_ ?_ (fun f71 p72 n73 => ?_)
                · refine sm_b (l' := [(0, vr (some a0))]) (st' := [vi 0, vr (some a0)]) (pc' := 327) [(.aload_n 0, vi 0, 326), (.iconst 0, vi 0, 327)] (by decide +kernel) rfl rfl ?_
                  refine sm_p (k := 1) (x := vi 0) cd14 rfl h68 rfl q1189 rfl (nar_z (Or.inl rfl)) (fit_z (Or.inl rfl)) rfl (at_pI v64 225 a0 0) (fp_225 v64 a0 0) (by decide +kernel) ?_
                  refine sm_nms (fun σ70 => ?_)
                  exact sm_vret rfl (by decide +kernel) (fun h => hRET _ h)
                · exact sm_vret rfl (by decide +kernel) (fun h => hRET _ h)
                refine sm_lc_ne (off := 8) (tgt := 330) (by decide +kernel) (by decide +kernel) (fun c74 => ?_) (fun c74 => ?_)
                · exact n73 c74
                · exact p72 c74
              · refine sm_gd (fun h58 => ?_)
                refine sm_gd (fun h62 => ?_)
                refine sm_case (V g mX15_read d 316 [(0, vr (some a0)), (1, vr a1), (2, vi v54.1), (3, vi v12), (4, vi v54.2.1), (5, vi v26), (6, vi v44.2.2), (7, vl v54.2.2)] [] σ25 τ Q) (V g mX15_read d 304 [(0, vr (some a0)), (1, vr a1), (2, vi v54.1), (3, vi v12), (4, vi v54.2.1), (5, vi v26), (6, vi v44.2.2), (7, vl v54.2.2)] [] σ25 τ Q) ?_ ?_ (fun f77 p78 n79 => ?_)
                · refine sm_pick [0] (l' := [(0, vr (some a0))]) rfl ?_
                  exact sm_leaf (fun h => j66 _ h)
                · refine sm_b (l' := [(0, vr (some a0)), (1, vr a1), (2, vi v54.1), (3, vi v12), (4, vi v54.2.1), (5, vi v26), (6, vi v44.2.2), (7, vl v54.2.2)]) (st' := [vl v54.2.2, vi v44.2.2, vi v26, vi v12, vr a1, vr (some a0)]) (pc' := 313) [(.aload_n 0, vi 0, 305), (.aload_n 1, vi 0, 306), (.iload_n 3, vi 0, 307), (.iload 5, vi 0, 309), (.iload 6, vi 0, 311), (.lload 7, vi 0, 313)] (by decide +kernel) rfl rfl ?_
                  refine sm_gd (fun h75 => ?_)
                  refine sm_cv (N := mX15_reckon) (d' := d - 1) (fun r => none) (fun r => r) (fun _ => τ) [vr a1, vi v12, vi v26, vi v44.2.2, vl v54.2.2] [] rfl (by decide +kernel) q1349 q1351 qs46 (Or.inl ⟨rfl, q1352⟩) (show okN yX15_reckon 5 = true by decide +kernel) (fun H hR => hR.rv G.1 cd14 rfl h75) rfl rfl (by omega) rfl (fun Q' => wh_reckon_ok G (d - 1) (by omega) a0 a1 v12 v26 v44.2.2 v54.2.2 σ25 Q') (fun y76 => ?_)
                  refine sm_pick [0] (l' := [(0, vr (some a0))]) rfl ?_
                  exact sm_leaf (fun h => j66 _ h)
                refine sm_if_eq (off := 23) (tgt := 316) h58 (by decide +kernel) (fun c80 => ?_) (fun c80 => ?_)
                · exact p78 (Or.inl c80)
                · have w59 : ¬ (v54.2.1 = 0) := c80
                  refine sm_b (l' := [(0, vr (some a0)), (1, vr a1), (2, vi v54.1), (3, vi v12), (4, vi v54.2.1), (5, vi v26), (6, vi v44.2.2), (7, vl v54.2.2)]) (st' := [vr a1, vi v54.1]) (pc' := 298) [(.iload_n 2, vi 0, 297), (.aload_n 1, vi 0, 298)] (by decide +kernel) rfl rfl ?_
                  refine sm_st [vr (some p5), vi v54.1] (by rw [h6] <;> rfl) ?_
                  refine sm_rszN h40 q280 (by decide +kernel) ?_
                  refine sm_rowf h40 (fun b60 b61 => ?_)
                  refine sm_icmp_ne (off := 15) (tgt := 316) (h62 w59) (rwl_rg (Nat.lt_of_le_of_lt b60 b61)) (by decide +kernel) (fun c81 => ?_) (fun c81 => ?_)
                  · exact p78 (Or.inr c81)
                  · exact n79 (fun q => q.elim c80 (fun q => q c81))
            · refine sm_gd (fun h49 => ?_)
              refine sm_gd (fun h51 => ?_)
              refine sm_gd (fun h52 => ?_)
              refine sm_case (V g mX15_read d 170 [(0, vr (some a0)), (1, vr a1), (2, vi v44.1), (3, vi v12), (4, vi v44.2.1), (5, vi v26), (6, vi v44.2.2), (7, vl 0)] [] σ25 τ Q) (V g mX15_read d 291 [(0, vr (some a0)), (1, vr a1), (2, vi v44.1), (3, vi v12), (4, vi v44.2.1), (5, vi v26), (6, vi v44.2.2), (7, vl 0)] [] σ25 τ Q) ?_ ?_ (fun f156 p157 n158 => ?_)
              · refine sm_b (l' := [(0, vr (some a0)), (1, vr a1), (2, vi (v44.1 + 1)), (3, vi v12), (4, vi v44.2.1), (5, vi v26), (6, vi v44.2.2), (7, vl 0)]) (st' := [vi (v44.1 + 1), vr a1]) (pc' := 175) [(.iinc 2 1, vi 1, 173), (.aload_n 1, vi 0, 174), (.iload_n 2, vi 0, 175)] (by decide +kernel) rfl rfl ?_
                refine sm_st [vi (v44.1 + 1), vr (some p5)] (by rw [h6] <;> rfl) ?_
                refine sm_cv (N := mX3_at) (d' := d - 1) (fun r => (some (vi r))) (fun _ => σ25) (fun _ => τ) [vi (v44.1 + 1)] [] rfl (by decide +kernel) q1339 q710 q711 (Or.inl ⟨rfl, q712⟩) (show okN yX3_at 1 = true by decide +kernel) (fun H hR => hR.rvR G.1 h40) rfl rfl (by omega) rfl (fun Q' => row_at_ok G (d - 1) (by omega) p5 (v44.1 + 1) σ25 Q') (fun y82 => ?_)
                refine sm_b (l' := [(0, vr (some a0)), (1, vr a1), (2, vi (v44.1 + 1)), (3, vi v12), (4, vi v44.2.1), (5, vi v26), (6, vi v44.2.2), (7, vl 0)]) (st' := [vi 45, vi y82]) (pc' := 180) [(.bipush 45, vi 45, 180)] (by decide +kernel) rfl rfl ?_
                refine sm_bind1 (fun (v86 : Int) => V g mX15_read d 188 [(0, vr (some a0)), (1, vr a1), (2, vi (v44.1 + 1)), (3, vi v12), (4, vi v44.2.1), (5, vi v26), (6, vi v44.2.2), (7, vl 0)] [vi v86] σ25 τ Q) (fun v86 => ?_) (fun K87 j88 => ?_)
                · refine sm_b (l' := [(0, vr (some a0)), (1, vr a1), (2, vi (v44.1 + 1)), (3, vi v12), (4, vi v44.2.1), (5, vi v26), (6, vi v44.2.2), (7, vl 0), (9, vi v86)]) (st' := [vi v86, vi (v44.1 + 1)]) (pc' := 193) [(.istore 9, vi 0, 190), (.iload_n 2, vi 0, 191), (.iload 9, vi 0, 193)] (by decide +kernel) rfl rfl ?_
                  refine sm_bind1 (fun (v96 : Int) => V g mX15_read d 211 [(0, vr (some a0)), (1, vr a1), (3, vi v12), (4, vi v44.2.1), (5, vi v26), (6, vi v44.2.2), (7, vl 0), (9, vi v86)] [vi v96, vi (v44.1 + 1)] σ25 τ Q) (fun v96 => ?_) (fun K97 j98 => ?_)
                  · refine sm_b (l' := [(0, vr (some a0)), (1, vr a1), (3, vi v12), (4, vi v44.2.1), (5, vi v26), (6, vi v44.2.2), (7, vl 0), (9, vi v86)]) (st' := [vi ((v44.1 + 1) + v96)]) (pc' := 212) [(.iadd, vi 0, 212)] (by decide +kernel) rfl rfl ?_
                    refine sm_nmi (fun x100 => ?_)
                    refine sm_b (l' := [(0, vr (some a0)), (1, vr a1), (3, vi v12), (4, vi v44.2.1), (5, vi v26), (6, vi v44.2.2), (7, vl 0), (9, vi v86), (2, vi x100), (10, vi x100)]) (st' := []) (pc' := 216) [(.istore_n 2, vi 0, 213), (.iload_n 2, vi 0, 214), (.istore 10, vi 0, 216)] (by decide +kernel) rfl rfl ?_
                    refine sm_bind1 (fun (v101 : Int × Int64) => V g mX15_read d 258 [(0, vr (some a0)), (1, vr a1), (2, vi v101.1), (3, vi v12), (4, vi v44.2.1), (5, vi v26), (6, vi v44.2.2), (7, vl v101.2), (9, vi v86), (10, vi x100)] [] σ25 τ Q) (fun v101 => ?_) (fun K102 j103 => ?_)
                    · refine sm_b (l' := [(0, vr (some a0)), (1, vr a1), (2, vi v101.1), (3, vi v12), (4, vi v44.2.1), (5, vi v26), (6, vi v44.2.2), (7, vl v101.2), (9, vi v86), (10, vi x100)]) (st' := [vi v44.2.1]) (pc' := 260) [(.iload 4, vi 0, 260)] (by decide +kernel) rfl rfl ?_
                      refine sm_bind1 (fun (v111 : Int) => V g mX15_read d 274 [(0, vr (some a0)), (1, vr a1), (2, vi v101.1), (3, vi v12), (5, vi v26), (6, vi v44.2.2), (7, vl v101.2), (9, vi v86)] [vi v111] σ25 τ Q) (fun v111 => ?_) (fun K112 j113 => ?_)
                      · refine sm_b (l' := [(0, vr (some a0)), (1, vr a1), (2, vi v101.1), (3, vi v12), (5, vi v26), (6, vi v44.2.2), (7, vl v101.2), (9, vi v86), (4, vi v111)]) (st' := [vi v86]) (pc' := 278) [(.istore 4, vi 0, 276), (.iload 9, vi 0, 278)] (by decide +kernel) rfl rfl ?_
                        refine sm_bind1 (fun (v118 : Int64) => V g mX15_read d 289 [(0, vr (some a0)), (1, vr a1), (2, vi v101.1), (3, vi v12), (4, vi v111), (5, vi v26), (6, vi v44.2.2)] [vl v118] σ25 τ Q) (fun v118 => ?_) (fun K119 j120 => ?_)
                        · refine sm_b (l' := [(0, vr (some a0)), (1, vr a1), (2, vi v101.1), (3, vi v12), (4, vi v111), (5, vi v26), (6, vi v44.2.2), (7, vl v118)]) (st' := []) (pc' := 291) [(.lstore 7, vi 0, 291)] (by decide +kernel) rfl rfl ?_
                          exact sm_leaf (fun h => j56 _ h)
                        · refine sm_gd (fun h115 => ?_)
                          refine sm_case (V g mX15_read d 287 [(0, vr (some a0)), (1, vr a1), (2, vi v101.1), (3, vi v12), (5, vi v26), (6, vi v44.2.2), (7, vl v101.2), (9, vi v86), (4, vi v111)] [] σ25 τ Q) (V g mX15_read d 281 [(0, vr (some a0)), (1, vr a1), (2, vi v101.1), (3, vi v12), (5, vi v26), (6, vi v44.2.2), (7, vl v101.2), (9, vi v86), (4, vi v111)] [] σ25 τ Q) ?_ ?_ (fun f122 p123 n124 => ?_)
                          · refine sm_b (l' := [(0, vr (some a0)), (1, vr a1), (2, vi v101.1), (3, vi v12), (5, vi v26), (6, vi v44.2.2), (7, vl v101.2), (9, vi v86), (4, vi v111)]) (st' := [vl v101.2]) (pc' := 289) [(.lload 7, vi 0, 289)] (by decide +kernel) rfl rfl ?_
                            refine sm_pick [0, 1, 2, 3, 8, 4, 5] (l' := [(0, vr (some a0)), (1, vr a1), (2, vi v101.1), (3, vi v12), (4, vi v111), (5, vi v26), (6, vi v44.2.2)]) rfl ?_
                            exact sm_leaf (fun h => j120 _ h)
                          · refine sm_b (l' := [(0, vr (some a0)), (1, vr a1), (2, vi v101.1), (3, vi v12), (5, vi v26), (6, vi v44.2.2), (7, vl v101.2), (9, vi v86), (4, vi v111)]) (st' := [vl (-v101.2)]) (pc' := 289) [(.lload 7, vi 0, 283), (.lneg, vi 0, 284), (.goto 5, vi 0, 289)] (by decide +kernel) rfl rfl ?_
                            refine sm_pick [0, 1, 2, 3, 8, 4, 5] (l' := [(0, vr (some a0)), (1, vr a1), (2, vi v101.1), (3, vi v12), (4, vi v111), (5, vi v26), (6, vi v44.2.2)]) rfl ?_
                            exact sm_leaf (fun h => j120 _ h)
                          refine sm_if_eq (off := 9) (tgt := 287) h115 (by decide +kernel) (fun c125 => ?_) (fun c125 => ?_)
                          · exact p123 c125
                          · exact n124 c125
                      · refine sm_gd (fun h105 => ?_)
                        refine sm_gd (fun h107 => ?_)
                        refine sm_gd (fun h108 => ?_)
                        refine sm_case (V g mX15_read d 273 [(0, vr (some a0)), (1, vr a1), (2, vi v101.1), (3, vi v12), (4, vi v44.2.1), (5, vi v26), (6, vi v44.2.2), (7, vl v101.2), (9, vi v86), (10, vi x100)] [] σ25 τ Q) (V g mX15_read d 269 [(0, vr (some a0)), (1, vr a1), (2, vi v101.1), (3, vi v12), (4, vi v44.2.1), (5, vi v26), (6, vi v44.2.2), (7, vl v101.2), (9, vi v86), (10, vi x100)] [] σ25 τ Q) ?_ ?_ (fun f126 p127 n128 => ?_)
                        · refine sm_b (l' := [(0, vr (some a0)), (1, vr a1), (2, vi v101.1), (3, vi v12), (4, vi v44.2.1), (5, vi v26), (6, vi v44.2.2), (7, vl v101.2), (9, vi v86), (10, vi x100)]) (st' := [vi 0]) (pc' := 274) [(.iconst 0, vi 0, 274)] (by decide +kernel) rfl rfl ?_
                          refine sm_pick [0, 1, 2, 3, 5, 6, 7, 8] (l' := [(0, vr (some a0)), (1, vr a1), (2, vi v101.1), (3, vi v12), (5, vi v26), (6, vi v44.2.2), (7, vl v101.2), (9, vi v86)]) rfl ?_
                          exact sm_leaf (fun h => j113 _ h)
                        · refine sm_b (l' := [(0, vr (some a0)), (1, vr a1), (2, vi v101.1), (3, vi v12), (4, vi v44.2.1), (5, vi v26), (6, vi v44.2.2), (7, vl v101.2), (9, vi v86), (10, vi x100)]) (st' := [vi 1]) (pc' := 274) [(.iconst 1, vi 1, 270), (.goto 4, vi 0, 274)] (by decide +kernel) rfl rfl ?_
                          refine sm_pick [0, 1, 2, 3, 5, 6, 7, 8] (l' := [(0, vr (some a0)), (1, vr a1), (2, vi v101.1), (3, vi v12), (5, vi v26), (6, vi v44.2.2), (7, vl v101.2), (9, vi v86)]) rfl ?_
                          exact sm_leaf (fun h => j113 _ h)
                        refine sm_if_eq (off := 13) (tgt := 273) h105 (by decide +kernel) (fun c129 => ?_) (fun c129 => ?_)
                        · exact p127 (Or.inl c129)
                        · have w106 : ¬ (v44.2.1 = 0) := c129
                          refine sm_b (l' := [(0, vr (some a0)), (1, vr a1), (2, vi v101.1), (3, vi v12), (4, vi v44.2.1), (5, vi v26), (6, vi v44.2.2), (7, vl v101.2), (9, vi v86), (10, vi x100)]) (st' := [vi x100, vi v101.1]) (pc' := 266) [(.iload_n 2, vi 0, 264), (.iload 10, vi 0, 266)] (by decide +kernel) rfl rfl ?_
                          refine sm_icmp_le (off := 7) (tgt := 273) (h107 w106) (h108 w106) (by decide +kernel) (fun c130 => ?_) (fun c130 => ?_)
                          · exact p127 (Or.inr c130)
                          · exact n128 (fun q => q.elim c129 c130)
                    · refine sm_pick [0, 1, 8, 2, 3, 4, 5, 6, 7, 9] (l' := [(0, vr (some a0)), (1, vr a1), (2, vi x100), (3, vi v12), (4, vi v44.2.1), (5, vi v26), (6, vi v44.2.2), (7, vl 0), (9, vi v86), (10, vi x100)]) rfl ?_
                      exact wh_read_L216_ok G d hd1 a0 a1 v12 v44.2.1 v26 v44.2.2 v86 x100 σ25  (fun _ h => j103 _ h) FU x100 0
                  · refine sm_gd (fun h90 => ?_)
                    refine sm_gd (fun h92 => ?_)
                    refine sm_gd (fun h93 => ?_)
                    refine sm_case (V g mX15_read d 210 [(0, vr (some a0)), (1, vr a1), (2, vi (v44.1 + 1)), (3, vi v12), (4, vi v44.2.1), (5, vi v26), (6, vi v44.2.2), (7, vl 0), (9, vi v86)] [vi (v44.1 + 1)] σ25 τ Q) (V g mX15_read d 206 [(0, vr (some a0)), (1, vr a1), (2, vi (v44.1 + 1)), (3, vi v12), (4, vi v44.2.1), (5, vi v26), (6, vi v44.2.2), (7, vl 0), (9, vi v86)] [vi (v44.1 + 1)] σ25 τ Q) ?_ ?_ (fun f147 p148 n149 => ?_)
                    · refine sm_b (l' := [(0, vr (some a0)), (1, vr a1), (2, vi (v44.1 + 1)), (3, vi v12), (4, vi v44.2.1), (5, vi v26), (6, vi v44.2.2), (7, vl 0), (9, vi v86)]) (st' := [vi 0, vi (v44.1 + 1)]) (pc' := 211) [(.iconst 0, vi 0, 211)] (by decide +kernel) rfl rfl ?_
                      refine sm_pick [0, 1, 3, 4, 5, 6, 7, 8] (l' := [(0, vr (some a0)), (1, vr a1), (3, vi v12), (4, vi v44.2.1), (5, vi v26), (6, vi v44.2.2), (7, vl 0), (9, vi v86)]) rfl ?_
                      exact sm_leaf (fun h => j98 _ h)
                    · refine sm_b (l' := [(0, vr (some a0)), (1, vr a1), (2, vi (v44.1 + 1)), (3, vi v12), (4, vi v44.2.1), (5, vi v26), (6, vi v44.2.2), (7, vl 0), (9, vi v86)]) (st' := [vi 1, vi (v44.1 + 1)]) (pc' := 211) [(.iconst 1, vi 1, 207), (.goto 4, vi 0, 211)] (by decide +kernel) rfl rfl ?_
                      refine sm_pick [0, 1, 3, 4, 5, 6, 7, 8] (l' := [(0, vr (some a0)), (1, vr a1), (3, vi v12), (4, vi v44.2.1), (5, vi v26), (6, vi v44.2.2), (7, vl 0), (9, vi v86)]) rfl ?_
                      exact sm_leaf (fun h => j98 _ h)
                    refine sm_if_ne (off := 13) (tgt := 206) h90 (by decide +kernel) (fun c150 => ?_) (fun c150 => ?_)
                    · exact n149 (fun q => c150 q.1)
                    · have w91 : v86 = 0 := c150
                      refine sm_b (l' := [(0, vr (some a0)), (1, vr a1), (2, vi (v44.1 + 1)), (3, vi v12), (4, vi v44.2.1), (5, vi v26), (6, vi v44.2.2), (7, vl 0), (9, vi v86)]) (st' := [vi (v44.1 + 1), vr a1, vi (v44.1 + 1)]) (pc' := 198) [(.aload_n 1, vi 0, 197), (.iload_n 2, vi 0, 198)] (by decide +kernel) rfl rfl ?_
                      refine sm_st [vi (v44.1 + 1), vr (some p5), vi (v44.1 + 1)] (by rw [h6] <;> rfl) ?_
                      refine sm_cvp (N := mX3_at) (d' := d - 1) (fun r => (some (vi r))) (some (vi (vv (row_at p5 (v44.1 + 1) σ25)))) (h92 w91) (fun y h => by rw [vv_some h]) [vi (v44.1 + 1)] [vi (v44.1 + 1)] rfl (by decide +kernel) q1339 q710 q711 (Or.inl ⟨rfl, q712⟩) (show okN yX3_at 1 = true by decide +kernel) (fun H hR => hR.rvR G.1 h40) rfl rfl (by omega) rfl (fun Q' => row_at_ok G (d - 1) (by omega) p5 (v44.1 + 1) σ25 Q') ?_
                      refine sm_b (l' := [(0, vr (some a0)), (1, vr a1), (2, vi (v44.1 + 1)), (3, vi v12), (4, vi v44.2.1), (5, vi v26), (6, vi v44.2.2), (7, vl 0), (9, vi v86)]) (st' := [vi 43, vi (vv (row_at p5 (v44.1 + 1) σ25)), vi (v44.1 + 1)]) (pc' := 203) [(.bipush 43, vi 43, 203)] (by decide +kernel) rfl rfl ?_
                      refine sm_icmp_ne (off := 7) (tgt := 210) (h93 w91) (by decide) (by decide +kernel) (fun c151 => ?_) (fun c151 => ?_)
                      · exact p148 ⟨c150, c151⟩
                      · exact n149 (fun q => (fun q => q c151) q.2)
                · refine sm_gd (fun h83 => ?_)
                  refine sm_case (V g mX15_read d 183 [(0, vr (some a0)), (1, vr a1), (2, vi (v44.1 + 1)), (3, vi v12), (4, vi v44.2.1), (5, vi v26), (6, vi v44.2.2), (7, vl 0)] [] σ25 τ Q) (V g mX15_read d 187 [(0, vr (some a0)), (1, vr a1), (2, vi (v44.1 + 1)), (3, vi v12), (4, vi v44.2.1), (5, vi v26), (6, vi v44.2.2), (7, vl 0)] [] σ25 τ Q) ?_ ?_ (fun f152 p153 n154 => ?_)
                  · refine sm_b (l' := [(0, vr (some a0)), (1, vr a1), (2, vi (v44.1 + 1)), (3, vi v12), (4, vi v44.2.1), (5, vi v26), (6, vi v44.2.2), (7, vl 0)]) (st' := [vi 1]) (pc' := 188) [(.iconst 1, vi 1, 184), (.goto 4, vi 0, 188)] (by decide +kernel) rfl rfl ?_
                    exact sm_leaf (fun h => j88 _ h)
                  · refine sm_b (l' := [(0, vr (some a0)), (1, vr a1), (2, vi (v44.1 + 1)), (3, vi v12), (4, vi v44.2.1), (5, vi v26), (6, vi v44.2.2), (7, vl 0)]) (st' := [vi 0]) (pc' := 188) [(.iconst 0, vi 0, 188)] (by decide +kernel) rfl rfl ?_
                    exact sm_leaf (fun h => j88 _ h)
                  refine sm_icmp_ne (off := 7) (tgt := 187) h83 (by decide) (by decide +kernel) (fun c155 => ?_) (fun c155 => ?_)
                  · exact n154 c155
                  · exact p153 c155
              · exact sm_leaf (fun h => j56 _ h)
              refine sm_icmp_eq (off := 13) (tgt := 170) h49 (by decide) (by decide +kernel) (fun c159 => ?_) (fun c159 => ?_)
              · exact p157 (Or.inl c159)
              · have w50 : ¬ (y48 = 101) := c159
                refine sm_b (l' := [(0, vr (some a0)), (1, vr a1), (2, vi v44.1), (3, vi v12), (4, vi v44.2.1), (5, vi v26), (6, vi v44.2.2), (7, vl 0)]) (st' := [vi v44.1, vr a1]) (pc' := 162) [(.aload_n 1, vi 0, 161), (.iload_n 2, vi 0, 162)] (by decide +kernel) rfl rfl ?_
                refine sm_st [vi v44.1, vr (some p5)] (by rw [h6] <;> rfl) ?_
                refine sm_cvp (N := mX3_at) (d' := d - 1) (fun r => (some (vi r))) (some (vi (vv (row_at p5 v44.1 σ25)))) (h51 w50) (fun y h => by rw [vv_some h]) [vi v44.1] [] rfl (by decide +kernel) q1339 q710 q711 (Or.inl ⟨rfl, q712⟩) (show okN yX3_at 1 = true by decide +kernel) (fun H hR => hR.rvR G.1 h40) rfl rfl (by omega) rfl (fun Q' => row_at_ok G (d - 1) (by omega) p5 v44.1 σ25 Q') ?_
                refine sm_b (l' := [(0, vr (some a0)), (1, vr a1), (2, vi v44.1), (3, vi v12), (4, vi v44.2.1), (5, vi v26), (6, vi v44.2.2), (7, vl 0)]) (st' := [vi 69, vi (vv (row_at p5 v44.1 σ25))]) (pc' := 167) [(.bipush 69, vi 69, 167)] (by decide +kernel) rfl rfl ?_
                refine sm_icmp_ne (off := 124) (tgt := 291) (h52 w50) (by decide) (by decide +kernel) (fun c160 => ?_) (fun c160 => ?_)
                · exact n158 (fun q => q.elim c159 c160)
                · exact p157 (Or.inr c160)
          · refine sm_gd (fun h42 => ?_)
            refine sm_case (V g mX15_read d 104 [(0, vr (some a0)), (1, vr a1), (2, vi v26), (3, vi v12), (4, vi v36), (5, vi v26), (6, vi v26)] [] σ25 τ Q) (V g mX15_read d 147 [(0, vr (some a0)), (1, vr a1), (2, vi v26), (3, vi v12), (4, vi v36), (5, vi v26), (6, vi v26)] [] σ25 τ Q) ?_ ?_ (fun f192 p193 n194 => ?_)
            · refine sm_b (l' := [(0, vr (some a0)), (1, vr a1), (2, vi (v26 + 1)), (3, vi v12), (4, vi v36), (5, vi v26), (6, vi v26)]) (st' := []) (pc' := 107) [(.iinc 2 1, vi 1, 107)] (by decide +kernel) rfl rfl ?_
              refine sm_bind1 (fun (v161 : Int) => V g mX15_read d 124 [(0, vr (some a0)), (1, vr a1), (2, vi v161), (3, vi v12), (4, vi v36), (5, vi v26)] [] σ25 τ Q) (fun v161 => ?_) (fun K162 j163 => ?_)
              · refine sm_b (l' := [(0, vr (some a0)), (1, vr a1), (2, vi v161), (3, vi v12), (4, vi v36), (5, vi v26)]) (st' := [vi v36]) (pc' := 126) [(.iload 4, vi 0, 126)] (by decide +kernel) rfl rfl ?_
                refine sm_bind1 (fun (v171 : Int) => V g mX15_read d 142 [(0, vr (some a0)), (1, vr a1), (2, vi v161), (3, vi v12), (5, vi v26)] [vi v171] σ25 τ Q) (fun v171 => ?_) (fun K172 j173 => ?_)
                · refine sm_b (l' := [(0, vr (some a0)), (1, vr a1), (2, vi v161), (3, vi v12), (5, vi v26), (4, vi v171), (6, vi v161)]) (st' := []) (pc' := 147) [(.istore 4, vi 0, 144), (.iload_n 2, vi 0, 145), (.istore 6, vi 0, 147)] (by decide +kernel) rfl rfl ?_
                  refine sm_pick [0, 1, 2, 3, 5, 4, 6] (l' := [(0, vr (some a0)), (1, vr a1), (2, vi v161), (3, vi v12), (4, vi v171), (5, vi v26), (6, vi v161)]) rfl ?_
                  exact sm_leaf (fun h => j46 _ h)
                · refine sm_gd (fun h165 => ?_)
                  refine sm_gd (fun h167 => ?_)
                  refine sm_gd (fun h168 => ?_)
                  refine sm_case (V g mX15_read d 141 [(0, vr (some a0)), (1, vr a1), (2, vi v161), (3, vi v12), (4, vi v36), (5, vi v26)] [] σ25 τ Q) (V g mX15_read d 137 [(0, vr (some a0)), (1, vr a1), (2, vi v161), (3, vi v12), (4, vi v36), (5, vi v26)] [] σ25 τ Q) ?_ ?_ (fun f175 p176 n177 => ?_)
                  · refine sm_b (l' := [(0, vr (some a0)), (1, vr a1), (2, vi v161), (3, vi v12), (4, vi v36), (5, vi v26)]) (st' := [vi 0]) (pc' := 142) [(.iconst 0, vi 0, 142)] (by decide +kernel) rfl rfl ?_
                    refine sm_pick [0, 1, 2, 3, 5] (l' := [(0, vr (some a0)), (1, vr a1), (2, vi v161), (3, vi v12), (5, vi v26)]) rfl ?_
                    exact sm_leaf (fun h => j173 _ h)
                  · refine sm_b (l' := [(0, vr (some a0)), (1, vr a1), (2, vi v161), (3, vi v12), (4, vi v36), (5, vi v26)]) (st' := [vi 1]) (pc' := 142) [(.iconst 1, vi 1, 138), (.goto 4, vi 0, 142)] (by decide +kernel) rfl rfl ?_
                    refine sm_pick [0, 1, 2, 3, 5] (l' := [(0, vr (some a0)), (1, vr a1), (2, vi v161), (3, vi v12), (5, vi v26)]) rfl ?_
                    exact sm_leaf (fun h => j173 _ h)
                  refine sm_if_eq (off := 15) (tgt := 141) h165 (by decide +kernel) (fun c178 => ?_) (fun c178 => ?_)
                  · exact p176 (Or.inl c178)
                  · have w166 : ¬ (v36 = 0) := c178
                    refine sm_b (l' := [(0, vr (some a0)), (1, vr a1), (2, vi v161), (3, vi v12), (4, vi v36), (5, vi v26)]) (st' := [vi (v26 + 1), vi v161]) (pc' := 134) [(.iload_n 2, vi 0, 130), (.iload 5, vi 0, 132), (.iconst 1, vi 1, 133), (.iadd, vi 0, 134)] (by decide +kernel) rfl rfl ?_
                    refine sm_icmp_le (off := 7) (tgt := 141) (h167 w166) (h168 w166) (by decide +kernel) (fun c179 => ?_) (fun c179 => ?_)
                    · exact p176 (Or.inr c179)
                    · exact n177 (fun q => q.elim c178 c179)
              · refine sm_pick [0, 1, 2, 3, 4, 5] (l' := [(0, vr (some a0)), (1, vr a1), (2, vi (v26 + 1)), (3, vi v12), (4, vi v36), (5, vi v26)]) rfl ?_
                exact wh_read_L107_ok G d hd1 a0 a1 v12 v36 v26 σ25  (fun _ h => j163 _ h) FU (v26 + 1)
            · exact sm_leaf (fun h => j46 _ h)
            refine sm_icmp_ne (off := 46) (tgt := 147) h42 (by decide) (by decide +kernel) (fun c195 => ?_) (fun c195 => ?_)
            · exact n194 c195
            · exact p193 c195
        · refine sm_gd (fun h30 => ?_)
          refine sm_gd (fun h31 => ?_)
          refine sm_case (V g mX15_read d 85 [(0, vr (some a0)), (1, vr a1), (2, vi v26), (3, vi v12)] [] σ25 τ Q) (V g mX15_read d 64 [(0, vr (some a0)), (1, vr a1), (2, vi v26), (3, vi v12)] [] σ25 τ Q) ?_ ?_ (fun f207 p208 n209 => ?_)
          · refine sm_b (l' := [(0, vr (some a0)), (1, vr a1), (2, vi v26), (3, vi v12)]) (st' := [vi 0]) (pc' := 86) [(.iconst 0, vi 0, 86)] (by decide +kernel) rfl rfl ?_
            exact sm_leaf (fun h => j38 _ h)
          · refine sm_b (l' := [(0, vr (some a0)), (1, vr a1), (2, vi v26), (3, vi v12)]) (st' := [vi v12, vr a1]) (pc' := 66) [(.aload_n 1, vi 0, 65), (.iload_n 3, vi 0, 66)] (by decide +kernel) rfl rfl ?_
            refine sm_st [vi v12, vr (some p5)] (by rw [h6] <;> rfl) ?_
            refine sm_gd (fun h196 => ?_)
            refine sm_cv (N := mX3_at) (d' := d - 1) (fun r => (some (vi r))) (fun _ => σ25) (fun _ => τ) [vi v12] [] rfl (by decide +kernel) q1339 q710 q711 (Or.inl ⟨rfl, q712⟩) (show okN yX3_at 1 = true by decide +kernel) (fun H hR => hR.rvR G.1 h196) rfl rfl (by omega) rfl (fun Q' => row_at_ok G (d - 1) (by omega) p5 v12 σ25 Q') (fun y197 => ?_)
            refine sm_b (l' := [(0, vr (some a0)), (1, vr a1), (2, vi v26), (3, vi v12)]) (st' := [vi 48, vi y197]) (pc' := 71) [(.bipush 48, vi 48, 71)] (by decide +kernel) rfl rfl ?_
            refine sm_gd (fun h198 => ?_)
            refine sm_gd (fun h200 => ?_)
            refine sm_case (V g mX15_read d 85 [(0, vr (some a0)), (1, vr a1), (2, vi v26), (3, vi v12)] [] σ25 τ Q) (V g mX15_read d 81 [(0, vr (some a0)), (1, vr a1), (2, vi v26), (3, vi v12)] [] σ25 τ Q) ?_ ?_ (fun f202 p203 n204 => ?_)
            · refine sm_b (l' := [(0, vr (some a0)), (1, vr a1), (2, vi v26), (3, vi v12)]) (st' := [vi 0]) (pc' := 86) [(.iconst 0, vi 0, 86)] (by decide +kernel) rfl rfl ?_
              exact sm_leaf (fun h => j38 _ h)
            · refine sm_b (l' := [(0, vr (some a0)), (1, vr a1), (2, vi v26), (3, vi v12)]) (st' := [vi 1]) (pc' := 86) [(.iconst 1, vi 1, 82), (.goto 4, vi 0, 86)] (by decide +kernel) rfl rfl ?_
              exact sm_leaf (fun h => j38 _ h)
            refine sm_icmp_ne (off := 10) (tgt := 81) h198 (by decide) (by decide +kernel) (fun c205 => ?_) (fun c205 => ?_)
            · exact n204 (fun q => c205 q.1)
            · have w199 : y197 = 48 := c205
              refine sm_b (l' := [(0, vr (some a0)), (1, vr a1), (2, vi v26), (3, vi v12)]) (st' := [vi (v12 + 1), vi v26]) (pc' := 78) [(.iload_n 2, vi 0, 75), (.iload_n 3, vi 0, 76), (.iconst 1, vi 1, 77), (.iadd, vi 0, 78)] (by decide +kernel) rfl rfl ?_
              refine sm_icmp_ne (off := 7) (tgt := 85) h30 (h200 w199) (by decide +kernel) (fun c206 => ?_) (fun c206 => ?_)
              · exact p203 ⟨c205, c206⟩
              · exact n204 (fun q => (fun q => q c206) q.2)
          refine sm_icmp_le (off := 24) (tgt := 85) h30 h31 (by decide +kernel) (fun c210 => ?_) (fun c210 => ?_)
          · exact p208 c210
          · exact n209 c210
      · exact wh_read_L42_ok G d hd1 a0 a1 v12 σ25  (fun _ h => j28 _ h) FU v12
    · refine sm_gd (fun h16 => ?_)
      refine sm_case (V g mX15_read d 32 [(0, vr (some a0)), (1, vr a1), (2, vi v12)] [vr (some a0)] σ4 τ Q) (V g mX15_read d 36 [(0, vr (some a0)), (1, vr a1), (2, vi v12)] [vr (some a0)] σ4 τ Q) ?_ ?_ (fun f223 p224 n225 => ?_)
      · refine sm_b (l' := [(0, vr (some a0)), (1, vr a1), (2, vi v12)]) (st' := [vi 1, vr (some a0)]) (pc' := 37) [(.iconst 1, vi 1, 33), (.goto 4, vi 0, 37)] (by decide +kernel) rfl rfl ?_
        exact sm_leaf (fun h => j21 _ h)
      · refine sm_b (l' := [(0, vr (some a0)), (1, vr a1), (2, vi v12)]) (st' := [vi 0, vr (some a0)]) (pc' := 37) [(.iconst 0, vi 0, 37)] (by decide +kernel) rfl rfl ?_
        exact sm_leaf (fun h => j21 _ h)
      refine sm_icmp_ne (off := 7) (tgt := 36) h16 (by decide) (by decide +kernel) (fun c226 => ?_) (fun c226 => ?_)
      · exact n225 c226
      · exact p224 c226
  · refine sm_gd (fun h9 => ?_)
    refine sm_case (V g mX15_read d 20 [(0, vr (some a0)), (1, vr a1)] [] σ4 τ Q) (V g mX15_read d 24 [(0, vr (some a0)), (1, vr a1)] [] σ4 τ Q) ?_ ?_ (fun f227 p228 n229 => ?_)
    · refine sm_b (l' := [(0, vr (some a0)), (1, vr a1)]) (st' := [vi 1]) (pc' := 25) [(.iconst 1, vi 1, 21), (.goto 4, vi 0, 25)] (by decide +kernel) rfl rfl ?_
      exact sm_leaf (fun h => j14 _ h)
    · refine sm_b (l' := [(0, vr (some a0)), (1, vr a1)]) (st' := [vi 0]) (pc' := 25) [(.iconst 0, vi 0, 25)] (by decide +kernel) rfl rfl ?_
      exact sm_leaf (fun h => j14 _ h)
    refine sm_icmp_ne (off := 7) (tgt := 24) h9 (by decide) (by decide +kernel) (fun c230 => ?_) (fun c230 => ?_)
    · exact n229 c230
    · exact p228 c230
def wh_fits (a0 : Nat) (a1 : Int) (σ : ST) : Option (Int) := Option.bind (gd (rg a1) (if ((a1 = 0) ∨ (a1 = 4)) ∨ (a1 = 32) then (some 1) else (some 0))) fun (v6 : Int) => gd (rg v6) (if v6 = 0 then (gd (rg a1) (if (a1 = 2) ∨ (a1 = 6) then (gd (sc σ a0 = 15) (gd (rg (sI σ 225 a0)) (gd ((sI σ 225 a0) = 0 → ok (jl_compareUnsigned (sJ σ 226 a0) 4294967295)) (gd ((sI σ 225 a0) = 0 → rg (vv (jl_compareUnsigned (sJ σ 226 a0) 4294967295))) (if ((sI σ 225 a0) = 0) ∧ (¬ (0 < (vv (jl_compareUnsigned (sJ σ 226 a0) 4294967295)))) then (some 1) else (some 0)))))) else (if (a1 = 1) ∨ (a1 = 5) then (gd (sc σ a0 = 15) (Option.bind (gd (rg (sI σ 225 a0)) (if (sI σ 225 a0) = 0 then (some 9223372036854775807) else (some (((-9223372036854775808)))))) fun (v45 : Int64) => Option.bind (jl_compareUnsigned (sJ σ 226 a0) v45) fun y49 => gd (rg y49) (if 0 < y49 then (some 0) else (some 1)))) else (gd (sc σ a0 = 15) (gd (rg (sI σ 225 a0)) (if (sI σ 225 a0) = 0 then (some 1) else (some 0))))))) else (gd (sc σ a0 = 15) (Option.bind (gd (rg (sI σ 225 a0)) (if (sI σ 225 a0) = 0 then (some 2147483647) else (some 2147483648))) fun (v83 : Int64) => Option.bind (jl_compareUnsigned (sJ σ 226 a0) v83) fun y87 => gd (rg y87) (if 0 < y87 then (some 0) else (some 1)))))
set_option maxHeartbeats 4000000 in
theorem wh_fits_ok {g : GE} (G : GG g) {τ : TT} (d : Nat) (hd1 : 2 ≤ d) (a0 : Nat) (a1 : Int)  (σ : ST) (Q : VQ) : Sm (V g mX15_fits d 0 [(0, vr (some a0)), (1, vi a1)] [] σ τ Q) (wh_fits a0 a1 σ) (fun r => Q.1 (some (vi r)) σ τ) := by
  unfold wh_fits
  refine sm_top (fun K hRET => ?_)
  refine sm_b (l' := [(0, vr (some a0)), (1, vi a1)]) (st' := [vi a1]) (pc' := 1) [(.iload_n 1, vi 0, 1)] (by decide +kernel) rfl rfl ?_
  refine sm_bind1 (fun (v6 : Int) => V g mX15_fits d 20 [(0, vr (some a0)), (1, vi a1)] [vi v6] σ τ Q) (fun v6 => ?_) (fun K7 j8 => ?_)
  · refine sm_b (l' := [(0, vr (some a0)), (1, vi a1), (2, vi v6)]) (st' := [vi v6]) (pc' := 22) [(.istore_n 2, vi 0, 21), (.iload_n 2, vi 0, 22)] (by decide +kernel) rfl rfl ?_
    refine sm_gd (fun h10 => ?_)
    refine sm_case (V g mX15_fits d 57 [(0, vr (some a0)), (1, vi a1), (2, vi v6)] [] σ τ Q) (V g mX15_fits d 25 [(0, vr (some a0)), (1, vi a1), (2, vi v6)] [] σ τ Q) ?_ ?_ (fun f99 p100 n101 => ?_)
    · refine sm_b (l' := [(0, vr (some a0)), (1, vi a1), (2, vi v6)]) (st' := [vi 2, vi a1]) (pc' := 59) [(.iload_n 1, vi 0, 58), (.iconst 2, vi 2, 59)] (by decide +kernel) rfl rfl ?_
      refine sm_gd (fun h16 => ?_)
      refine sm_case (V g mX15_fits d 68 [(0, vr (some a0)), (1, vi a1), (2, vi v6)] [] σ τ Q) (V g mX15_fits d 94 [(0, vr (some a0)), (1, vi a1), (2, vi v6)] [] σ τ Q) ?_ ?_ (fun f74 p75 n76 => ?_)
      · refine sm_b (l' := [(0, vr (some a0)), (1, vi a1), (2, vi v6)]) (st' := [vr (some a0)]) (pc' := 69) [(.aload_n 0, vi 0, 69)] (by decide +kernel) rfl rfl ?_
        refine sm_gd (fun h22 => ?_)
        refine sm_g (k := 1) (x := vi (sI σ 225 a0)) cd14 rfl h22 rfl q1189 rfl (by decide +kernel) ?_
        refine sm_gd (fun h23 => ?_)
        refine sm_gd (fun h25 => ?_)
        refine sm_gd (fun h26 => ?_)
        refine sm_case (V g mX15_fits d 88 [(0, vr (some a0)), (1, vi a1), (2, vi v6)] [] σ τ Q) (V g mX15_fits d 92 [(0, vr (some a0)), (1, vi a1), (2, vi v6)] [] σ τ Q) ?_ ?_ (fun f29 p30 n31 => ?_)
        · refine sm_b (l' := [(0, vr (some a0)), (1, vi a1), (2, vi v6)]) (st' := [vi 1]) (pc' := 93) [(.iconst 1, vi 1, 89), (.goto 4, vi 0, 93)] (by decide +kernel) rfl rfl ?_
          exact sm_zret rfl (by decide +kernel) (by decide) (fun h => hRET _ h)
        · refine sm_b (l' := [(0, vr (some a0)), (1, vi a1), (2, vi v6)]) (st' := [vi 0]) (pc' := 93) [(.iconst 0, vi 0, 93)] (by decide +kernel) rfl rfl ?_
          exact sm_zret rfl (by decide +kernel) (by decide) (fun h => hRET _ h)
        refine sm_if_ne (off := 20) (tgt := 92) h23 (by decide +kernel) (fun c32 => ?_) (fun c32 => ?_)
        · exact n31 (fun q => c32 q.1)
        · have w24 : (sI σ 225 a0) = 0 := c32
          refine sm_b (l' := [(0, vr (some a0)), (1, vi a1), (2, vi v6)]) (st' := [vr (some a0)]) (pc' := 76) [(.aload_n 0, vi 0, 76)] (by decide +kernel) rfl rfl ?_
          refine sm_g (k := 2) (x := vl (sJ σ 226 a0)) cd14 rfl h22 rfl q1191 rfl (by decide +kernel) ?_
          refine sm_ldc2 (by decide +kernel) q1365 ?_
          refine sm_csp (N := mJ15_compareUnsigned) (d' := d - 1) (fun r => (some (vi r))) (some (vi (vv (jl_compareUnsigned (sJ σ 226 a0) 4294967295)))) (h25 w24) (fun y h => by rw [vv_some h]) [vl (sJ σ 226 a0), vl 4294967295] [] rfl (by decide +kernel) q1358 q1153 q161 (Or.inl ⟨rfl, q1154⟩) (show okN yJ15_compareUnsigned 2 = true by decide +kernel) rfl rfl (by omega) rfl (fun Q' => jl_compareUnsigned_ok G (d - 1) (by omega) (sJ σ 226 a0) 4294967295 τ Q') ?_
          refine sm_if_gt (off := 7) (tgt := 92) (h26 w24) (by decide +kernel) (fun c33 => ?_) (fun c33 => ?_)
          · exact n31 (fun q => (fun q => q c33) q.2)
          · exact p30 ⟨c32, c33⟩
      · refine sm_b (l' := [(0, vr (some a0)), (1, vi a1), (2, vi v6)]) (st' := [vi 1, vi a1]) (pc' := 96) [(.iload_n 1, vi 0, 95), (.iconst 1, vi 1, 96)] (by decide +kernel) rfl rfl ?_
        refine sm_case (V g mX15_fits d 104 [(0, vr (some a0)), (1, vi a1), (2, vi v6)] [] σ τ Q) (V g mX15_fits d 136 [(0, vr (some a0)), (1, vi a1), (2, vi v6)] [] σ τ Q) ?_ ?_ (fun f69 p70 n71 => ?_)
        · refine sm_b (l' := [(0, vr (some a0)), (1, vi a1), (2, vi v6)]) (st' := [vr (some a0)]) (pc' := 105) [(.aload_n 0, vi 0, 105)] (by decide +kernel) rfl rfl ?_
          refine sm_gd (fun h41 => ?_)
          refine sm_g (k := 2) (x := vl (sJ σ 226 a0)) cd14 rfl h41 rfl q1191 rfl (by decide +kernel) ?_
          refine sm_b (l' := [(0, vr (some a0)), (1, vi a1), (2, vi v6)]) (st' := [vr (some a0), vl (sJ σ 226 a0)]) (pc' := 109) [(.aload_n 0, vi 0, 109)] (by decide +kernel) rfl rfl ?_
          refine sm_g (k := 1) (x := vi (sI σ 225 a0)) cd14 rfl h41 rfl q1189 rfl (by decide +kernel) ?_
          refine sm_bind1 (fun (v45 : Int64) => V g mX15_fits d 124 [] [vl v45, vl (sJ σ 226 a0)] σ τ Q) (fun v45 => ?_) (fun K46 j47 => ?_)
          · refine sm_cs (N := mJ15_compareUnsigned) (d' := d - 1) (fun r => (some (vi r))) (fun _ => σ) (fun _ => τ) [vl (sJ σ 226 a0), vl v45] [] rfl (by decide +kernel) q1358 q1153 q161 (Or.inl ⟨rfl, q1154⟩) (show okN yJ15_compareUnsigned 2 = true by decide +kernel) rfl rfl (by omega) rfl (fun Q' => jl_compareUnsigned_ok G (d - 1) (by omega) (sJ σ 226 a0) v45 τ Q') (fun y49 => ?_)
            refine sm_gd (fun h50 => ?_)
            refine sm_case (V g mX15_fits d 134 [] [] σ τ Q) (V g mX15_fits d 130 [] [] σ τ Q) ?_ ?_ (fun f53 p54 n55 => ?_)
            · refine sm_b (l' := []) (st' := [vi 0]) (pc' := 135) [(.iconst 0, vi 0, 135)] (by decide +kernel) rfl rfl ?_
              exact sm_zret rfl (by decide +kernel) (by decide) (fun h => hRET _ h)
            · refine sm_b (l' := []) (st' := [vi 1]) (pc' := 135) [(.iconst 1, vi 1, 131), (.goto 4, vi 0, 135)] (by decide +kernel) rfl rfl ?_
              exact sm_zret rfl (by decide +kernel) (by decide) (fun h => hRET _ h)
            refine sm_if_gt (off := 7) (tgt := 134) h50 (by decide +kernel) (fun c56 => ?_) (fun c56 => ?_)
            · exact p54 c56
            · exact n55 c56
          · refine sm_gd (fun h42 => ?_)
            refine sm_case (V g mX15_fits d 121 [(0, vr (some a0)), (1, vi a1), (2, vi v6)] [vl (sJ σ 226 a0)] σ τ Q) (V g mX15_fits d 115 [(0, vr (some a0)), (1, vi a1), (2, vi v6)] [vl (sJ σ 226 a0)] σ τ Q) ?_ ?_ (fun f57 p58 n59 => ?_)
            · refine sm_ldc2 (by decide +kernel) q1367 ?_
              refine sm_pick [] (l' := []) rfl ?_
              exact sm_leaf (fun h => j47 _ h)
            · refine sm_ldc2 (by decide +kernel) q1366 ?_
              refine sm_b (l' := [(0, vr (some a0)), (1, vi a1), (2, vi v6)]) (st' := [vl ((-9223372036854775808)), vl (sJ σ 226 a0)]) (pc' := 124) [(.goto 6, vi 0, 124)] (by decide +kernel) rfl rfl ?_
              refine sm_pick [] (l' := []) rfl ?_
              exact sm_leaf (fun h => j47 _ h)
            refine sm_if_eq (off := 9) (tgt := 121) h42 (by decide +kernel) (fun c60 => ?_) (fun c60 => ?_)
            · exact p58 c60
            · exact n59 c60
        · refine sm_b (l' := [(0, vr (some a0)), (1, vi a1), (2, vi v6)]) (st' := [vr (some a0)]) (pc' := 137) [(.aload_n 0, vi 0, 137)] (by decide +kernel) rfl rfl ?_
          refine sm_gd (fun h61 => ?_)
          refine sm_g (k := 1) (x := vi (sI σ 225 a0)) cd14 rfl h61 rfl q1189 rfl (by decide +kernel) ?_
          refine sm_gd (fun h62 => ?_)
          refine sm_case (V g mX15_fits d 143 [(0, vr (some a0)), (1, vi a1), (2, vi v6)] [] σ τ Q) (V g mX15_fits d 147 [(0, vr (some a0)), (1, vi a1), (2, vi v6)] [] σ τ Q) ?_ ?_ (fun f65 p66 n67 => ?_)
          · refine sm_b (l' := [(0, vr (some a0)), (1, vi a1), (2, vi v6)]) (st' := [vi 1]) (pc' := 148) [(.iconst 1, vi 1, 144), (.goto 4, vi 0, 148)] (by decide +kernel) rfl rfl ?_
            exact sm_zret rfl (by decide +kernel) (by decide) (fun h => hRET _ h)
          · refine sm_b (l' := [(0, vr (some a0)), (1, vi a1), (2, vi v6)]) (st' := [vi 0]) (pc' := 148) [(.iconst 0, vi 0, 148)] (by decide +kernel) rfl rfl ?_
            exact sm_zret rfl (by decide +kernel) (by decide) (fun h => hRET _ h)
          refine sm_if_ne (off := 7) (tgt := 147) h62 (by decide +kernel) (fun c68 => ?_) (fun c68 => ?_)
          · exact n67 c68
          · exact p66 c68
        refine sm_icmp_eq (off := 8) (tgt := 104) h16 (by decide) (by decide +kernel) (fun c72 => ?_) (fun c72 => ?_)
        · exact p70 (Or.inl c72)
        · refine sm_b (l' := [(0, vr (some a0)), (1, vi a1), (2, vi v6)]) (st' := [vi 5, vi a1]) (pc' := 101) [(.iload_n 1, vi 0, 100), (.iconst 5, vi 5, 101)] (by decide +kernel) rfl rfl ?_
          refine sm_icmp_ne (off := 35) (tgt := 136) h16 (by decide) (by decide +kernel) (fun c73 => ?_) (fun c73 => ?_)
          · exact n71 (fun q => q.elim c72 c73)
          · exact p70 (Or.inr c73)
      refine sm_icmp_eq (off := 9) (tgt := 68) h16 (by decide) (by decide +kernel) (fun c77 => ?_) (fun c77 => ?_)
      · exact p75 (Or.inl c77)
      · refine sm_b (l' := [(0, vr (some a0)), (1, vi a1), (2, vi v6)]) (st' := [vi 6, vi a1]) (pc' := 65) [(.iload_n 1, vi 0, 63), (.bipush 6, vi 6, 65)] (by decide +kernel) rfl rfl ?_
        refine sm_icmp_ne (off := 29) (tgt := 94) h16 (by decide) (by decide +kernel) (fun c78 => ?_) (fun c78 => ?_)
        · exact n76 (fun q => q.elim c77 c78)
        · exact p75 (Or.inr c78)
    · refine sm_b (l' := [(0, vr (some a0)), (1, vi a1), (2, vi v6)]) (st' := [vr (some a0)]) (pc' := 26) [(.aload_n 0, vi 0, 26)] (by decide +kernel) rfl rfl ?_
      refine sm_gd (fun h79 => ?_)
      refine sm_g (k := 2) (x := vl (sJ σ 226 a0)) cd14 rfl h79 rfl q1191 rfl (by decide +kernel) ?_
      refine sm_b (l' := [(0, vr (some a0)), (1, vi a1), (2, vi v6)]) (st' := [vr (some a0), vl (sJ σ 226 a0)]) (pc' := 30) [(.aload_n 0, vi 0, 30)] (by decide +kernel) rfl rfl ?_
      refine sm_g (k := 1) (x := vi (sI σ 225 a0)) cd14 rfl h79 rfl q1189 rfl (by decide +kernel) ?_
      refine sm_bind1 (fun (v83 : Int64) => V g mX15_fits d 45 [] [vl v83, vl (sJ σ 226 a0)] σ τ Q) (fun v83 => ?_) (fun K84 j85 => ?_)
      · refine sm_cs (N := mJ15_compareUnsigned) (d' := d - 1) (fun r => (some (vi r))) (fun _ => σ) (fun _ => τ) [vl (sJ σ 226 a0), vl v83] [] rfl (by decide +kernel) q1358 q1153 q161 (Or.inl ⟨rfl, q1154⟩) (show okN yJ15_compareUnsigned 2 = true by decide +kernel) rfl rfl (by omega) rfl (fun Q' => jl_compareUnsigned_ok G (d - 1) (by omega) (sJ σ 226 a0) v83 τ Q') (fun y87 => ?_)
        refine sm_gd (fun h88 => ?_)
        refine sm_case (V g mX15_fits d 55 [] [] σ τ Q) (V g mX15_fits d 51 [] [] σ τ Q) ?_ ?_ (fun f91 p92 n93 => ?_)
        · refine sm_b (l' := []) (st' := [vi 0]) (pc' := 56) [(.iconst 0, vi 0, 56)] (by decide +kernel) rfl rfl ?_
          exact sm_zret rfl (by decide +kernel) (by decide) (fun h => hRET _ h)
        · refine sm_b (l' := []) (st' := [vi 1]) (pc' := 56) [(.iconst 1, vi 1, 52), (.goto 4, vi 0, 56)] (by decide +kernel) rfl rfl ?_
          exact sm_zret rfl (by decide +kernel) (by decide) (fun h => hRET _ h)
        refine sm_if_gt (off := 7) (tgt := 55) h88 (by decide +kernel) (fun c94 => ?_) (fun c94 => ?_)
        · exact p92 c94
        · exact n93 c94
      · refine sm_gd (fun h80 => ?_)
        refine sm_case (V g mX15_fits d 42 [(0, vr (some a0)), (1, vi a1), (2, vi v6)] [vl (sJ σ 226 a0)] σ τ Q) (V g mX15_fits d 36 [(0, vr (some a0)), (1, vi a1), (2, vi v6)] [vl (sJ σ 226 a0)] σ τ Q) ?_ ?_ (fun f95 p96 n97 => ?_)
        · refine sm_ldc2 (by decide +kernel) q1364 ?_
          refine sm_pick [] (l' := []) rfl ?_
          exact sm_leaf (fun h => j85 _ h)
        · refine sm_ldc2 (by decide +kernel) q1363 ?_
          refine sm_b (l' := [(0, vr (some a0)), (1, vi a1), (2, vi v6)]) (st' := [vl 2147483648, vl (sJ σ 226 a0)]) (pc' := 45) [(.goto 6, vi 0, 45)] (by decide +kernel) rfl rfl ?_
          refine sm_pick [] (l' := []) rfl ?_
          exact sm_leaf (fun h => j85 _ h)
        refine sm_if_eq (off := 9) (tgt := 42) h80 (by decide +kernel) (fun c98 => ?_) (fun c98 => ?_)
        · exact p96 c98
        · exact n97 c98
    refine sm_if_eq (off := 35) (tgt := 57) h10 (by decide +kernel) (fun c102 => ?_) (fun c102 => ?_)
    · exact p100 c102
    · exact n101 c102
  · refine sm_gd (fun h1 => ?_)
    refine sm_case (V g mX15_fits d 15 [(0, vr (some a0)), (1, vi a1)] [] σ τ Q) (V g mX15_fits d 19 [(0, vr (some a0)), (1, vi a1)] [] σ τ Q) ?_ ?_ (fun f103 p104 n105 => ?_)
    · refine sm_b (l' := [(0, vr (some a0)), (1, vi a1)]) (st' := [vi 1]) (pc' := 20) [(.iconst 1, vi 1, 16), (.goto 4, vi 0, 20)] (by decide +kernel) rfl rfl ?_
      exact sm_leaf (fun h => j8 _ h)
    · refine sm_b (l' := [(0, vr (some a0)), (1, vi a1)]) (st' := [vi 0]) (pc' := 20) [(.iconst 0, vi 0, 20)] (by decide +kernel) rfl rfl ?_
      exact sm_leaf (fun h => j8 _ h)
    refine sm_if_eq (off := 14) (tgt := 15) h1 (by decide +kernel) (fun c106 => ?_) (fun c106 => ?_)
    · exact p104 (Or.inl (Or.inl c106))
    · refine sm_b (l' := [(0, vr (some a0)), (1, vi a1)]) (st' := [vi 4, vi a1]) (pc' := 6) [(.iload_n 1, vi 0, 5), (.iconst 4, vi 4, 6)] (by decide +kernel) rfl rfl ?_
      refine sm_icmp_eq (off := 9) (tgt := 15) h1 (by decide) (by decide +kernel) (fun c107 => ?_) (fun c107 => ?_)
      · exact p104 (Or.inl (Or.inr c107))
      · refine sm_b (l' := [(0, vr (some a0)), (1, vi a1)]) (st' := [vi 32, vi a1]) (pc' := 12) [(.iload_n 1, vi 0, 10), (.bipush 32, vi 32, 12)] (by decide +kernel) rfl rfl ?_
        refine sm_icmp_ne (off := 7) (tgt := 19) h1 (by decide) (by decide +kernel) (fun c108 => ?_) (fun c108 => ?_)
        · exact n105 (fun q => q.elim (fun q => q.elim c106 c107) c108)
        · exact p104 (Or.inr c108)
