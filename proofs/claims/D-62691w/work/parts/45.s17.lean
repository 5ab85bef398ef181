set_option maxRecDepth 100000
/-! the system: X14_object, X14_read, X17_varint, X17_number, X17_tag, X17_part, X17_slot, X17_write, X0_wire -/
def jr_object_L29 (bb : Nat × Nat) (rec : Option Nat → Option Nat → Int → ST → Option (Option (Option Nat) × ST)) (u0 : Option Nat) (u2 : Int) (u3 : Nat) : Nat → Int64 → ST → Option ((Option (Option Nat) × ST) ⊕ (ST))
  | 0, _, _ => none
  | n + 1, w4, σ => Option.bind u0 fun p23 => gd (sc σ p23 = 14) (Option.bind (jr_field bb rec p23 (some u3) w4 u2 σ) (tB (fun z => Sum.inl ((none, z))) fun y27 σ28 => gd (sc σ28 p23 = 14) (Option.bind (jr_passes bb p23 44 σ28) fun y30 => gd (rg y30.1) (if y30.1 = 0 then (some (Sum.inr y30.2)) else (jr_object_L29 bb rec u0 u2 u3 n y27 y30.2)))))
def jr_objectb (bb : Nat × Nat) (rec : Option Nat → Option Nat → Int → ST → Option (Option (Option Nat) × ST)) (a1 : Option Nat) (a2 : Option Nat) (a3 : Int) (σ : ST) : Option (Option (Option Nat) × ST) := gd (rm bb σ 4) (nm (nO σ 11 4) fun σ2 => Option.bind (vlu_init bb (sZ σ) a2 σ2) fun y3 => Option.bind a1 fun p4 => gd (sc y3 p4 = 14) (Option.bind (jr_sign bb p4 123 y3) (tB (fun z => (none, z)) fun y8 σ9 => gd (sc σ9 p4 = 14) (Option.bind (jr_passes bb p4 125 σ9) fun y11 => gd (rg y11.1) (if y11.1 = 0 then (Option.bind (jr_object_L29 bb rec a1 a3 (sZ σ) FU 0 y11.2) (Sum.elim some fun (v14 : ST) => gd (sc v14 p4 = 14) (Option.bind (jr_sign bb p4 125 v14) (tB (fun z => (none, z)) fun y20 σ21 => some ((some (some (sZ σ)), σ21)))))) else (some ((some (some (sZ σ)), y11.2))))))))
set_option maxHeartbeats 4000000 in
theorem jr_object_L29_ok {g : GE} (G : GG g) {D : Nat} (rec : Option Nat → Option Nat → Int → ST → Option (Option (Option Nat) × ST)) (hrec : ∀ (d : Nat), D ≤ d → ∀ {τ : TT} (a1 : Option Nat) (a2 : Option Nat) (a3 : Int) (σ : ST) (Q' : VQ), Sm (V g mX14_object d 0 [(0, vr a1), (1, vr a2), (2, vi a3)] [] σ τ Q') (rec a1 a2 a3 σ) (fun r => tQ Q' τ (fun r : Option Nat => some (vr r)) r)) {τ : TT} {Q : VQ} (d : Nat) (hd1 : D + 4 ≤ d) (hd2 : 14 ≤ d) (u0 : Option Nat) (u2 : Int) (u3 : Nat)  {K : (Option (Option Nat) × ST) ⊕ (ST) → Prop} (hRET : ∀ r : Option (Option Nat) × ST, K (Sum.inl r) → tQ Q τ (fun r : Option Nat => some (vr r)) r) (hE48 : ∀ v22 : ST, K (Sum.inr v22) → V g mX14_object d 48 [(0, vr u0), (3, vr (some u3))] [] v22 τ Q) : ∀ (n : Nat) (w4 : Int64) (σ : ST), Sm (V g mX14_object d 29 [(0, vr u0), (2, vi u2), (3, vr (some u3)), (4, vl w4)] [] σ τ Q) (jr_object_L29 (gRm g) rec u0 u2 u3 n w4 σ) K := by
  intro n
  induction n with
  | zero => intro w4 σ; exact sm_none
  | succ n ih =>
    intro w4 σ
    rw [jr_object_L29.eq_2]
    refine sm_b (l' := [(0, vr u0), (2, vi u2), (3, vr (some u3)), (4, vl w4)]) (st' := [vi u2, vl w4, vr (some u3), vr u0]) (pc' := 34) [(.aload_n 0, vi 0, 30), (.aload_n 3, vi 0, 31), (.lload 4, vi 0, 33), (.iload_n 2, vi 0, 34)] (by decide +kernel) rfl rfl ?_
    refine sm_de (fun p23 h24 => ?_)
    refine sm_st [vi u2, vl w4, vr (some u3), vr (some p23)] (by rw [h24] <;> rfl) ?_
    refine sm_gd (fun h25 => ?_)
    refine sm_cvT (N := mX14_field) (d' := d - 1) (fun r : Int64 => some (vl r)) (fun z => Sum.inl ((none, z))) [vr (some u3), vl w4, vi u2] [] rfl (by decide +kernel) q1246 q1248 qs37 (Or.inl ⟨rfl, q1249⟩) (show okN yX14_field 3 = true by decide +kernel) (fun H hR => hR.rv G.1 cd13 rfl h25) rfl rfl (by omega) rfl (fun Q' => jr_field_ok G (D := D) rec hrec (d - 1) (by omega) (by omega) p23 (some u3) w4 u2 σ Q') (fun z h => hRET _ h) (fun y27 σ28 => ?_)
    refine sm_b (l' := [(0, vr u0), (2, vi u2), (3, vr (some u3)), (4, vl y27)]) (st' := [vi 44, vr u0]) (pc' := 42) [(.lstore 4, vi 0, 39), (.aload_n 0, vi 0, 40), (.bipush 44, vi 44, 42)] (by decide +kernel) rfl rfl ?_
    refine sm_st [vi 44, vr (some p23)] (by rw [h24] <;> rfl) ?_
    refine sm_gd (fun h29 => ?_)
    refine sm_cv (N := mX14_passes) (d' := d - 1) (fun r => (some (vi r.1))) (fun r => r.2) (fun _ => τ) [vi 44] [] rfl (by decide +kernel) q1242 q1244 qs36 (Or.inl ⟨rfl, q1245⟩) (show okN yX14_passes 1 = true by decide +kernel) (fun H hR => hR.rv G.1 cd13 rfl h29) rfl rfl (by omega) rfl (fun Q' => jr_passes_ok G (d - 1) (by omega) p23 44 σ28 Q') (fun y30 => ?_)
    refine sm_gd (fun h31 => ?_)
    refine sm_case (V g mX14_object d 48 [(0, vr u0), (2, vi u2), (3, vr (some u3)), (4, vl y27)] [] y30.2 τ Q) (V g mX14_object d 29 [(0, vr u0), (2, vi u2), (3, vr (some u3)), (4, vl y27)] [] y30.2 τ Q) ?_ ?_ (fun f32 p33 n34 => ?_)
    · refine sm_pick [0, 2] (l' := [(0, vr u0), (3, vr (some u3))]) rfl ?_
      exact sm_leaf (fun h => hE48 _ h)
    · exact ih y27 y30.2
    refine sm_if_ne (off := (-16)) (tgt := 29) h31 (by decide +kernel) (fun c35 => ?_) (fun c35 => ?_)
    · exact n34 c35
    · exact p33 c35
set_option maxHeartbeats 4000000 in
theorem jr_objectb_ok {g : GE} (G : GG g) {D : Nat} (rec : Option Nat → Option Nat → Int → ST → Option (Option (Option Nat) × ST)) (hrec : ∀ (d : Nat), D ≤ d → ∀ {τ : TT} (a1 : Option Nat) (a2 : Option Nat) (a3 : Int) (σ : ST) (Q' : VQ), Sm (V g mX14_object d 0 [(0, vr a1), (1, vr a2), (2, vi a3)] [] σ τ Q') (rec a1 a2 a3 σ) (fun r => tQ Q' τ (fun r : Option Nat => some (vr r)) r)) {τ : TT} (d : Nat) (hd1 : D + 4 ≤ d) (hd2 : 14 ≤ d) (a1 : Option Nat) (a2 : Option Nat) (a3 : Int)  (σ : ST) (Q : VQ) : Sm (V g mX14_object d 0 [(0, vr a1), (1, vr a2), (2, vi a3)] [] σ τ Q) (jr_objectb (gRm g) rec a1 a2 a3 σ) (fun r => tQ Q τ (fun r : Option Nat => some (vr r)) r) := by
  unfold jr_objectb
  refine sm_top (fun K hRET => ?_)
  refine sm_gd (fun h1 => ?_)
  refine sm_new cd10 rfl q1223 q940 q157 (new_10 σ) h1 (by decide +kernel) ?_
  refine sm_nms (fun σ2 => ?_)
  refine sm_b (l' := [(0, vr a1), (1, vr a2), (2, vi a3)]) (st' := [vr a2, vr (some (sZ σ)), vr (some (sZ σ))]) (pc' := 5) [(.dup, vi 0, 4), (.aload_n 1, vi 0, 5)] (by decide +kernel) rfl rfl ?_
  refine sm_ci (N := mX10_init) (d' := d - 1) [vr a2] [vr (some (sZ σ))] rfl (by decide +kernel) q1224 q942 rfl q943 rfl rfl (show okN yX10_init 1 = true by decide +kernel) rfl rfl (by omega) rfl (fun Q' => vlu_init_ok G (d - 1) (by omega) (sZ σ) a2 σ2 Q') (fun y3 => ?_)
  refine sm_b (l' := [(0, vr a1), (1, vr a2), (2, vi a3), (3, vr (some (sZ σ))), (4, vl 0)]) (st' := [vi 123, vr a1]) (pc' := 15) [(.astore_n 3, vi 0, 9), (.lconst 0, vl 0, 10), (.lstore 4, vi 0, 12), (.aload_n 0, vi 0, 13), (.bipush 123, vi 123, 15)] (by decide +kernel) rfl rfl ?_
  refine sm_de (fun p4 h5 => ?_)
  refine sm_st [vi 123, vr (some p4)] (by rw [h5] <;> rfl) ?_
  refine sm_gd (fun h6 => ?_)
  refine sm_cvT (N := mX14_sign) (d' := d - 1) (fun _ : Unit => none) (fun z => (none, z)) [vi 123] [] rfl (by decide +kernel) q1225 q1227 qs33 (Or.inl ⟨rfl, q1228⟩) (show okN yX14_sign 1 = true by decide +kernel) (fun H hR => hR.rv G.1 cd13 rfl h6) rfl rfl (by omega) rfl (fun Q' => jr_sign_ok G (d - 1) (by omega) p4 123 y3 Q') (fun z h => hRET _ h) (fun y8 σ9 => ?_)
  refine sm_b (l' := [(0, vr a1), (1, vr a2), (2, vi a3), (3, vr (some (sZ σ))), (4, vl 0)]) (st' := [vi 125, vr a1]) (pc' := 21) [(.aload_n 0, vi 0, 19), (.bipush 125, vi 125, 21)] (by decide +kernel) rfl rfl ?_
  refine sm_st [vi 125, vr (some p4)] (by rw [h5] <;> rfl) ?_
  refine sm_gd (fun h10 => ?_)
  refine sm_cv (N := mX14_passes) (d' := d - 1) (fun r => (some (vi r.1))) (fun r => r.2) (fun _ => τ) [vi 125] [] rfl (by decide +kernel) q1242 q1244 qs36 (Or.inl ⟨rfl, q1245⟩) (show okN yX14_passes 1 = true by decide +kernel) (fun H hR => hR.rv G.1 cd13 rfl h10) rfl rfl (by omega) rfl (fun Q' => jr_passes_ok G (d - 1) (by omega) p4 125 σ9 Q') (fun y11 => ?_)
  refine sm_gd (fun h12 => ?_)
  refine sm_case (V g mX14_object d 29 [(0, vr a1), (1, vr a2), (2, vi a3), (3, vr (some (sZ σ))), (4, vl 0)] [] y11.2 τ Q) (V g mX14_object d 27 [(0, vr a1), (1, vr a2), (2, vi a3), (3, vr (some (sZ σ))), (4, vl 0)] [] y11.2 τ Q) ?_ ?_ (fun f36 p37 n38 => ?_)
  · refine sm_bindS (fun (v14 : ST) => V g mX14_object d 48 [(0, vr a1), (3, vr (some (sZ σ)))] [] v14 τ Q) (fun v14 => ?_) (fun K15 o17 j16 => ?_)
    · refine sm_b (l' := [(0, vr a1), (3, vr (some (sZ σ)))]) (st' := [vi 125, vr a1]) (pc' := 51) [(.aload_n 0, vi 0, 49), (.bipush 125, vi 125, 51)] (by decide +kernel) rfl rfl ?_
      refine sm_st [vi 125, vr (some p4)] (by rw [h5] <;> rfl) ?_
      refine sm_gd (fun h18 => ?_)
      refine sm_cvT (N := mX14_sign) (d' := d - 1) (fun _ : Unit => none) (fun z => (none, z)) [vi 125] [] rfl (by decide +kernel) q1225 q1227 qs33 (Or.inl ⟨rfl, q1228⟩) (show okN yX14_sign 1 = true by decide +kernel) (fun H hR => hR.rv G.1 cd13 rfl h18) rfl rfl (by omega) rfl (fun Q' => jr_sign_ok G (d - 1) (by omega) p4 125 v14 Q') (fun z h => hRET _ h) (fun y20 σ21 => ?_)
      refine sm_b (l' := [(0, vr a1), (3, vr (some (sZ σ)))]) (st' := [vr (some (sZ σ))]) (pc' := 55) [(.aload_n 3, vi 0, 55)] (by decide +kernel) rfl rfl ?_
      exact sm_aret rfl rfl (by decide +kernel) (fun h => hRET _ h)
    · refine sm_pick [0, 2, 3, 4] (l' := [(0, vr a1), (2, vi a3), (3, vr (some (sZ σ))), (4, vl 0)]) rfl ?_
      exact jr_object_L29_ok G rec hrec d hd1 hd2 a1 a3 (sZ σ)  (fun r h => hRET _ (o17 _ h)) (fun _ h => j16 _ h) FU 0 y11.2
  · refine sm_b (l' := [(0, vr a1), (1, vr a2), (2, vi a3), (3, vr (some (sZ σ))), (4, vl 0)]) (st' := [vr (some (sZ σ))]) (pc' := 28) [(.aload_n 3, vi 0, 28)] (by decide +kernel) rfl rfl ?_
    exact sm_aret rfl rfl (by decide +kernel) (fun h => hRET _ h)
  refine sm_if_eq (off := 5) (tgt := 29) h12 (by decide +kernel) (fun c39 => ?_) (fun c39 => ?_)
  · exact p37 c39
  · exact n38 c39
def jr_object (bb : Nat × Nat) : Nat → Option Nat → Option Nat → Int → ST → Option (Option (Option Nat) × ST)
  | 0 => fun _ _ _ _ => none
  | n + 1 => fun a1 a2 a3 σ => jr_objectb bb (jr_object bb n) a1 a2 a3 σ
set_option maxHeartbeats 4000000 in
theorem jr_object_ok {g : GE} (G : GG g) (n : Nat) : ∀ (d : Nat), 14 + 4 * n ≤ d → ∀ {τ : TT} (a1 : Option Nat) (a2 : Option Nat) (a3 : Int) (σ : ST) (Q : VQ), Sm (V g mX14_object d 0 [(0, vr a1), (1, vr a2), (2, vi a3)] [] σ τ Q) (jr_object (gRm g) n a1 a2 a3 σ) (fun r => tQ Q τ (fun r : Option Nat => some (vr r)) r) := by
  induction n with
  | zero => intro d hd τ a1 a2 a3 σ Q; exact sm_none
  | succ n ih =>
    intro d hd τ a1 a2 a3 σ Q
    exact jr_objectb_ok G (D := 14 + 4 * n) (jr_object (gRm g) n) ih d (by omega) (by omega) a1 a2 a3 σ Q
def jr_read (bb : Nat × Nat) (a0 : Nat) (a1 : Option Nat) (σ : ST) : Option (Option (Option Nat) × ST) := Option.bind (jr_object bb 12 (some a0) a1 1 σ) (tB (fun z => (none, z)) fun y2 σ3 => gd (sc σ3 a0 = 14) (Option.bind (jr_blanks bb a0 σ3) fun y5 => gd (sc y5 a0 = 14) (Option.bind (gd (rg (sI y5 210 a0)) (gd (rg (sI y5 209 a0)) (if (sI y5 210 a0) = (sI y5 209 a0) then (some 1) else (some 0)))) fun (v11 : Int) => Option.bind (s_must bb v11 y5) (tB (fun z => (none, z)) fun y16 σ17 => some ((some y2, σ17))))))
set_option maxHeartbeats 4000000 in
theorem jr_read_ok {g : GE} (G : GG g) {τ : TT} (d : Nat) (hd1 : 63 ≤ d) (a0 : Nat) (a1 : Option Nat)  (σ : ST) (Q : VQ) : Sm (V g mX14_read d 0 [(0, vr (some a0)), (1, vr a1)] [] σ τ Q) (jr_read (gRm g) a0 a1 σ) (fun r => tQ Q τ (fun r : Option Nat => some (vr r)) r) := by
  unfold jr_read
  refine sm_top (fun K hRET => ?_)
  refine sm_b (l' := [(0, vr (some a0)), (1, vr a1)]) (st' := [vi 1, vr a1, vr (some a0)]) (pc' := 3) [(.aload_n 0, vi 0, 1), (.aload_n 1, vi 0, 2), (.iconst 1, vi 1, 3)] (by decide +kernel) rfl rfl ?_
  refine sm_csT (N := mX14_object) (d' := d - 1) (fun r : Option Nat => some (vr r)) (fun z => (none, z)) [vr (some a0), vr a1, vi 1] [] rfl (by decide +kernel) q1220 q1221 q162 (Or.inl ⟨rfl, q1222⟩) (show okN yX14_object 3 = true by decide +kernel) rfl rfl (by omega) rfl (fun Q' => jr_object_ok G 12 (d - 1) (by omega) (some a0) a1 1 σ Q') (fun z h => hRET _ h) (fun y2 σ3 => ?_)
  refine sm_b (l' := [(0, vr (some a0)), (1, vr a1), (2, vr y2)]) (st' := [vr (some a0)]) (pc' := 8) [(.astore_n 2, vi 0, 7), (.aload_n 0, vi 0, 8)] (by decide +kernel) rfl rfl ?_
  refine sm_gd (fun h4 => ?_)
  refine sm_cv (N := mX14_blanks) (d' := d - 1) (fun r => none) (fun r => r) (fun _ => τ) [] [] rfl (by decide +kernel) q1229 q1231 qs34 (Or.inl ⟨rfl, q1232⟩) (show okN yX14_blanks 0 = true by decide +kernel) (fun H hR => hR.rv G.1 cd13 rfl h4) rfl rfl (by omega) rfl (fun Q' => jr_blanks_ok G (d - 1) (by omega) a0 σ3 Q') (fun y5 => ?_)
  refine sm_b (l' := [(0, vr (some a0)), (1, vr a1), (2, vr y2)]) (st' := [vr (some a0)]) (pc' := 12) [(.aload_n 0, vi 0, 12)] (by decide +kernel) rfl rfl ?_
  refine sm_gd (fun h6 => ?_)
  refine sm_g (k := 2) (x := vi (sI y5 210 a0)) cd13 rfl h6 rfl q1202 rfl (by decide +kernel) ?_
  refine sm_b (l' := [(0, vr (some a0)), (1, vr a1), (2, vr y2)]) (st' := [vr (some a0), vi (sI y5 210 a0)]) (pc' := 16) [(.aload_n 0, vi 0, 16)] (by decide +kernel) rfl rfl ?_
  refine sm_g (k := 1) (x := vi (sI y5 209 a0)) cd13 rfl h6 rfl q1201 rfl (by decide +kernel) ?_
  refine sm_bind1 (fun (v11 : Int) => V g mX14_read d 27 [(2, vr y2)] [vi v11] y5 τ Q) (fun v11 => ?_) (fun K12 j13 => ?_)
  · refine sm_csTE (N := mX14_must) (d' := d - 1) (fun _ : Unit => none) (fun z => (none, z)) [vi v11] [] rfl (by decide +kernel) q1237 q1238 q162 (Or.inl ⟨rfl, q1239⟩) (show okN yX14_must 1 = true by decide +kernel) rfl rfl (by omega) rfl (fun Q' => jr_must_ok G (d - 1) (by omega) v11 y5 Q') (fun z h => hRET _ h) (fun y16 σ17 => ?_)
    refine sm_b (l' := [(2, vr y2)]) (st' := [vr y2]) (pc' := 31) [(.aload_n 2, vi 0, 31)] (by decide +kernel) rfl rfl ?_
    exact sm_aret rfl rfl (by decide +kernel) (fun h => hRET _ h)
  · refine sm_gd (fun h7 => ?_)
    refine sm_gd (fun h8 => ?_)
    refine sm_case (V g mX14_read d 22 [(0, vr (some a0)), (1, vr a1), (2, vr y2)] [] y5 τ Q) (V g mX14_read d 26 [(0, vr (some a0)), (1, vr a1), (2, vr y2)] [] y5 τ Q) ?_ ?_ (fun f18 p19 n20 => ?_)
    · refine sm_b (l' := [(0, vr (some a0)), (1, vr a1), (2, vr y2)]) (st' := [vi 1]) (pc' := 27) [(.iconst 1, vi 1, 23), (.goto 4, vi 0, 27)] (by decide +kernel) rfl rfl ?_
      refine sm_pick [2] (l' := [(2, vr y2)]) rfl ?_
      exact sm_leaf (fun h => j13 _ h)
    · refine sm_b (l' := [(0, vr (some a0)), (1, vr a1), (2, vr y2)]) (st' := [vi 0]) (pc' := 27) [(.iconst 0, vi 0, 27)] (by decide +kernel) rfl rfl ?_
      refine sm_pick [2] (l' := [(2, vr y2)]) rfl ?_
      exact sm_leaf (fun h => j13 _ h)
    refine sm_icmp_ne (off := 7) (tgt := 26) h7 h8 (by decide +kernel) (fun c21 => ?_) (fun c21 => ?_)
    · exact n20 c21
    · exact p19 c21
def ww_varint_L2 (bb : Nat × Nat) (u0 : Option Nat) : Nat → Int64 → ST → Option (Int64 × ST)
  | 0, _, _ => none
  | n + 1, w3, σ => if (w3 &&& ((-128))) = 0 then (some ((w3, σ))) else (Option.bind u0 fun p11 => gd (sc σ p11 = 4) (Option.bind (r_add bb p11 (iOr (lI (w3 &&& 127)) 128) σ) fun y14 => nm (lUsh w3 7) fun x15 => ww_varint_L2 bb u0 n x15 y14))
def ww_varint (bb : Nat × Nat) (a1 : Option Nat) (a2 : Int64) (σ : ST) : Option (ST) := Option.bind (ww_varint_L2 bb a1 FU a2 σ) fun (v1 : Int64 × ST) => Option.bind a1 fun p5 => gd (sc v1.2 p5 = 4) (Option.bind (r_add bb p5 (lI v1.1) v1.2) fun y8 => some y8)
set_option maxHeartbeats 4000000 in
theorem ww_varint_L2_ok {g : GE} (G : GG g) {τ : TT} {Q : VQ} (d : Nat) (hd1 : 3 ≤ d) (u0 : Option Nat)  {K : Int64 × ST → Prop} (hE34 : ∀ v9 : Int64 × ST, K (v9) → V g mX17_varint d 34 [(0, vr u0), (3, vl v9.1)] [] v9.2 τ Q) : ∀ (n : Nat) (w3 : Int64) (σ : ST), Sm (V g mX17_varint d 2 [(0, vr u0), (3, vl w3)] [] σ τ Q) (ww_varint_L2 (gRm g) u0 n w3 σ) K := by
  intro n
  induction n with
  | zero => intro w3 σ; exact sm_none
  | succ n ih =>
    intro w3 σ
    rw [ww_varint_L2.eq_2]
    refine sm_b (l' := [(0, vr u0), (3, vl w3)]) (st' := [vl w3]) (pc' := 3) [(.lload_n 3, vi 0, 3)] (by decide +kernel) rfl rfl ?_
    refine sm_ldc2 (by decide +kernel) q1391 ?_
    refine sm_b (l' := [(0, vr u0), (3, vl w3)]) (st' := [vl 0, vl (w3 &&& ((-128)))]) (pc' := 8) [(.land, vi 0, 7), (.lconst 0, vl 0, 8)] (by decide +kernel) rfl rfl ?_
    refine sm_case (V g mX17_varint d 34 [(0, vr u0), (3, vl w3)] [] σ τ Q) (V g mX17_varint d 12 [(0, vr u0), (3, vl w3)] [] σ τ Q) ?_ ?_ (fun f16 p17 n18 => ?_)
    · exact sm_leaf (fun h => hE34 _ h)
    · refine sm_b (l' := [(0, vr u0), (3, vl w3)]) (st' := [vl w3, vr u0]) (pc' := 14) [(.aload_n 0, vi 0, 13), (.lload_n 3, vi 0, 14)] (by decide +kernel) rfl rfl ?_
      refine sm_ldc2 (by decide +kernel) q1392 ?_
      refine sm_b (l' := [(0, vr u0), (3, vl w3)]) (st' := [vi (iOr (lI (w3 &&& 127)) 128), vr u0]) (pc' := 23) [(.land, vi 0, 18), (.l2i, vi 0, 19), (.sipush 128, vi 128, 22), (.ior, vi 0, 23)] (by decide +kernel) rfl rfl ?_
      refine sm_de (fun p11 h12 => ?_)
      refine sm_st [vi (iOr (lI (w3 &&& 127)) 128), vr (some p11)] (by rw [h12] <;> rfl) ?_
      refine sm_gd (fun h13 => ?_)
      refine sm_cv (N := mX3_add) (d' := d - 1) (fun r => none) (fun r => r) (fun _ => τ) [vi (iOr (lI (w3 &&& 127)) 128)] [] rfl (by decide +kernel) q1393 q535 q536 (Or.inl ⟨rfl, q537⟩) (show okN yX3_add 1 = true by decide +kernel) (fun H hR => hR.rvR G.1 h13) rfl rfl (by omega) rfl (fun Q' => r_add_ok G (d - 1) (by omega) p11 (iOr (lI (w3 &&& 127)) 128) σ Q') (fun y14 => ?_)
      refine sm_b (l' := [(0, vr u0), (3, vl w3)]) (st' := [vl (lUsh w3 7)]) (pc' := 30) [(.lload_n 3, vi 0, 27), (.bipush 7, vi 7, 29), (.lushr, vi 0, 30)] (by decide +kernel) rfl rfl ?_
      refine sm_nml (fun x15 => ?_)
      refine sm_b (l' := [(0, vr u0), (3, vl x15)]) (st' := []) (pc' := 2) [(.lstore_n 3, vi 0, 31), (.goto (-29), vi 0, 2)] (by decide +kernel) rfl rfl ?_
      exact ih x15 y14
    refine sm_lc_eq (off := 25) (tgt := 34) (by decide +kernel) (by decide +kernel) (fun c19 => ?_) (fun c19 => ?_)
    · exact p17 c19
    · exact n18 c19
set_option maxHeartbeats 4000000 in
theorem ww_varint_ok {g : GE} (G : GG g) {τ : TT} (d : Nat) (hd1 : 3 ≤ d) (a1 : Option Nat) (a2 : Int64)  (σ : ST) (Q : VQ) : Sm (V g mX17_varint d 0 [(0, vr a1), (1, vl a2)] [] σ τ Q) (ww_varint (gRm g) a1 a2 σ) (fun r => Q.1 none r τ) := by
  unfold ww_varint
  refine sm_top (fun K hRET => ?_)
  refine sm_b (l' := [(0, vr a1), (1, vl a2), (3, vl a2)]) (st' := []) (pc' := 2) [(.lload_n 1, vi 0, 1), (.lstore_n 3, vi 0, 2)] (by decide +kernel) rfl rfl ?_
  refine sm_bind1 (fun (v1 : Int64 × ST) => V g mX17_varint d 34 [(0, vr a1), (3, vl v1.1)] [] v1.2 τ Q) (fun v1 => ?_) (fun K2 j3 => ?_)
  · refine sm_b (l' := [(0, vr a1), (3, vl v1.1)]) (st' := [vi (lI v1.1), vr a1]) (pc' := 37) [(.aload_n 0, vi 0, 35), (.lload_n 3, vi 0, 36), (.l2i, vi 0, 37)] (by decide +kernel) rfl rfl ?_
    refine sm_de (fun p5 h6 => ?_)
    refine sm_st [vi (lI v1.1), vr (some p5)] (by rw [h6] <;> rfl) ?_
    refine sm_gd (fun h7 => ?_)
    refine sm_cv (N := mX3_add) (d' := d - 1) (fun r => none) (fun r => r) (fun _ => τ) [vi (lI v1.1)] [] rfl (by decide +kernel) q1393 q535 q536 (Or.inl ⟨rfl, q537⟩) (show okN yX3_add 1 = true by decide +kernel) (fun H hR => hR.rvR G.1 h7) rfl rfl (by omega) rfl (fun Q' => r_add_ok G (d - 1) (by omega) p5 (lI v1.1) v1.2 Q') (fun y8 => ?_)
    exact sm_vret rfl (by decide +kernel) (fun h => hRET _ h)
  · refine sm_pick [0, 2] (l' := [(0, vr a1), (3, vl a2)]) rfl ?_
    exact ww_varint_L2_ok G d hd1 a1  (fun _ h => j3 _ h) FU a2 σ
def ww_number_L21 (bb : Nat × Nat) (u0 : Option Nat) (u1 : Option Nat) (u2 : Int64) : Nat → Int → ST → Option (ST)
  | 0, _, _ => none
  | n + 1, w4, σ => Option.bind u1 fun p8 => gd (sc σ p8 = 9) (Option.bind (gd (rg (sI σ 132 p8)) (if (sI σ 132 p8) = 6 then (some 4) else (some 8))) fun (v14 : Int) => gd (rg w4) (gd (rg v14) (if v14 ≤ w4 then (some σ) else (Option.bind u0 fun p22 => gd (sc σ p22 = 4) (Option.bind (r_add bb p22 (lI (lShr u2 (8 * w4))) σ) fun y25 => ww_number_L21 bb u0 u1 u2 n (w4 + 1) y25)))))
def ww_number (bb : Nat × Nat) (a1 : Option Nat) (a2 : Option Nat) (a3 : Int64) (σ : ST) : Option (ST) := Option.bind a2 fun p1 => gd (sc σ p1 = 9) (gd (rg (sI σ 132 p1)) (if ((sI σ 132 p1) = 6) ∨ ((sI σ 132 p1) = 7) then (ww_number_L21 bb a1 a2 a3 FU 0 σ) else (Option.bind (if ((sI σ 132 p1) = 4) ∨ ((sI σ 132 p1) = 5) then (if (sI σ 132 p1) = 4 then (some ((((lShl a3 1) ^^^ (lShr a3 63)) &&& 4294967295))) else (some (((lShl a3 1) ^^^ (lShr a3 63))))) else (some a3)) fun (v37 : Int64) => Option.bind (ww_varint bb a1 v37 σ) fun y41 => some y41)))
set_option maxHeartbeats 4000000 in
theorem ww_number_L21_ok {g : GE} (G : GG g) {τ : TT} {Q : VQ} (d : Nat) (hd1 : 4 ≤ d) (u0 : Option Nat) (u1 : Option Nat) (u2 : Int64)  {K : ST → Prop} (hRET : ∀ r : ST, K (r) → Q.1 none r τ) : ∀ (n : Nat) (w4 : Int) (σ : ST), Sm (V g mX17_number d 21 [(0, vr u0), (1, vr u1), (2, vl u2), (4, vi w4)] [] σ τ Q) (ww_number_L21 (gRm g) u0 u1 u2 n w4 σ) K := by
  intro n
  induction n with
  | zero => intro w4 σ; exact sm_none
  | succ n ih =>
    intro w4 σ
    rw [ww_number_L21.eq_2]
    refine sm_b (l' := [(0, vr u0), (1, vr u1), (2, vl u2), (4, vi w4)]) (st' := [vr u1, vi w4]) (pc' := 24) [(.iload 4, vi 0, 23), (.aload_n 1, vi 0, 24)] (by decide +kernel) rfl rfl ?_
    refine sm_de (fun p8 h9 => ?_)
    refine sm_st [vr (some p8), vi w4] (by rw [h9] <;> rfl) ?_
    refine sm_gd (fun h10 => ?_)
    refine sm_gN (k := 4) (x := vi (sI σ 132 p8)) cd8 rfl h10 rfl q731 rfl (by decide +kernel) ?_
    refine sm_b (l' := [(0, vr u0), (1, vr u1), (2, vl u2), (4, vi w4)]) (st' := [vi 6, vi (sI σ 132 p8), vi w4]) (pc' := 29) [(.bipush 6, vi 6, 29)] (by decide +kernel) rfl rfl ?_
    refine sm_bind1 (fun (v14 : Int) => V g mX17_number d 38 [(0, vr u0), (1, vr u1), (2, vl u2), (4, vi w4)] [vi v14, vi w4] σ τ Q) (fun v14 => ?_) (fun K15 j16 => ?_)
    · refine sm_gd (fun h18 => ?_)
      refine sm_gd (fun h19 => ?_)
      refine sm_case (V g mX17_number d 59 [(0, vr u0), (1, vr u1), (2, vl u2), (4, vi w4)] [] σ τ Q) (V g mX17_number d 41 [(0, vr u0), (1, vr u1), (2, vl u2), (4, vi w4)] [] σ τ Q) ?_ ?_ (fun f26 p27 n28 => ?_)
      · refine sm_b (l' := [(0, vr u0), (1, vr u1), (2, vl u2), (4, vi w4)]) (st' := []) (pc' := 117) [(.goto 58, vi 0, 117)] (by decide +kernel) rfl rfl ?_
        exact sm_vret rfl (by decide +kernel) (fun h => hRET _ h)
      · refine sm_b (l' := [(0, vr u0), (1, vr u1), (2, vl u2), (4, vi w4)]) (st' := [vi (lI (lShr u2 (8 * w4))), vr u0]) (pc' := 50) [(.aload_n 0, vi 0, 42), (.lload_n 2, vi 0, 43), (.bipush 8, vi 8, 45), (.iload 4, vi 0, 47), (.imul, vi 0, 48), (.lshr, vi 0, 49), (.l2i, vi 0, 50)] (by decide +kernel) rfl rfl ?_
        refine sm_de (fun p22 h23 => ?_)
        refine sm_st [vi (lI (lShr u2 (8 * w4))), vr (some p22)] (by rw [h23] <;> rfl) ?_
        refine sm_gd (fun h24 => ?_)
        refine sm_cv (N := mX3_add) (d' := d - 1) (fun r => none) (fun r => r) (fun _ => τ) [vi (lI (lShr u2 (8 * w4)))] [] rfl (by decide +kernel) q1393 q535 q536 (Or.inl ⟨rfl, q537⟩) (show okN yX3_add 1 = true by decide +kernel) (fun H hR => hR.rvR G.1 h24) rfl rfl (by omega) rfl (fun Q' => r_add_ok G (d - 1) (by omega) p22 (lI (lShr u2 (8 * w4))) σ Q') (fun y25 => ?_)
        refine sm_b (l' := [(0, vr u0), (1, vr u1), (2, vl u2), (4, vi (w4 + 1))]) (st' := []) (pc' := 21) [(.iinc 4 1, vi 1, 56), (.goto (-35), vi 0, 21)] (by decide +kernel) rfl rfl ?_
        exact ih (w4 + 1) y25
      refine sm_icmp_ge (off := 21) (tgt := 59) h18 h19 (by decide +kernel) (fun c29 => ?_) (fun c29 => ?_)
      · exact p27 c29
      · exact n28 c29
    · refine sm_gd (fun h11 => ?_)
      refine sm_case (V g mX17_number d 32 [(0, vr u0), (1, vr u1), (2, vl u2), (4, vi w4)] [vi w4] σ τ Q) (V g mX17_number d 36 [(0, vr u0), (1, vr u1), (2, vl u2), (4, vi w4)] [vi w4] σ τ Q) ?_ ?_ (fun f30 p31 n32 => ?_)
      · refine sm_b (l' := [(0, vr u0), (1, vr u1), (2, vl u2), (4, vi w4)]) (st' := [vi 4, vi w4]) (pc' := 38) [(.iconst 4, vi 4, 33), (.goto 5, vi 0, 38)] (by decide +kernel) rfl rfl ?_
        exact sm_leaf (fun h => j16 _ h)
      · refine sm_b (l' := [(0, vr u0), (1, vr u1), (2, vl u2), (4, vi w4)]) (st' := [vi 8, vi w4]) (pc' := 38) [(.bipush 8, vi 8, 38)] (by decide +kernel) rfl rfl ?_
        exact sm_leaf (fun h => j16 _ h)
      refine sm_icmp_ne (off := 7) (tgt := 36) h11 (by decide) (by decide +kernel) (fun c33 => ?_) (fun c33 => ?_)
      · exact n32 c33
      · exact p31 c33
set_option maxHeartbeats 4000000 in
theorem ww_number_ok {g : GE} (G : GG g) {τ : TT} (d : Nat) (hd1 : 4 ≤ d) (a1 : Option Nat) (a2 : Option Nat) (a3 : Int64)  (σ : ST) (Q : VQ) : Sm (V g mX17_number d 0 [(0, vr a1), (1, vr a2), (2, vl a3)] [] σ τ Q) (ww_number (gRm g) a1 a2 a3 σ) (fun r => Q.1 none r τ) := by
  unfold ww_number
  refine sm_top (fun K hRET => ?_)
  refine sm_b (l' := [(0, vr a1), (1, vr a2), (2, vl a3)]) (st' := [vr a2]) (pc' := 1) [(.aload_n 1, vi 0, 1)] (by decide +kernel) rfl rfl ?_
  refine sm_de (fun p1 h2 => ?_)
  refine sm_st [vr (some p1)] (by rw [h2] <;> rfl) ?_
  refine sm_gd (fun h3 => ?_)
  refine sm_gN (k := 4) (x := vi (sI σ 132 p1)) cd8 rfl h3 rfl q731 rfl (by decide +kernel) ?_
  refine sm_b (l' := [(0, vr a1), (1, vr a2), (2, vl a3)]) (st' := [vi 6, vi (sI σ 132 p1)]) (pc' := 6) [(.bipush 6, vi 6, 6)] (by decide +kernel) rfl rfl ?_
  refine sm_gd (fun h4 => ?_)
  refine sm_case (V g mX17_number d 18 [(0, vr a1), (1, vr a2), (2, vl a3)] [] σ τ Q) (V g mX17_number d 62 [(0, vr a1), (1, vr a2), (2, vl a3)] [] σ τ Q) ?_ ?_ (fun f53 p54 n55 => ?_)
  · refine sm_b (l' := [(0, vr a1), (1, vr a2), (2, vl a3), (4, vi 0)]) (st' := []) (pc' := 21) [(.iconst 0, vi 0, 19), (.istore 4, vi 0, 21)] (by decide +kernel) rfl rfl ?_
    exact ww_number_L21_ok G d hd1 a1 a2 a3  (fun r h => hRET _ h) FU 0 σ
  · refine sm_b (l' := [(0, vr a1), (1, vr a2), (2, vl a3)]) (st' := [vr a2, vr a1]) (pc' := 64) [(.aload_n 0, vi 0, 63), (.aload_n 1, vi 0, 64)] (by decide +kernel) rfl rfl ?_
    refine sm_st [vr (some p1), vr a1] (by rw [h2] <;> rfl) ?_
    refine sm_gN (k := 4) (x := vi (sI σ 132 p1)) cd8 rfl h3 rfl q731 rfl (by decide +kernel) ?_
    refine sm_b (l' := [(0, vr a1), (1, vr a2), (2, vl a3)]) (st' := [vi 4, vi (sI σ 132 p1), vr a1]) (pc' := 68) [(.iconst 4, vi 4, 68)] (by decide +kernel) rfl rfl ?_
    refine sm_bind1 (fun (v37 : Int64) => V g mX17_number d 114 [] [vl v37, vr a1] σ τ Q) (fun v37 => ?_) (fun K38 j39 => ?_)
    · refine sm_cs (N := mX17_varint) (d' := d - 1) (fun r => none) (fun r => r) (fun _ => τ) [vr a1, vl v37] [] rfl (by decide +kernel) q1388 q1389 q165 (Or.inl ⟨rfl, q1390⟩) (show okN yX17_varint 2 = true by decide +kernel) rfl rfl (by omega) rfl (fun Q' => ww_varint_ok G (d - 1) (by omega) a1 v37 σ Q') (fun y41 => ?_)
      exact sm_vret rfl (by decide +kernel) (fun h => hRET _ h)
    · refine sm_case (V g mX17_number d 79 [(0, vr a1), (1, vr a2), (2, vl a3)] [vr a1] σ τ Q) (V g mX17_number d 113 [(0, vr a1), (1, vr a2), (2, vl a3)] [vr a1] σ τ Q) ?_ ?_ (fun f48 p49 n50 => ?_)
      · refine sm_b (l' := [(0, vr a1), (1, vr a2), (2, vl a3)]) (st' := [vr a2, vr a1]) (pc' := 80) [(.aload_n 1, vi 0, 80)] (by decide +kernel) rfl rfl ?_
        refine sm_st [vr (some p1), vr a1] (by rw [h2] <;> rfl) ?_
        refine sm_gN (k := 4) (x := vi (sI σ 132 p1)) cd8 rfl h3 rfl q731 rfl (by decide +kernel) ?_
        refine sm_b (l' := [(0, vr a1), (1, vr a2), (2, vl a3)]) (st' := [vi 4, vi (sI σ 132 p1), vr a1]) (pc' := 84) [(.iconst 4, vi 4, 84)] (by decide +kernel) rfl rfl ?_
        refine sm_case (V g mX17_number d 87 [(0, vr a1), (1, vr a2), (2, vl a3)] [vr a1] σ τ Q) (V g mX17_number d 102 [(0, vr a1), (1, vr a2), (2, vl a3)] [vr a1] σ τ Q) ?_ ?_ (fun f44 p45 n46 => ?_)
        · refine sm_b (l' := [(0, vr a1), (1, vr a2), (2, vl a3)]) (st' := [vl ((lShl a3 1) ^^^ (lShr a3 63)), vr a1]) (pc' := 95) [(.lload_n 2, vi 0, 88), (.iconst 1, vi 1, 89), (.lshl, vi 0, 90), (.lload_n 2, vi 0, 91), (.bipush 63, vi 63, 93), (.lshr, vi 0, 94), (.lxor, vi 0, 95)] (by decide +kernel) rfl rfl ?_
          refine sm_ldc2 (by decide +kernel) q1397 ?_
          refine sm_b (l' := [(0, vr a1), (1, vr a2), (2, vl a3)]) (st' := [vl (((lShl a3 1) ^^^ (lShr a3 63)) &&& 4294967295), vr a1]) (pc' := 114) [(.land, vi 0, 99), (.goto 15, vi 0, 114)] (by decide +kernel) rfl rfl ?_
          refine sm_pick [] (l' := []) rfl ?_
          exact sm_leaf (fun h => j39 _ h)
        · refine sm_b (l' := [(0, vr a1), (1, vr a2), (2, vl a3)]) (st' := [vl ((lShl a3 1) ^^^ (lShr a3 63)), vr a1]) (pc' := 114) [(.lload_n 2, vi 0, 103), (.iconst 1, vi 1, 104), (.lshl, vi 0, 105), (.lload_n 2, vi 0, 106), (.bipush 63, vi 63, 108), (.lshr, vi 0, 109), (.lxor, vi 0, 110), (.goto 4, vi 0, 114)] (by decide +kernel) rfl rfl ?_
          refine sm_pick [] (l' := []) rfl ?_
          exact sm_leaf (fun h => j39 _ h)
        refine sm_icmp_ne (off := 18) (tgt := 102) h4 (by decide) (by decide +kernel) (fun c47 => ?_) (fun c47 => ?_)
        · exact n46 c47
        · exact p45 c47
      · refine sm_b (l' := [(0, vr a1), (1, vr a2), (2, vl a3)]) (st' := [vl a3, vr a1]) (pc' := 114) [(.lload_n 2, vi 0, 114)] (by decide +kernel) rfl rfl ?_
        refine sm_pick [] (l' := []) rfl ?_
        exact sm_leaf (fun h => j39 _ h)
      refine sm_icmp_eq (off := 11) (tgt := 79) h4 (by decide) (by decide +kernel) (fun c51 => ?_) (fun c51 => ?_)
      · exact p49 (Or.inl c51)
      · refine sm_b (l' := [(0, vr a1), (1, vr a2), (2, vl a3)]) (st' := [vr a2, vr a1]) (pc' := 72) [(.aload_n 1, vi 0, 72)] (by decide +kernel) rfl rfl ?_
        refine sm_st [vr (some p1), vr a1] (by rw [h2] <;> rfl) ?_
        refine sm_gN (k := 4) (x := vi (sI σ 132 p1)) cd8 rfl h3 rfl q731 rfl (by decide +kernel) ?_
        refine sm_b (l' := [(0, vr a1), (1, vr a2), (2, vl a3)]) (st' := [vi 5, vi (sI σ 132 p1), vr a1]) (pc' := 76) [(.iconst 5, vi 5, 76)] (by decide +kernel) rfl rfl ?_
        refine sm_icmp_ne (off := 37) (tgt := 113) h4 (by decide) (by decide +kernel) (fun c52 => ?_) (fun c52 => ?_)
        · exact n50 (fun q => q.elim c51 c52)
        · exact p49 (Or.inr c52)
  refine sm_icmp_eq (off := 12) (tgt := 18) h4 (by decide) (by decide +kernel) (fun c56 => ?_) (fun c56 => ?_)
  · exact p54 (Or.inl c56)
  · refine sm_b (l' := [(0, vr a1), (1, vr a2), (2, vl a3)]) (st' := [vr a2]) (pc' := 10) [(.aload_n 1, vi 0, 10)] (by decide +kernel) rfl rfl ?_
    refine sm_st [vr (some p1)] (by rw [h2] <;> rfl) ?_
    refine sm_gN (k := 4) (x := vi (sI σ 132 p1)) cd8 rfl h3 rfl q731 rfl (by decide +kernel) ?_
    refine sm_b (l' := [(0, vr a1), (1, vr a2), (2, vl a3)]) (st' := [vi 7, vi (sI σ 132 p1)]) (pc' := 15) [(.bipush 7, vi 7, 15)] (by decide +kernel) rfl rfl ?_
    refine sm_icmp_ne (off := 47) (tgt := 62) h4 (by decide) (by decide +kernel) (fun c57 => ?_) (fun c57 => ?_)
    · exact n55 (fun q => q.elim c56 c57)
    · exact p54 (Or.inr c57)
def ww_tag (bb : Nat × Nat) (a1 : Option Nat) (a2 : Option Nat) (a3 : Int) (σ : ST) : Option (ST) := Option.bind a2 fun p1 => gd (sc σ p1 = 9) (Option.bind (ww_varint bb a1 ((8 * (iL (sI σ 131 p1))) + (iL a3)) σ) fun y4 => some y4)
set_option maxHeartbeats 4000000 in
theorem ww_tag_ok {g : GE} (G : GG g) {τ : TT} (d : Nat) (hd1 : 4 ≤ d) (a1 : Option Nat) (a2 : Option Nat) (a3 : Int)  (σ : ST) (Q : VQ) : Sm (V g mX17_tag d 0 [(0, vr a1), (1, vr a2), (2, vi a3)] [] σ τ Q) (ww_tag (gRm g) a1 a2 a3 σ) (fun r => Q.1 none r τ) := by
  unfold ww_tag
  refine sm_top (fun K hRET => ?_)
  refine sm_b (l' := [(0, vr a1), (1, vr a2), (2, vi a3)]) (st' := [vr a1]) (pc' := 1) [(.aload_n 0, vi 0, 1)] (by decide +kernel) rfl rfl ?_
  refine sm_ldc2 (by decide +kernel) q1387 ?_
  refine sm_b (l' := [(0, vr a1), (1, vr a2), (2, vi a3)]) (st' := [vr a2, vl 8, vr a1]) (pc' := 5) [(.aload_n 1, vi 0, 5)] (by decide +kernel) rfl rfl ?_
  refine sm_de (fun p1 h2 => ?_)
  refine sm_st [vr (some p1), vl 8, vr a1] (by rw [h2] <;> rfl) ?_
  refine sm_gd (fun h3 => ?_)
  refine sm_gN (k := 3) (x := vi (sI σ 131 p1)) cd8 rfl h3 rfl q727 rfl (by decide +kernel) ?_
  refine sm_b (l' := [(0, vr a1), (1, vr a2), (2, vi a3)]) (st' := [vl ((8 * (iL (sI σ 131 p1))) + (iL a3)), vr a1]) (pc' := 13) [(.i2l, vi 0, 9), (.lmul, vi 0, 10), (.iload_n 2, vi 0, 11), (.i2l, vi 0, 12), (.ladd, vi 0, 13)] (by decide +kernel) rfl rfl ?_
  refine sm_cs (N := mX17_varint) (d' := d - 1) (fun r => none) (fun r => r) (fun _ => τ) [vr a1, vl ((8 * (iL (sI σ 131 p1))) + (iL a3))] [] rfl (by decide +kernel) q1388 q1389 q165 (Or.inl ⟨rfl, q1390⟩) (show okN yX17_varint 2 = true by decide +kernel) rfl rfl (by omega) rfl (fun Q' => ww_varint_ok G (d - 1) (by omega) a1 ((8 * (iL (sI σ 131 p1))) + (iL a3)) σ Q') (fun y4 => ?_)
  exact sm_vret rfl (by decide +kernel) (fun h => hRET _ h)
def ww_part (bb : Nat × Nat) (a1 : Option Nat) (a2 : Option Nat) (σ : ST) : Option (ST) := Option.bind a2 fun p1 => gd (sc σ p1 = 4) (Option.bind (ww_varint bb a1 (iL ((((sW σ p1).length : Nat) : Int))) σ) fun y6 => gd (sc y6 p1 = 4) (Option.bind a1 fun p10 => gd (sc y6 p10 = 4) (Option.bind (r_addP bb p10 p1 y6) fun y13 => some y13)))
set_option maxHeartbeats 4000000 in
theorem ww_part_ok {g : GE} (G : GG g) {τ : TT} (d : Nat) (hd1 : 5 ≤ d) (a1 : Option Nat) (a2 : Option Nat)  (σ : ST) (Q : VQ) : Sm (V g mX17_part d 0 [(0, vr a1), (1, vr a2)] [] σ τ Q) (ww_part (gRm g) a1 a2 σ) (fun r => Q.1 none r τ) := by
  unfold ww_part
  refine sm_top (fun K hRET => ?_)
  refine sm_b (l' := [(0, vr a1), (1, vr a2)]) (st' := [vr a2, vr a1]) (pc' := 2) [(.aload_n 0, vi 0, 1), (.aload_n 1, vi 0, 2)] (by decide +kernel) rfl rfl ?_
  refine sm_de (fun p1 h2 => ?_)
  refine sm_st [vr (some p1), vr a1] (by rw [h2] <;> rfl) ?_
  refine sm_gd (fun h3 => ?_)
  refine sm_rszN h3 q283 (by decide +kernel) ?_
  refine sm_rowf h3 (fun b4 b5 => ?_)
  refine sm_b (l' := [(0, vr a1), (1, vr a2)]) (st' := [vl (iL ((((sW σ p1).length : Nat) : Int))), vr a1]) (pc' := 6) [(.i2l, vi 0, 6)] (by decide +kernel) rfl rfl ?_
  refine sm_cs (N := mX17_varint) (d' := d - 1) (fun r => none) (fun r => r) (fun _ => τ) [vr a1, vl (iL ((((sW σ p1).length : Nat) : Int)))] [] rfl (by decide +kernel) q1388 q1389 q165 (Or.inl ⟨rfl, q1390⟩) (show okN yX17_varint 2 = true by decide +kernel) rfl rfl (by omega) rfl (fun Q' => ww_varint_ok G (d - 1) (by omega) a1 (iL ((((sW σ p1).length : Nat) : Int))) σ Q') (fun y6 => ?_)
  refine sm_b (l' := [(0, vr a1), (1, vr a2)]) (st' := [vr a2, vr a1]) (pc' := 11) [(.aload_n 0, vi 0, 10), (.aload_n 1, vi 0, 11)] (by decide +kernel) rfl rfl ?_
  refine sm_st [vr (some p1), vr a1] (by rw [h2] <;> rfl) ?_
  refine sm_gd (fun h7 => ?_)
  refine sm_rclN h7 q275 (by decide +kernel) ?_
  refine sm_b (l' := [(0, vr a1), (1, vr a2)]) (st' := [vr a2, vi 0, vr (some (sH y6 p1)), vr a1]) (pc' := 16) [(.iconst 0, vi 0, 15), (.aload_n 1, vi 0, 16)] (by decide +kernel) rfl rfl ?_
  refine sm_st [vr (some p1), vi 0, vr (some (sH y6 p1)), vr a1] (by rw [h2] <;> rfl) ?_
  refine sm_rszN h7 q283 (by decide +kernel) ?_
  refine sm_rowf h7 (fun b8 b9 => ?_)
  refine sm_de (fun p10 h11 => ?_)
  refine sm_st [vi ((((sW y6 p1).length : Nat) : Int)), vi 0, vr (some (sH y6 p1)), vr (some p10)] (by rw [h11] <;> rfl) ?_
  refine sm_gd (fun h12 => ?_)
  refine sm_cv (N := mX3_addAll) (d' := d - 1) (fun r => none) (fun r => r) (fun _ => τ) [vr (some (sH y6 p1)), vi 0, vi ((((sW y6 p1).length : Nat) : Int))] [] rfl (by decide +kernel) q1402 q531 q532 (Or.inl ⟨rfl, q533⟩) (show okN yX3_addAll 3 = true by decide +kernel) (fun H hR => hR.rvR G.1 h12) rfl rfl (by omega) rfl (fun Q' => r_addP_ok G (d - 1) (by omega) p10 p1 y6 Q') (fun y13 => ?_)
  exact sm_vret rfl (by decide +kernel) (fun h => hRET _ h)
def ww_slot (bb : Nat × Nat) (rec : Option Nat → ST → Option (Option Nat × ST)) (a1 : Option Nat) (a2 : Option Nat) (σ : ST) : Option (ST) := Option.bind a2 fun p1 => gd (sc σ p1 = 13) (nm (sR σ 192 p1) fun x4 => Option.bind x4 fun p5 => gd (sc σ p5 = 9) (Option.bind (fd_wire p5 σ) fun y8 => Option.bind (ww_tag bb a1 x4 y8 σ) fun y9 => gd (sc y9 p5 = 9) (Option.bind (fd_isPlain p5 y9) fun y11 => gd (rg y11) (if y11 = 0 then (gd (sc y9 p1 = 13) (Option.bind (if (sR y9 195 p1) = none then (some ((sR y9 194 p1, y9))) else (Option.bind (rec (sR y9 195 p1) y9) fun y25 => some ((y25.1, y25.2)))) fun (v20 : Option Nat × ST) => Option.bind (ww_part bb a1 v20.1 v20.2) fun y24 => some y24)) else (gd (sc y9 p1 = 13) (Option.bind (ww_number bb a1 x4 (sJ y9 193 p1) y9) fun y31 => some y31))))))
set_option maxHeartbeats 4000000 in
theorem ww_slot_ok {g : GE} (G : GG g) {D : Nat} (rec : Option Nat → ST → Option (Option Nat × ST)) (hrec : ∀ (d : Nat), D ≤ d → ∀ {τ : TT} (a1 : Option Nat) (σ : ST) (Q' : VQ), Sm (V g mX17_write d 0 [(0, vr a1)] [] σ τ Q') (rec a1 σ) (fun r => Q'.1 (some (vr r.1)) r.2 τ)) {τ : TT} (d : Nat) (hd1 : D + 1 ≤ d) (hd2 : 6 ≤ d) (a1 : Option Nat) (a2 : Option Nat)  (σ : ST) (Q : VQ) : Sm (V g mX17_slot d 0 [(0, vr a1), (1, vr a2)] [] σ τ Q) (ww_slot (gRm g) rec a1 a2 σ) (fun r => Q.1 none r τ) := by
  unfold ww_slot
  refine sm_top (fun K hRET => ?_)
  refine sm_b (l' := [(0, vr a1), (1, vr a2)]) (st' := [vr a2]) (pc' := 1) [(.aload_n 1, vi 0, 1)] (by decide +kernel) rfl rfl ?_
  refine sm_de (fun p1 h2 => ?_)
  refine sm_st [vr (some p1)] (by rw [h2] <;> rfl) ?_
  refine sm_gd (fun h3 => ?_)
  refine sm_gN (k := 0) (x := vr (sR σ 192 p1)) cd12 rfl h3 rfl q1020 rfl (by decide +kernel) ?_
  refine sm_nmr (fun x4 => ?_)
  refine sm_b (l' := [(0, vr a1), (1, vr a2), (2, vr x4)]) (st' := [vr x4, vr x4, vr a1]) (pc' := 8) [(.astore_n 2, vi 0, 5), (.aload_n 0, vi 0, 6), (.aload_n 2, vi 0, 7), (.aload_n 2, vi 0, 8)] (by decide +kernel) rfl rfl ?_
  refine sm_de (fun p5 h6 => ?_)
  refine sm_st [vr (some p5), vr x4, vr a1] (by rw [h6] <;> rfl) ?_
  refine sm_gd (fun h7 => ?_)
  refine sm_cv (N := mX8_wire) (d' := d - 1) (fun r => (some (vi r))) (fun _ => σ) (fun _ => τ) [] [vr x4, vr a1] rfl (by decide +kernel) q1383 q996 q997 (Or.inl ⟨rfl, q998⟩) (show okN yX8_wire 0 = true by decide +kernel) (fun H hR => hR.rv G.1 cd8 rfl h7) rfl rfl (by omega) rfl (fun Q' => fd_wire_ok G (d - 1) (by omega) p5 σ Q') (fun y8 => ?_)
  refine sm_cs (N := mX17_tag) (d' := d - 1) (fun r => none) (fun r => r) (fun _ => τ) [vr a1, vr x4, vi y8] [] rfl (by decide +kernel) q1384 q1385 q165 (Or.inl ⟨rfl, q1386⟩) (show okN yX17_tag 3 = true by decide +kernel) rfl rfl (by omega) rfl (fun Q' => ww_tag_ok G (d - 1) (by omega) a1 x4 y8 σ Q') (fun y9 => ?_)
  refine sm_b (l' := [(0, vr a1), (1, vr a2), (2, vr x4)]) (st' := [vr x4]) (pc' := 15) [(.aload_n 2, vi 0, 15)] (by decide +kernel) rfl rfl ?_
  refine sm_st [vr (some p5)] (by rw [h6] <;> rfl) ?_
  refine sm_gd (fun h10 => ?_)
  refine sm_cv (N := mX8_isPlain) (d' := d - 1) (fun r => (some (vi r))) (fun _ => y9) (fun _ => τ) [] [] rfl (by decide +kernel) q1379 q1000 q1001 (Or.inl ⟨rfl, q1002⟩) (show okN yX8_isPlain 0 = true by decide +kernel) (fun H hR => hR.rv G.1 cd8 rfl h10) rfl rfl (by omega) rfl (fun Q' => fd_isPlain_ok G (d - 1) (by omega) p5 y9 Q') (fun y11 => ?_)
  refine sm_gd (fun h12 => ?_)
  refine sm_case (V g mX17_slot d 33 [(0, vr a1), (1, vr a2), (2, vr x4)] [] y9 τ Q) (V g mX17_slot d 21 [(0, vr a1), (1, vr a2), (2, vr x4)] [] y9 τ Q) ?_ ?_ (fun f32 p33 n34 => ?_)
  · refine sm_b (l' := [(0, vr a1), (1, vr a2), (2, vr x4)]) (st' := [vr a2, vr a1]) (pc' := 35) [(.aload_n 0, vi 0, 34), (.aload_n 1, vi 0, 35)] (by decide +kernel) rfl rfl ?_
    refine sm_st [vr (some p1), vr a1] (by rw [h2] <;> rfl) ?_
    refine sm_gd (fun h17 => ?_)
    refine sm_gN (k := 3) (x := vr (sR y9 195 p1)) cd12 rfl h17 rfl q1032 rfl (by decide +kernel) ?_
    refine sm_bind1 (fun (v20 : Option Nat × ST) => V g mX17_slot d 55 [] [vr v20.1, vr a1] v20.2 τ Q) (fun v20 => ?_) (fun K21 j22 => ?_)
    · refine sm_cs (N := mX17_part) (d' := d - 1) (fun r => none) (fun r => r) (fun _ => τ) [vr a1, vr v20.1] [] rfl (by decide +kernel) q1399 q1400 q165 (Or.inl ⟨rfl, q1401⟩) (show okN yX17_part 2 = true by decide +kernel) rfl rfl (by omega) rfl (fun Q' => ww_part_ok G (d - 1) (by omega) a1 v20.1 v20.2 Q') (fun y24 => ?_)
      exact sm_vret rfl (by decide +kernel) (fun h => hRET _ h)
    · refine sm_case (V g mX17_slot d 41 [(0, vr a1), (1, vr a2), (2, vr x4)] [vr a1] y9 τ Q) (V g mX17_slot d 48 [(0, vr a1), (1, vr a2), (2, vr x4)] [vr a1] y9 τ Q) ?_ ?_ (fun f26 p27 n28 => ?_)
      · refine sm_b (l' := [(0, vr a1), (1, vr a2), (2, vr x4)]) (st' := [vr a2, vr a1]) (pc' := 42) [(.aload_n 1, vi 0, 42)] (by decide +kernel) rfl rfl ?_
        refine sm_st [vr (some p1), vr a1] (by rw [h2] <;> rfl) ?_
        refine sm_gN (k := 2) (x := vr (sR y9 194 p1)) cd12 rfl h17 rfl q1027 rfl (by decide +kernel) ?_
        refine sm_b (l' := [(0, vr a1), (1, vr a2), (2, vr x4)]) (st' := [vr (sR y9 194 p1), vr a1]) (pc' := 55) [(.goto 10, vi 0, 55)] (by decide +kernel) rfl rfl ?_
        refine sm_pick [] (l' := []) rfl ?_
        exact sm_leaf (fun h => j22 _ h)
      · refine sm_b (l' := [(0, vr a1), (1, vr a2), (2, vr x4)]) (st' := [vr a2, vr a1]) (pc' := 49) [(.aload_n 1, vi 0, 49)] (by decide +kernel) rfl rfl ?_
        refine sm_st [vr (some p1), vr a1] (by rw [h2] <;> rfl) ?_
        refine sm_gN (k := 3) (x := vr (sR y9 195 p1)) cd12 rfl h17 rfl q1032 rfl (by decide +kernel) ?_
        refine sm_cs (N := mX17_write) (d' := d - 1) (fun r => (some (vr r.1))) (fun r => r.2) (fun _ => τ) [vr (sR y9 195 p1)] [vr a1] rfl (by decide +kernel) q1398 q1373 q165 (Or.inl ⟨rfl, q1374⟩) (show okN yX17_write 1 = true by decide +kernel) rfl rfl (by omega) rfl (fun Q' => hrec (d - 1) (by omega) (sR y9 195 p1) y9 Q') (fun y25 => ?_)
        refine sm_pick [] (l' := []) rfl ?_
        exact sm_leaf (fun h => j22 _ h)
      refine sm_ifnonnull (off := 10) (tgt := 48) (by decide +kernel) (fun c29 => ?_) (fun c29 => ?_)
      · exact n28 c29
      · exact p27 c29
  · refine sm_b (l' := [(0, vr a1), (1, vr a2), (2, vr x4)]) (st' := [vr a2, vr x4, vr a1]) (pc' := 24) [(.aload_n 0, vi 0, 22), (.aload_n 2, vi 0, 23), (.aload_n 1, vi 0, 24)] (by decide +kernel) rfl rfl ?_
    refine sm_st [vr (some p1), vr x4, vr a1] (by rw [h2] <;> rfl) ?_
    refine sm_gd (fun h30 => ?_)
    refine sm_gN (k := 1) (x := vl (sJ y9 193 p1)) cd12 rfl h30 rfl q1022 rfl (by decide +kernel) ?_
    refine sm_cs (N := mX17_number) (d' := d - 1) (fun r => none) (fun r => r) (fun _ => τ) [vr a1, vr x4, vl (sJ y9 193 p1)] [] rfl (by decide +kernel) q1394 q1395 q165 (Or.inl ⟨rfl, q1396⟩) (show okN yX17_number 3 = true by decide +kernel) rfl rfl (by omega) rfl (fun Q' => ww_number_ok G (d - 1) (by omega) a1 x4 (sJ y9 193 p1) y9 Q') (fun y31 => ?_)
    refine sm_b (l' := [(0, vr a1), (1, vr a2), (2, vr x4)]) (st' := []) (pc' := 58) [(.goto 28, vi 0, 58)] (by decide +kernel) rfl rfl ?_
    exact sm_vret rfl (by decide +kernel) (fun h => hRET _ h)
  refine sm_if_eq (off := 15) (tgt := 33) h12 (by decide +kernel) (fun c35 => ?_) (fun c35 => ?_)
  · exact p33 c35
  · exact n34 c35
def ww_write_L86 (bb : Nat × Nat) (rec : Option Nat → ST → Option (Option Nat × ST)) (u0 : Option Nat) (u1 : Nat) (u2 : Option Nat) (u3 : Int) (u4 : Int) (u5 : Option Nat) : Nat → Option Nat → ST → Option (ST)
  | 0, _, _ => none
  | n + 1, w6, σ => if w6 = none then (some σ) else (Option.bind (ww_slot bb rec (some u1) w6 σ) fun y59 => Option.bind u5 fun p60 => gd (sc y59 p60 = 9) (Option.bind (gd (rg (sI y59 135 p60)) (if (sI y59 135 p60) = 0 then (some none) else (Option.bind w6 fun p74 => gd (sc y59 p74 = 13) (Option.bind (vlu_of u5 (sR y59 196 p74) y59) fun y77 => some y77)))) fun (v70 : Option Nat) => ww_write_L86 bb rec u0 u1 u2 u3 u4 u5 n v70 y59))
def ww_write_L133 (bb : Nat × Nat) (rec : Option Nat → ST → Option (Option Nat × ST)) (u0 : Option Nat) (u1 : Nat) (u2 : Option Nat) (u3 : Int) (u4 : Int) (u5 : Option Nat) (u7 : Nat) : Nat → Option Nat → ST → Option (ST)
  | 0, _, _ => none
  | n + 1, w6, σ => if w6 = none then (some σ) else (Option.bind w6 fun p99 => gd (sc σ p99 = 13) (Option.bind (ww_number bb (some u7) u5 (sJ σ 193 p99) σ) fun y102 => gd (sc y102 p99 = 13) (Option.bind (vlu_of u5 (sR y102 196 p99) y102) fun y104 => ww_write_L133 bb rec u0 u1 u2 u3 u4 u5 u7 n y104 y102)))
def ww_write_L22 (bb : Nat × Nat) (rec : Option Nat → ST → Option (Option Nat × ST)) (u0 : Option Nat) (u1 : Nat) (u2 : Option Nat) (u3 : Int) : Nat → Int → ST → Option (Option Nat × ST)
  | 0, _, _ => none
  | n + 1, w4, σ => gd (rg w4) (gd (rg u3) (if u3 ≤ w4 then (some ((some u1, σ))) else (Option.bind u2 fun p22 => gd (sc σ p22 = 103) (gd (ib w4 (sN σ p22)) (nm (sF σ p22 w4.toNat) fun x26 => Option.bind x26 fun p27 => gd (sc σ p27 = 9) (Option.bind (gd (rg (sI σ 135 p27)) (if (sI σ 135 p27) = 0 then (Option.bind u0 fun p118 => gd (sc σ p118 = 11) (Option.bind (vlu_get p118 x26 σ) fun y121 => some y121)) else (Option.bind u0 fun p122 => gd (sc σ p122 = 11) (Option.bind (vlu_of x26 (sR σ 162 p122) σ) fun y125 => some y125)))) fun (v41 : Option Nat) => Option.bind (if v41 = none then (some σ) else (gd (rg (sI σ 135 p27)) (gd (¬ ((sI σ 135 p27) = 0) → ok (fd_isPlain p27 σ)) (gd (¬ ((sI σ 135 p27) = 0) → rg (vv (fd_isPlain p27 σ))) (if ((sI σ 135 p27) = 0) ∨ ((vv (fd_isPlain p27 σ)) = 0) then (ww_write_L86 bb rec u0 u1 u2 u3 w4 x26 FU v41 σ) else (gd (rm bb σ 2) (nm (nW σ) fun σ87 => Option.bind (ww_write_L133 bb rec u0 u1 u2 u3 w4 x26 (sZ σ) FU v41 σ87) fun (v88 : ST) => Option.bind (ww_tag bb (some u1) x26 2 v88) fun y92 => Option.bind (ww_part bb (some u1) (some (sZ σ)) y92) fun y93 => some y93))))))) fun (v48 : ST) => ww_write_L22 bb rec u0 u1 u2 u3 n (w4 + 1) v48))))))
def ww_writeb (bb : Nat × Nat) (rec : Option Nat → ST → Option (Option Nat × ST)) (a1 : Option Nat) (σ : ST) : Option (Option Nat × ST) := gd (rm bb σ 2) (nm (nW σ) fun σ2 => Option.bind a1 fun p3 => gd (sc σ2 p3 = 11) (Option.bind (sR σ2 160 p3) fun p6 => gd (sc σ2 p6 = 7) (nm (sR σ2 103 p6) fun x9 => Option.bind x9 fun p10 => gd (sc σ2 p10 = 103) (nm (((sN σ2 p10 : Nat) : Int)) fun x13 => ww_write_L22 bb rec a1 (sZ σ) x9 x13 FU 0 σ2))))
set_option maxHeartbeats 4000000 in
theorem ww_write_L86_ok {g : GE} (G : GG g) {D : Nat} (rec : Option Nat → ST → Option (Option Nat × ST)) (hrec : ∀ (d : Nat), D ≤ d → ∀ {τ : TT} (a1 : Option Nat) (σ : ST) (Q' : VQ), Sm (V g mX17_write d 0 [(0, vr a1)] [] σ τ Q') (rec a1 σ) (fun r => Q'.1 (some (vr r.1)) r.2 τ)) {τ : TT} {Q : VQ} (d : Nat) (hd1 : D + 2 ≤ d) (hd2 : 7 ≤ d) (u0 : Option Nat) (u1 : Nat) (u2 : Option Nat) (u3 : Int) (u4 : Int) (u5 : Option Nat)  {K : ST → Prop} (hE178 : ∀ v57 : ST, K (v57) → V g mX17_write d 178 [(0, vr u0), (1, vr (some u1)), (2, vr u2), (3, vi u3), (4, vi u4)] [] v57 τ Q) : ∀ (n : Nat) (w6 : Option Nat) (σ : ST), Sm (V g mX17_write d 86 [(0, vr u0), (1, vr (some u1)), (2, vr u2), (3, vi u3), (4, vi u4), (5, vr u5), (6, vr w6)] [] σ τ Q) (ww_write_L86 (gRm g) rec u0 u1 u2 u3 u4 u5 n w6 σ) K := by
  intro n
  induction n with
  | zero => intro w6 σ; exact sm_none
  | succ n ih =>
    intro w6 σ
    rw [ww_write_L86.eq_2]
    refine sm_b (l' := [(0, vr u0), (1, vr (some u1)), (2, vr u2), (3, vi u3), (4, vi u4), (5, vr u5), (6, vr w6)]) (st' := [vr w6]) (pc' := 88) [(.aload 6, vi 0, 88)] (by decide +kernel) rfl rfl ?_
    refine sm_case (V g mX17_write d 178 [(0, vr u0), (1, vr (some u1)), (2, vr u2), (3, vi u3), (4, vi u4), (5, vr u5), (6, vr w6)] [] σ τ Q) (V g mX17_write d 91 [(0, vr u0), (1, vr (some u1)), (2, vr u2), (3, vi u3), (4, vi u4), (5, vr u5), (6, vr w6)] [] σ τ Q) ?_ ?_ (fun f82 p83 n84 => ?_)
    · refine sm_pick [0, 1, 2, 3, 4] (l' := [(0, vr u0), (1, vr (some u1)), (2, vr u2), (3, vi u3), (4, vi u4)]) rfl ?_
      exact sm_leaf (fun h => hE178 _ h)
    · refine sm_b (l' := [(0, vr u0), (1, vr (some u1)), (2, vr u2), (3, vi u3), (4, vi u4), (5, vr u5), (6, vr w6)]) (st' := [vr w6, vr (some u1)]) (pc' := 94) [(.aload_n 1, vi 0, 92), (.aload 6, vi 0, 94)] (by decide +kernel) rfl rfl ?_
      refine sm_cs (N := mX17_slot) (d' := d - 1) (fun r => none) (fun r => r) (fun _ => τ) [vr (some u1), vr w6] [] rfl (by decide +kernel) q1380 q1381 q165 (Or.inl ⟨rfl, q1382⟩) (show okN yX17_slot 2 = true by decide +kernel) rfl rfl (by omega) rfl (fun Q' => ww_slot_ok G (D := D) rec hrec (d - 1) (by omega) (by omega) (some u1) w6 σ Q') (fun y59 => ?_)
      refine sm_b (l' := [(0, vr u0), (1, vr (some u1)), (2, vr u2), (3, vi u3), (4, vi u4), (5, vr u5), (6, vr w6)]) (st' := [vr u5]) (pc' := 99) [(.aload 5, vi 0, 99)] (by decide +kernel) rfl rfl ?_
      refine sm_de (fun p60 h61 => ?_)
      refine sm_st [vr (some p60)] (by rw [h61] <;> rfl) ?_
      refine sm_gd (fun h62 => ?_)
      refine sm_gN (k := 7) (x := vi (sI y59 135 p60)) cd8 rfl h62 rfl q744 rfl (by decide +kernel) ?_
      refine sm_bind1 (fun (v70 : Option Nat) => V g mX17_write d 119 [(0, vr u0), (1, vr (some u1)), (2, vr u2), (3, vi u3), (4, vi u4), (5, vr u5)] [vr v70] y59 τ Q) (fun v70 => ?_) (fun K71 j72 => ?_)
      · refine sm_b (l' := [(0, vr u0), (1, vr (some u1)), (2, vr u2), (3, vi u3), (4, vi u4), (5, vr u5), (6, vr v70)]) (st' := []) (pc' := 86) [(.astore 6, vi 0, 121), (.goto (-35), vi 0, 86)] (by decide +kernel) rfl rfl ?_
        exact ih v70 y59
      · refine sm_gd (fun h63 => ?_)
        refine sm_case (V g mX17_write d 118 [(0, vr u0), (1, vr (some u1)), (2, vr u2), (3, vi u3), (4, vi u4), (5, vr u5), (6, vr w6)] [] y59 τ Q) (V g mX17_write d 105 [(0, vr u0), (1, vr (some u1)), (2, vr u2), (3, vi u3), (4, vi u4), (5, vr u5), (6, vr w6)] [] y59 τ Q) ?_ ?_ (fun f78 p79 n80 => ?_)
        · refine sm_b (l' := [(0, vr u0), (1, vr (some u1)), (2, vr u2), (3, vi u3), (4, vi u4), (5, vr u5), (6, vr w6)]) (st' := [vr none]) (pc' := 119) [(.aconst_null, vi 0, 119)] (by decide +kernel) rfl rfl ?_
          refine sm_pick [0, 1, 2, 3, 4, 5] (l' := [(0, vr u0), (1, vr (some u1)), (2, vr u2), (3, vi u3), (4, vi u4), (5, vr u5)]) rfl ?_
          exact sm_leaf (fun h => j72 _ h)
        · refine sm_b (l' := [(0, vr u0), (1, vr (some u1)), (2, vr u2), (3, vi u3), (4, vi u4), (5, vr u5), (6, vr w6)]) (st' := [vr w6, vr u5]) (pc' := 109) [(.aload 5, vi 0, 107), (.aload 6, vi 0, 109)] (by decide +kernel) rfl rfl ?_
          refine sm_de (fun p74 h75 => ?_)
          refine sm_st [vr (some p74), vr u5] (by rw [h75] <;> rfl) ?_
          refine sm_gd (fun h76 => ?_)
          refine sm_gN (k := 4) (x := vr (sR y59 196 p74)) cd12 rfl h76 rfl q1038 rfl (by decide +kernel) ?_
          refine sm_cs (N := mX10_of) (d' := d - 1) (fun r => (some (vr r))) (fun _ => y59) (fun _ => τ) [vr u5, vr (sR y59 196 p74)] [] rfl (by decide +kernel) q1377 q1107 q157 (Or.inl ⟨rfl, q1108⟩) (show okN yX10_of 2 = true by decide +kernel) rfl rfl (by omega) rfl (fun Q' => vlu_of_ok G (d - 1) (by omega) u5 (sR y59 196 p74) y59 Q') (fun y77 => ?_)
          refine sm_b (l' := [(0, vr u0), (1, vr (some u1)), (2, vr u2), (3, vi u3), (4, vi u4), (5, vr u5), (6, vr w6)]) (st' := [vr y77]) (pc' := 119) [(.goto 4, vi 0, 119)] (by decide +kernel) rfl rfl ?_
          refine sm_pick [0, 1, 2, 3, 4, 5] (l' := [(0, vr u0), (1, vr (some u1)), (2, vr u2), (3, vi u3), (4, vi u4), (5, vr u5)]) rfl ?_
          exact sm_leaf (fun h => j72 _ h)
        refine sm_if_eq (off := 16) (tgt := 118) h63 (by decide +kernel) (fun c81 => ?_) (fun c81 => ?_)
        · exact p79 c81
        · exact n80 c81
    refine sm_ifnull (off := 90) (tgt := 178) (by decide +kernel) (fun c85 => ?_) (fun c85 => ?_)
    · exact p83 c85
    · exact n84 c85
set_option maxHeartbeats 4000000 in
theorem ww_write_L133_ok {g : GE} (G : GG g) {D : Nat} (rec : Option Nat → ST → Option (Option Nat × ST)) (hrec : ∀ (d : Nat), D ≤ d → ∀ {τ : TT} (a1 : Option Nat) (σ : ST) (Q' : VQ), Sm (V g mX17_write d 0 [(0, vr a1)] [] σ τ Q') (rec a1 σ) (fun r => Q'.1 (some (vr r.1)) r.2 τ)) {τ : TT} {Q : VQ} (d : Nat) (hd1 : D + 2 ≤ d) (hd2 : 7 ≤ d) (u0 : Option Nat) (u1 : Nat) (u2 : Option Nat) (u3 : Int) (u4 : Int) (u5 : Option Nat) (u7 : Nat)  {K : ST → Prop} (hE165 : ∀ v94 : ST, K (v94) → V g mX17_write d 165 [(0, vr u0), (1, vr (some u1)), (2, vr u2), (3, vi u3), (4, vi u4), (5, vr u5), (7, vr (some u7))] [] v94 τ Q) : ∀ (n : Nat) (w6 : Option Nat) (σ : ST), Sm (V g mX17_write d 133 [(0, vr u0), (1, vr (some u1)), (2, vr u2), (3, vi u3), (4, vi u4), (5, vr u5), (6, vr w6), (7, vr (some u7))] [] σ τ Q) (ww_write_L133 (gRm g) rec u0 u1 u2 u3 u4 u5 u7 n w6 σ) K := by
  intro n
  induction n with
  | zero => intro w6 σ; exact sm_none
  | succ n ih =>
    intro w6 σ
    rw [ww_write_L133.eq_2]
    refine sm_b (l' := [(0, vr u0), (1, vr (some u1)), (2, vr u2), (3, vi u3), (4, vi u4), (5, vr u5), (6, vr w6), (7, vr (some u7))]) (st' := [vr w6]) (pc' := 135) [(.aload 6, vi 0, 135)] (by decide +kernel) rfl rfl ?_
    refine sm_case (V g mX17_write d 165 [(0, vr u0), (1, vr (some u1)), (2, vr u2), (3, vi u3), (4, vi u4), (5, vr u5), (6, vr w6), (7, vr (some u7))] [] σ τ Q) (V g mX17_write d 138 [(0, vr u0), (1, vr (some u1)), (2, vr u2), (3, vi u3), (4, vi u4), (5, vr u5), (6, vr w6), (7, vr (some u7))] [] σ τ Q) ?_ ?_ (fun f105 p106 n107 => ?_)
    · refine sm_pick [0, 1, 2, 3, 4, 5, 7] (l' := [(0, vr u0), (1, vr (some u1)), (2, vr u2), (3, vi u3), (4, vi u4), (5, vr u5), (7, vr (some u7))]) rfl ?_
      exact sm_leaf (fun h => hE165 _ h)
    · refine sm_b (l' := [(0, vr u0), (1, vr (some u1)), (2, vr u2), (3, vi u3), (4, vi u4), (5, vr u5), (6, vr w6), (7, vr (some u7))]) (st' := [vr w6, vr u5, vr (some u7)]) (pc' := 144) [(.aload 7, vi 0, 140), (.aload 5, vi 0, 142), (.aload 6, vi 0, 144)] (by decide +kernel) rfl rfl ?_
      refine sm_de (fun p99 h100 => ?_)
      refine sm_st [vr (some p99), vr u5, vr (some u7)] (by rw [h100] <;> rfl) ?_
      refine sm_gd (fun h101 => ?_)
      refine sm_gN (k := 1) (x := vl (sJ σ 193 p99)) cd12 rfl h101 rfl q1022 rfl (by decide +kernel) ?_
      refine sm_cs (N := mX17_number) (d' := d - 1) (fun r => none) (fun r => r) (fun _ => τ) [vr (some u7), vr u5, vl (sJ σ 193 p99)] [] rfl (by decide +kernel) q1394 q1395 q165 (Or.inl ⟨rfl, q1396⟩) (show okN yX17_number 3 = true by decide +kernel) rfl rfl (by omega) rfl (fun Q' => ww_number_ok G (d - 1) (by omega) (some u7) u5 (sJ σ 193 p99) σ Q') (fun y102 => ?_)
      refine sm_b (l' := [(0, vr u0), (1, vr (some u1)), (2, vr u2), (3, vi u3), (4, vi u4), (5, vr u5), (6, vr w6), (7, vr (some u7))]) (st' := [vr w6, vr u5]) (pc' := 154) [(.aload 5, vi 0, 152), (.aload 6, vi 0, 154)] (by decide +kernel) rfl rfl ?_
      refine sm_st [vr (some p99), vr u5] (by rw [h100] <;> rfl) ?_
      refine sm_gd (fun h103 => ?_)
      refine sm_gN (k := 4) (x := vr (sR y102 196 p99)) cd12 rfl h103 rfl q1038 rfl (by decide +kernel) ?_
      refine sm_cs (N := mX10_of) (d' := d - 1) (fun r => (some (vr r))) (fun _ => y102) (fun _ => τ) [vr u5, vr (sR y102 196 p99)] [] rfl (by decide +kernel) q1377 q1107 q157 (Or.inl ⟨rfl, q1108⟩) (show okN yX10_of 2 = true by decide +kernel) rfl rfl (by omega) rfl (fun Q' => vlu_of_ok G (d - 1) (by omega) u5 (sR y102 196 p99) y102 Q') (fun y104 => ?_)
      refine sm_b (l' := [(0, vr u0), (1, vr (some u1)), (2, vr u2), (3, vi u3), (4, vi u4), (5, vr u5), (6, vr y104), (7, vr (some u7))]) (st' := []) (pc' := 133) [(.astore 6, vi 0, 162), (.goto (-29), vi 0, 133)] (by decide +kernel) rfl rfl ?_
      exact ih y104 y102
    refine sm_ifnull (off := 30) (tgt := 165) (by decide +kernel) (fun c108 => ?_) (fun c108 => ?_)
    · exact p106 c108
    · exact n107 c108
set_option maxHeartbeats 4000000 in
theorem ww_write_L22_ok {g : GE} (G : GG g) {D : Nat} (rec : Option Nat → ST → Option (Option Nat × ST)) (hrec : ∀ (d : Nat), D ≤ d → ∀ {τ : TT} (a1 : Option Nat) (σ : ST) (Q' : VQ), Sm (V g mX17_write d 0 [(0, vr a1)] [] σ τ Q') (rec a1 σ) (fun r => Q'.1 (some (vr r.1)) r.2 τ)) {τ : TT} {Q : VQ} (d : Nat) (hd1 : D + 2 ≤ d) (hd2 : 7 ≤ d) (u0 : Option Nat) (u1 : Nat) (u2 : Option Nat) (u3 : Int)  {K : Option Nat × ST → Prop} (hRET : ∀ r : Option Nat × ST, K (r) → Q.1 (some (vr r.1)) r.2 τ) : ∀ (n : Nat) (w4 : Int) (σ : ST), Sm (V g mX17_write d 22 [(0, vr u0), (1, vr (some u1)), (2, vr u2), (3, vi u3), (4, vi w4)] [] σ τ Q) (ww_write_L22 (gRm g) rec u0 u1 u2 u3 n w4 σ) K := by
  intro n
  induction n with
  | zero => intro w4 σ; exact sm_none
  | succ n ih =>
    intro w4 σ
    rw [ww_write_L22.eq_2]
    refine sm_b (l' := [(0, vr u0), (1, vr (some u1)), (2, vr u2), (3, vi u3), (4, vi w4)]) (st' := [vi u3, vi w4]) (pc' := 25) [(.iload 4, vi 0, 24), (.iload_n 3, vi 0, 25)] (by decide +kernel) rfl rfl ?_
    refine sm_gd (fun h14 => ?_)
    refine sm_gd (fun h15 => ?_)
    refine sm_case (V g mX17_write d 184 [(0, vr u0), (1, vr (some u1)), (2, vr u2), (3, vi u3), (4, vi w4)] [] σ τ Q) (V g mX17_write d 28 [(0, vr u0), (1, vr (some u1)), (2, vr u2), (3, vi u3), (4, vi w4)] [] σ τ Q) ?_ ?_ (fun f130 p131 n132 => ?_)
    · refine sm_b (l' := [(0, vr u0), (1, vr (some u1)), (2, vr u2), (3, vi u3), (4, vi w4)]) (st' := [vr (some u1)]) (pc' := 185) [(.aload_n 1, vi 0, 185)] (by decide +kernel) rfl rfl ?_
      exact sm_aret rfl rfl (by decide +kernel) (fun h => hRET _ h)
    · refine sm_b (l' := [(0, vr u0), (1, vr (some u1)), (2, vr u2), (3, vi u3), (4, vi w4)]) (st' := [vi w4, vr u2]) (pc' := 31) [(.aload_n 2, vi 0, 29), (.iload 4, vi 0, 31)] (by decide +kernel) rfl rfl ?_
      refine sm_de (fun p22 h23 => ?_)
      refine sm_st [vi w4, vr (some p22)] (by rw [h23] <;> rfl) ?_
      refine sm_gd (fun h24 => ?_)
      refine sm_gd (fun h25 => ?_)
      refine sm_fl h24 h25 (by decide +kernel) ?_
      refine sm_nmr (fun x26 => ?_)
      refine sm_b (l' := [(0, vr u0), (1, vr (some u1)), (2, vr u2), (3, vi u3), (4, vi w4), (5, vr x26)]) (st' := [vr x26]) (pc' := 36) [(.astore 5, vi 0, 34), (.aload 5, vi 0, 36)] (by decide +kernel) rfl rfl ?_
      refine sm_de (fun p27 h28 => ?_)
      refine sm_st [vr (some p27)] (by rw [h28] <;> rfl) ?_
      refine sm_gd (fun h29 => ?_)
      refine sm_gN (k := 7) (x := vi (sI σ 135 p27)) cd8 rfl h29 rfl q744 rfl (by decide +kernel) ?_
      refine sm_bind1 (fun (v41 : Option Nat) => V g mX17_write d 60 [(0, vr u0), (1, vr (some u1)), (2, vr u2), (3, vi u3), (4, vi w4), (5, vr x26)] [vr v41] σ τ Q) (fun v41 => ?_) (fun K42 j43 => ?_)
      · refine sm_b (l' := [(0, vr u0), (1, vr (some u1)), (2, vr u2), (3, vi u3), (4, vi w4), (5, vr x26), (6, vr v41)]) (st' := [vr v41]) (pc' := 64) [(.astore 6, vi 0, 62), (.aload 6, vi 0, 64)] (by decide +kernel) rfl rfl ?_
        refine sm_bind1 (fun (v48 : ST) => V g mX17_write d 178 [(0, vr u0), (1, vr (some u1)), (2, vr u2), (3, vi u3), (4, vi w4)] [] v48 τ Q) (fun v48 => ?_) (fun K49 j50 => ?_)
        · refine sm_b (l' := [(0, vr u0), (1, vr (some u1)), (2, vr u2), (3, vi u3), (4, vi (w4 + 1))]) (st' := []) (pc' := 22) [(.iinc 4 1, vi 1, 181), (.goto (-159), vi 0, 22)] (by decide +kernel) rfl rfl ?_
          exact ih (w4 + 1) v48
        · refine sm_case (V g mX17_write d 67 [(0, vr u0), (1, vr (some u1)), (2, vr u2), (3, vi u3), (4, vi w4), (5, vr x26), (6, vr v41)] [] σ τ Q) (V g mX17_write d 70 [(0, vr u0), (1, vr (some u1)), (2, vr u2), (3, vi u3), (4, vi w4), (5, vr x26), (6, vr v41)] [] σ τ Q) ?_ ?_ (fun f114 p115 n116 => ?_)
          · refine sm_b (l' := [(0, vr u0), (1, vr (some u1)), (2, vr u2), (3, vi u3), (4, vi w4), (5, vr x26), (6, vr v41)]) (st' := []) (pc' := 178) [(.goto 111, vi 0, 178)] (by decide +kernel) rfl rfl ?_
            refine sm_pick [0, 1, 2, 3, 4] (l' := [(0, vr u0), (1, vr (some u1)), (2, vr u2), (3, vi u3), (4, vi w4)]) rfl ?_
            exact sm_leaf (fun h => j50 _ h)
          · refine sm_b (l' := [(0, vr u0), (1, vr (some u1)), (2, vr u2), (3, vi u3), (4, vi w4), (5, vr x26), (6, vr v41)]) (st' := [vr x26]) (pc' := 72) [(.aload 5, vi 0, 72)] (by decide +kernel) rfl rfl ?_
            refine sm_st [vr (some p27)] (by rw [h28] <;> rfl) ?_
            refine sm_gN (k := 7) (x := vi (sI σ 135 p27)) cd8 rfl h29 rfl q744 rfl (by decide +kernel) ?_
            refine sm_gd (fun h52 => ?_)
            refine sm_gd (fun h54 => ?_)
            refine sm_gd (fun h55 => ?_)
            refine sm_case (V g mX17_write d 86 [(0, vr u0), (1, vr (some u1)), (2, vr u2), (3, vi u3), (4, vi w4), (5, vr x26), (6, vr v41)] [] σ τ Q) (V g mX17_write d 124 [(0, vr u0), (1, vr (some u1)), (2, vr u2), (3, vi u3), (4, vi w4), (5, vr x26), (6, vr v41)] [] σ τ Q) ?_ ?_ (fun f109 p110 n111 => ?_)
            · exact ww_write_L86_ok G rec hrec d hd1 hd2 u0 u1 u2 u3 w4 x26  (fun _ h => j50 _ h) FU v41 σ
            · refine sm_gd (fun h86 => ?_)
              refine sm_newRowN (i := 14) (i2 := 89) q1375 rfl q1376 h86 (by omega) rfl (by decide +kernel) (by decide +kernel) (by decide +kernel) ?_
              refine sm_nms (fun σ87 => ?_)
              refine sm_b (l' := [(0, vr u0), (1, vr (some u1)), (2, vr u2), (3, vi u3), (4, vi w4), (5, vr x26), (6, vr v41), (7, vr (some (sZ σ)))]) (st' := []) (pc' := 133) [(.astore 7, vi 0, 133)] (by decide +kernel) rfl rfl ?_
              refine sm_bind1 (fun (v88 : ST) => V g mX17_write d 165 [(0, vr u0), (1, vr (some u1)), (2, vr u2), (3, vi u3), (4, vi w4), (5, vr x26), (7, vr (some (sZ σ)))] [] v88 τ Q) (fun v88 => ?_) (fun K89 j90 => ?_)
              · refine sm_b (l' := [(0, vr u0), (1, vr (some u1)), (2, vr u2), (3, vi u3), (4, vi w4), (5, vr x26), (7, vr (some (sZ σ)))]) (st' := [vi 2, vr x26, vr (some u1)]) (pc' := 169) [(.aload_n 1, vi 0, 166), (.aload 5, vi 0, 168), (.iconst 2, vi 2, 169)] (by decide +kernel) rfl rfl ?_
                refine sm_cs (N := mX17_tag) (d' := d - 1) (fun r => none) (fun r => r) (fun _ => τ) [vr (some u1), vr x26, vi 2] [] rfl (by decide +kernel) q1384 q1385 q165 (Or.inl ⟨rfl, q1386⟩) (show okN yX17_tag 3 = true by decide +kernel) rfl rfl (by omega) rfl (fun Q' => ww_tag_ok G (d - 1) (by omega) (some u1) x26 2 v88 Q') (fun y92 => ?_)
                refine sm_b (l' := [(0, vr u0), (1, vr (some u1)), (2, vr u2), (3, vi u3), (4, vi w4), (5, vr x26), (7, vr (some (sZ σ)))]) (st' := [vr (some (sZ σ)), vr (some u1)]) (pc' := 175) [(.aload_n 1, vi 0, 173), (.aload 7, vi 0, 175)] (by decide +kernel) rfl rfl ?_
                refine sm_cs (N := mX17_part) (d' := d - 1) (fun r => none) (fun r => r) (fun _ => τ) [vr (some u1), vr (some (sZ σ))] [] rfl (by decide +kernel) q1399 q1400 q165 (Or.inl ⟨rfl, q1401⟩) (show okN yX17_part 2 = true by decide +kernel) rfl rfl (by omega) rfl (fun Q' => ww_part_ok G (d - 1) (by omega) (some u1) (some (sZ σ)) y92 Q') (fun y93 => ?_)
                refine sm_pick [0, 1, 2, 3, 4] (l' := [(0, vr u0), (1, vr (some u1)), (2, vr u2), (3, vi u3), (4, vi w4)]) rfl ?_
                exact sm_leaf (fun h => j50 _ h)
              · exact ww_write_L133_ok G rec hrec d hd1 hd2 u0 u1 u2 u3 w4 x26 (sZ σ)  (fun _ h => j90 _ h) FU v41 σ87
            refine sm_if_eq (off := 11) (tgt := 86) h52 (by decide +kernel) (fun c112 => ?_) (fun c112 => ?_)
            · exact p110 (Or.inl c112)
            · have w53 : ¬ ((sI σ 135 p27) = 0) := c112
              refine sm_b (l' := [(0, vr u0), (1, vr (some u1)), (2, vr u2), (3, vi u3), (4, vi w4), (5, vr x26), (6, vr v41)]) (st' := [vr x26]) (pc' := 80) [(.aload 5, vi 0, 80)] (by decide +kernel) rfl rfl ?_
              refine sm_st [vr (some p27)] (by rw [h28] <;> rfl) ?_
              refine sm_cvp (N := mX8_isPlain) (d' := d - 1) (fun r => (some (vi r))) (some (vi (vv (fd_isPlain p27 σ)))) (h54 w53) (fun y h => by rw [vv_some h]) [] [] rfl (by decide +kernel) q1379 q1000 q1001 (Or.inl ⟨rfl, q1002⟩) (show okN yX8_isPlain 0 = true by decide +kernel) (fun H hR => hR.rv G.1 cd8 rfl h29) rfl rfl (by omega) rfl (fun Q' => fd_isPlain_ok G (d - 1) (by omega) p27 σ Q') ?_
              refine sm_if_ne (off := 41) (tgt := 124) (h55 w53) (by decide +kernel) (fun c113 => ?_) (fun c113 => ?_)
              · exact n111 (fun q => q.elim c112 c113)
              · exact p110 (Or.inr c113)
          refine sm_ifnonnull (off := 6) (tgt := 70) (by decide +kernel) (fun c117 => ?_) (fun c117 => ?_)
          · exact n116 c117
          · exact p115 c117
      · refine sm_gd (fun h30 => ?_)
        refine sm_case (V g mX17_write d 54 [(0, vr u0), (1, vr (some u1)), (2, vr u2), (3, vi u3), (4, vi w4), (5, vr x26)] [] σ τ Q) (V g mX17_write d 42 [(0, vr u0), (1, vr (some u1)), (2, vr u2), (3, vi u3), (4, vi w4), (5, vr x26)] [] σ τ Q) ?_ ?_ (fun f126 p127 n128 => ?_)
        · refine sm_b (l' := [(0, vr u0), (1, vr (some u1)), (2, vr u2), (3, vi u3), (4, vi w4), (5, vr x26)]) (st' := [vr x26, vr u0]) (pc' := 57) [(.aload_n 0, vi 0, 55), (.aload 5, vi 0, 57)] (by decide +kernel) rfl rfl ?_
          refine sm_de (fun p118 h119 => ?_)
          refine sm_st [vr x26, vr (some p118)] (by rw [h119] <;> rfl) ?_
          refine sm_gd (fun h120 => ?_)
          refine sm_cv (N := mX10_get) (d' := d - 1) (fun r => (some (vr r))) (fun _ => σ) (fun _ => τ) [vr x26] [] rfl (by decide +kernel) q1378 q1088 q1089 (Or.inl ⟨rfl, q1090⟩) (show okN yX10_get 1 = true by decide +kernel) (fun H hR => hR.rv G.1 cd10 rfl h120) rfl rfl (by omega) rfl (fun Q' => vlu_get_ok G (d - 1) (by omega) p118 x26 σ Q') (fun y121 => ?_)
          exact sm_leaf (fun h => j43 _ h)
        · refine sm_b (l' := [(0, vr u0), (1, vr (some u1)), (2, vr u2), (3, vi u3), (4, vi w4), (5, vr x26)]) (st' := [vr u0, vr x26]) (pc' := 45) [(.aload 5, vi 0, 44), (.aload_n 0, vi 0, 45)] (by decide +kernel) rfl rfl ?_
          refine sm_de (fun p122 h123 => ?_)
          refine sm_st [vr (some p122), vr x26] (by rw [h123] <;> rfl) ?_
          refine sm_gd (fun h124 => ?_)
          refine sm_gN (k := 2) (x := vr (sR σ 162 p122)) cd10 rfl h124 rfl q952 rfl (by decide +kernel) ?_
          refine sm_cs (N := mX10_of) (d' := d - 1) (fun r => (some (vr r))) (fun _ => σ) (fun _ => τ) [vr x26, vr (sR σ 162 p122)] [] rfl (by decide +kernel) q1377 q1107 q157 (Or.inl ⟨rfl, q1108⟩) (show okN yX10_of 2 = true by decide +kernel) rfl rfl (by omega) rfl (fun Q' => vlu_of_ok G (d - 1) (by omega) x26 (sR σ 162 p122) σ Q') (fun y125 => ?_)
          refine sm_b (l' := [(0, vr u0), (1, vr (some u1)), (2, vr u2), (3, vi u3), (4, vi w4), (5, vr x26)]) (st' := [vr y125]) (pc' := 60) [(.goto 9, vi 0, 60)] (by decide +kernel) rfl rfl ?_
          exact sm_leaf (fun h => j43 _ h)
        refine sm_if_eq (off := 15) (tgt := 54) h30 (by decide +kernel) (fun c129 => ?_) (fun c129 => ?_)
        · exact p127 c129
        · exact n128 c129
    refine sm_icmp_ge (off := 159) (tgt := 184) h14 h15 (by decide +kernel) (fun c133 => ?_) (fun c133 => ?_)
    · exact p131 c133
    · exact n132 c133
set_option maxHeartbeats 4000000 in
theorem ww_writeb_ok {g : GE} (G : GG g) {D : Nat} (rec : Option Nat → ST → Option (Option Nat × ST)) (hrec : ∀ (d : Nat), D ≤ d → ∀ {τ : TT} (a1 : Option Nat) (σ : ST) (Q' : VQ), Sm (V g mX17_write d 0 [(0, vr a1)] [] σ τ Q') (rec a1 σ) (fun r => Q'.1 (some (vr r.1)) r.2 τ)) {τ : TT} (d : Nat) (hd1 : D + 2 ≤ d) (hd2 : 7 ≤ d) (a1 : Option Nat)  (σ : ST) (Q : VQ) : Sm (V g mX17_write d 0 [(0, vr a1)] [] σ τ Q) (ww_writeb (gRm g) rec a1 σ) (fun r => Q.1 (some (vr r.1)) r.2 τ) := by
  unfold ww_writeb
  refine sm_top (fun K hRET => ?_)
  refine sm_gd (fun h1 => ?_)
  refine sm_newRowN (i := 14) (i2 := 89) q1375 rfl q1376 h1 (by omega) rfl (by decide +kernel) (by decide +kernel) (by decide +kernel) ?_
  refine sm_nms (fun σ2 => ?_)
  refine sm_b (l' := [(0, vr a1), (1, vr (some (sZ σ)))]) (st' := [vr a1]) (pc' := 9) [(.astore_n 1, vi 0, 8), (.aload_n 0, vi 0, 9)] (by decide +kernel) rfl rfl ?_
  refine sm_de (fun p3 h4 => ?_)
  refine sm_st [vr (some p3)] (by rw [h4] <;> rfl) ?_
  refine sm_gd (fun h5 => ?_)
  refine sm_gN (k := 0) (x := vr (sR σ2 160 p3)) cd10 rfl h5 rfl q946 rfl (by decide +kernel) ?_
  refine sm_de (fun p6 h7 => ?_)
  refine sm_st [vr (some p6)] (by rw [h7] <;> rfl) ?_
  refine sm_gd (fun h8 => ?_)
  refine sm_gN (k := 7) (x := vr (sR σ2 103 p6)) cd6 rfl h8 rfl q572 rfl (by decide +kernel) ?_
  refine sm_nmr (fun x9 => ?_)
  refine sm_b (l' := [(0, vr a1), (1, vr (some (sZ σ))), (2, vr x9)]) (st' := [vr x9]) (pc' := 17) [(.astore_n 2, vi 0, 16), (.aload_n 2, vi 0, 17)] (by decide +kernel) rfl rfl ?_
  refine sm_de (fun p10 h11 => ?_)
  refine sm_st [vr (some p10)] (by rw [h11] <;> rfl) ?_
  refine sm_gd (fun h12 => ?_)
  refine sm_alF h12 (by decide +kernel) ?_
  refine sm_nmi (fun x13 => ?_)
  refine sm_b (l' := [(0, vr a1), (1, vr (some (sZ σ))), (2, vr x9), (3, vi x13), (4, vi 0)]) (st' := []) (pc' := 22) [(.istore_n 3, vi 0, 19), (.iconst 0, vi 0, 20), (.istore 4, vi 0, 22)] (by decide +kernel) rfl rfl ?_
  exact ww_write_L22_ok G rec hrec d hd1 hd2 a1 (sZ σ) x9 x13  (fun r h => hRET _ h) FU 0 σ2
def ww_write (bb : Nat × Nat) : Nat → Option Nat → ST → Option (Option Nat × ST)
  | 0 => fun _ _ => none
  | n + 1 => fun a1 σ => ww_writeb bb (ww_write bb n) a1 σ
set_option maxHeartbeats 4000000 in
theorem ww_write_ok {g : GE} (G : GG g) (n : Nat) : ∀ (d : Nat), 7 + 2 * n ≤ d → ∀ {τ : TT} (a1 : Option Nat) (σ : ST) (Q : VQ), Sm (V g mX17_write d 0 [(0, vr a1)] [] σ τ Q) (ww_write (gRm g) n a1 σ) (fun r => Q.1 (some (vr r.1)) r.2 τ) := by
  induction n with
  | zero => intro d hd τ a1 σ Q; exact sm_none
  | succ n ih =>
    intro d hd τ a1 σ Q
    exact ww_writeb_ok G (D := 7 + 2 * n) (ww_write (gRm g) n) ih d (by omega) (by omega) a1 σ Q
def ws_wire (bb : Nat × Nat) (a0 : Nat) (a1 : Option Nat) (σ : ST) : Option (Option Nat × ST) := gd (rm bb σ 5) (nm (nO σ 14 5) fun σ2 => gd (sc σ2 a0 = 1) (Option.bind (jr_init bb (sZ σ) (sR σ2 1 a0) (sI σ2 3 a0) σ2) fun y4 => gd (sc y4 (sZ σ) = 14) (Option.bind (jr_read bb (sZ σ) a1 y4) (tC (fun σ10 => some ((none, σ10))) fun y7 σ8 => Option.bind (ww_write bb 12 y7 σ8) fun y12 => some ((y12.1, y12.2))))))
set_option maxHeartbeats 4000000 in
theorem ws_wire_ok {g : GE} (G : GG g) {τ : TT} (d : Nat) (hd1 : 64 ≤ d) (a0 : Nat) (a1 : Option Nat)  (σ : ST) (Q : VQ) : Sm (V g mX0_wire d 0 [(0, vr (some a0)), (1, vr a1)] [] σ τ Q) (ws_wire (gRm g) a0 a1 σ) (fun r => Q.1 (some (vr r.1)) r.2 τ) := by
  unfold ws_wire
  refine sm_top (fun K hRET => ?_)
  refine sm_gd (fun h1 => ?_)
  refine sm_new cd13 rfl q1173 q1174 q162 (new_13 σ) h1 (by decide +kernel) ?_
  refine sm_nms (fun σ2 => ?_)
  refine sm_b (l' := [(0, vr (some a0)), (1, vr a1)]) (st' := [vr (some a0), vr (some (sZ σ)), vr (some (sZ σ))]) (pc' := 5) [(.dup, vi 0, 4), (.aload_n 0, vi 0, 5)] (by decide +kernel) rfl rfl ?_
  refine sm_gd (fun h3 => ?_)
  refine sm_g (k := 1) (x := vr (sR σ2 1 a0)) cd0 rfl h3 rfl q291 rfl (by decide +kernel) ?_
  refine sm_b (l' := [(0, vr (some a0)), (1, vr a1)]) (st' := [vr (some a0), vr (sR σ2 1 a0), vr (some (sZ σ)), vr (some (sZ σ))]) (pc' := 9) [(.aload_n 0, vi 0, 9)] (by decide +kernel) rfl rfl ?_
  refine sm_g (k := 3) (x := vi (sI σ2 3 a0)) cd0 rfl h3 rfl q293 rfl (by decide +kernel) ?_
  refine sm_ciZ (N := mX14_init) (d' := d - 1) [vr (sR σ2 1 a0), vi (sI σ2 3 a0)] [vr (some (sZ σ))] (by decide +kernel) q1175 q1176 rfl q1177 rfl rfl (show okN yX14_init 2 = true by decide +kernel) rfl rfl (by omega) rfl (fun Q' => jr_init_ok G (d - 1) (by omega) (sZ σ) (sR σ2 1 a0) (sI σ2 3 a0) σ2 Q') (fun y4 => ?_)
  refine sm_b (l' := [(0, vr (some a0)), (1, vr a1)]) (st' := [vr a1, vr (some (sZ σ))]) (pc' := 16) [(.aload_n 1, vi 0, 16)] (by decide +kernel) rfl rfl ?_
  refine sm_gd (fun h5 => ?_)
  refine sm_cvC (N := mX14_read) (d' := d - 1) G (fun r : Option Nat => some (vr r)) [vr a1] [] 0 20 23 59 rfl rfl q331 (by decide +kernel) q1216 q1217 q1218 (Or.inl ⟨rfl, q1219⟩) (show okN yX14_read 1 = true by decide +kernel) (fun H hR => hR.rv G.1 cd13 rfl h5) rfl rfl (by omega) rfl (fun Q' => jr_read_ok G (d - 1) (by omega) (sZ σ) a1 y4 Q') (fun z9 σ10 h11 => ?_) (fun y7 σ8 => ?_)
  · refine sm_b (l' := [(0, vr (some a0)), (1, vr a1), (3, vr (some z9))]) (st' := [vr none]) (pc' := 25) [(.astore_n 3, vi 0, 24), (.aconst_null, vi 0, 25)] (by decide +kernel) rfl rfl ?_
    exact sm_aret rfl rfl (by decide +kernel) (fun h => hRET _ h)
  refine sm_b (l' := [(0, vr (some a0)), (1, vr a1), (2, vr y7)]) (st' := [vr y7]) (pc' := 27) [(.astore_n 2, vi 0, 20), (.goto 6, vi 0, 26), (.aload_n 2, vi 0, 27)] (by decide +kernel) rfl rfl ?_
  refine sm_cs (N := mX17_write) (d' := d - 1) (fun r => (some (vr r.1))) (fun r => r.2) (fun _ => τ) [vr y7] [] rfl (by decide +kernel) q1372 q1373 q165 (Or.inl ⟨rfl, q1374⟩) (show okN yX17_write 1 = true by decide +kernel) rfl rfl (by omega) rfl (fun Q' => ww_write_ok G 12 (d - 1) (by omega) y7 σ8 Q') (fun y12 => ?_)
  exact sm_aret rfl rfl (by decide +kernel) (fun h => hRET _ h)
