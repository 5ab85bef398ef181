set_option maxRecDepth 100000
/-! the system: X2_enumOf, X9_resolve, X7_isRight, X6_order -/
def scp_enumOf_L2 (u0 : Nat) (u1 : Option Nat) (σ : ST) : Nat → Int → Option ((Option Nat) ⊕ (Int))
  | 0, _ => none
  | n + 1, w2 => gd (sc σ u0 = 3) (Option.bind (sR σ 34 u0) fun p15 => gd (sc σ p15 = 16) (Option.bind (l_size p15 σ) fun y18 => gd (rg w2) (gd (rg y18) (if y18 ≤ w2 then (some (Sum.inl none)) else (Option.bind (l_get p15 w2 σ) fun y32 => Option.bind y32 fun p33 => gd (sc σ p33 = 8) (Option.bind (sR σ 113 p33) fun p36 => gd (sc σ p36 = 4) (Option.bind (r_same p36 u1 σ) fun y39 => gd (rg y39) (if y39 = 0 then (scp_enumOf_L2 u0 u1 σ n (w2 + 1)) else (some (Sum.inr w2))))))))))
def scp_enumOf (a0 : Nat) (a1 : Option Nat) (σ : ST) : Option (Option Nat) := Option.bind (scp_enumOf_L2 a0 a1 σ FU 0) (Sum.elim some fun (v1 : Int) => gd (sc σ a0 = 3) (Option.bind (sR σ 34 a0) fun p6 => gd (sc σ p6 = 16) (Option.bind (l_get p6 v1 σ) fun y9 => Option.bind y9 fun p10 => gd (sc σ p10 = 8) (some ((some p10))))))
set_option maxHeartbeats 4000000 in
theorem scp_enumOf_L2_ok {g : GE} (G : GG g) {τ : TT} {Q : VQ} (d : Nat) (hd1 : 4 ≤ d) (u0 : Nat) (u1 : Option Nat) (σ : ST)  {K : (Option Nat) ⊕ (Int) → Prop} (hRET : ∀ r : Option Nat, K (Sum.inl r) → Q.1 (some (vr r)) σ τ) (hE34 : ∀ v13 : Int, K (Sum.inr v13) → V g mX2_enumOf d 34 [(0, vr (some u0)), (2, vi v13)] [] σ τ Q) : ∀ (n : Nat) (w2 : Int), Sm (V g mX2_enumOf d 2 [(0, vr (some u0)), (1, vr u1), (2, vi w2)] [] σ τ Q) (scp_enumOf_L2 u0 u1 σ n w2) K := by
  intro n
  induction n with
  | zero => intro w2; exact sm_none
  | succ n ih =>
    intro w2
    rw [scp_enumOf_L2.eq_2]
    refine sm_b (l' := [(0, vr (some u0)), (1, vr u1), (2, vi w2)]) (st' := [vr (some u0), vi w2]) (pc' := 4) [(.iload_n 2, vi 0, 3), (.aload_n 0, vi 0, 4)] (by decide +kernel) rfl rfl ?_
    refine sm_gd (fun h14 => ?_)
    refine sm_g (k := 2) (x := vr (sR σ 34 u0)) cd2 rfl h14 rfl q217 rfl (by decide +kernel) ?_
    refine sm_de (fun p15 h16 => ?_)
    refine sm_st [vr (some p15), vi w2] (by rw [h16] <;> rfl) ?_
    refine sm_gd (fun h17 => ?_)
    refine sm_cv (N := mJ2_size) (d' := d - 1) (fun r => (some (vi r))) (fun _ => σ) (fun _ => τ) [] [vi w2] rfl (by decide +kernel) q881 q519 q520 (Or.inl ⟨rfl, q521⟩) (show okN yJ2_size 0 = true by decide +kernel) (fun H hR => hR.rvL G.1 h17) rfl rfl (by omega) rfl (fun Q' => l_size_ok G (d - 1) (by omega) p15 σ Q') (fun y18 => ?_)
    refine sm_gd (fun h19 => ?_)
    refine sm_gd (fun h20 => ?_)
    refine sm_case (V g mX2_enumOf d 52 [(0, vr (some u0)), (1, vr u1), (2, vi w2)] [] σ τ Q) (V g mX2_enumOf d 13 [(0, vr (some u0)), (1, vr u1), (2, vi w2)] [] σ τ Q) ?_ ?_ (fun f46 p47 n48 => ?_)
    · refine sm_b (l' := [(0, vr (some u0)), (1, vr u1), (2, vi w2)]) (st' := [vr none]) (pc' := 53) [(.aconst_null, vi 0, 53)] (by decide +kernel) rfl rfl ?_
      exact sm_aret rfl rfl (by decide +kernel) (fun h => hRET _ h)
    · refine sm_b (l' := [(0, vr (some u0)), (1, vr u1), (2, vi w2)]) (st' := [vr (some u0)]) (pc' := 14) [(.aload_n 0, vi 0, 14)] (by decide +kernel) rfl rfl ?_
      refine sm_g (k := 2) (x := vr (sR σ 34 u0)) cd2 rfl h14 rfl q217 rfl (by decide +kernel) ?_
      refine sm_b (l' := [(0, vr (some u0)), (1, vr u1), (2, vi w2)]) (st' := [vi w2, vr (sR σ 34 u0)]) (pc' := 18) [(.iload_n 2, vi 0, 18)] (by decide +kernel) rfl rfl ?_
      refine sm_st [vi w2, vr (some p15)] (by rw [h16] <;> rfl) ?_
      refine sm_cv (N := mJ2_get) (d' := d - 1) (fun r => (some (vr r))) (fun _ => σ) (fun _ => τ) [vi w2] [] rfl (by decide +kernel) q882 q791 q792 (Or.inl ⟨rfl, q793⟩) (show okN yJ2_get 1 = true by decide +kernel) (fun H hR => hR.rvL G.1 h17) rfl rfl (by omega) rfl (fun Q' => l_get_ok G (d - 1) (by omega) p15 w2 σ Q') (fun y32 => ?_)
      refine sm_de (fun p33 h34 => ?_)
      refine sm_st [vr (some p33)] (by rw [h34] <;> rfl) ?_
      refine sm_gd (fun h35 => ?_)
      refine sm_cast cd7 q889 (fun H hR => hR.rv G.1 cd7 rfl h35) (by decide +kernel) ?_
      refine sm_gN (k := 1) (x := vr (sR σ 113 p33)) cd7 rfl h35 rfl q668 rfl (by decide +kernel) ?_
      refine sm_b (l' := [(0, vr (some u0)), (1, vr u1), (2, vi w2)]) (st' := [vr u1, vr (sR σ 113 p33)]) (pc' := 28) [(.aload_n 1, vi 0, 28)] (by decide +kernel) rfl rfl ?_
      refine sm_de (fun p36 h37 => ?_)
      refine sm_st [vr u1, vr (some p36)] (by rw [h37] <;> rfl) ?_
      refine sm_gd (fun h38 => ?_)
      refine sm_cv (N := mX3_same) (d' := d - 1) (fun r => (some (vi r))) (fun _ => σ) (fun _ => τ) [vr u1] [] rfl (by decide +kernel) q884 q838 q839 (Or.inl ⟨rfl, q840⟩) (show okN yX3_same 1 = true by decide +kernel) (fun H hR => hR.rvR G.1 h38) rfl rfl (by omega) rfl (fun Q' => r_same_ok G (d - 1) (by omega) p36 u1 σ Q') (fun y39 => ?_)
      refine sm_gd (fun h40 => ?_)
      refine sm_case (V g mX2_enumOf d 46 [(0, vr (some u0)), (1, vr u1), (2, vi w2)] [] σ τ Q) (V g mX2_enumOf d 34 [(0, vr (some u0)), (1, vr u1), (2, vi w2)] [] σ τ Q) ?_ ?_ (fun f42 p43 n44 => ?_)
      · refine sm_b (l' := [(0, vr (some u0)), (1, vr u1), (2, vi (w2 + 1))]) (st' := []) (pc' := 2) [(.iinc 2 1, vi 1, 49), (.goto (-47), vi 0, 2)] (by decide +kernel) rfl rfl ?_
        exact ih (w2 + 1)
      · refine sm_pick [0, 2] (l' := [(0, vr (some u0)), (2, vi w2)]) rfl ?_
        exact sm_leaf (fun h => hE34 _ h)
      refine sm_if_eq (off := 15) (tgt := 46) h40 (by decide +kernel) (fun c45 => ?_) (fun c45 => ?_)
      · exact p43 c45
      · exact n44 c45
    refine sm_icmp_ge (off := 42) (tgt := 52) h19 h20 (by decide +kernel) (fun c49 => ?_) (fun c49 => ?_)
    · exact p47 c49
    · exact n48 c49
set_option maxHeartbeats 4000000 in
theorem scp_enumOf_ok {g : GE} (G : GG g) {τ : TT} (d : Nat) (hd1 : 4 ≤ d) (a0 : Nat) (a1 : Option Nat)  (σ : ST) (Q : VQ) : Sm (V g mX2_enumOf d 0 [(0, vr (some a0)), (1, vr a1)] [] σ τ Q) (scp_enumOf a0 a1 σ) (fun r => Q.1 (some (vr r)) σ τ) := by
  unfold scp_enumOf
  refine sm_top (fun K hRET => ?_)
  refine sm_b (l' := [(0, vr (some a0)), (1, vr a1), (2, vi 0)]) (st' := []) (pc' := 2) [(.iconst 0, vi 0, 1), (.istore_n 2, vi 0, 2)] (by decide +kernel) rfl rfl ?_
  refine sm_bindS (fun (v1 : Int) => V g mX2_enumOf d 34 [(0, vr (some a0)), (2, vi v1)] [] σ τ Q) (fun v1 => ?_) (fun K2 o4 j3 => ?_)
  · refine sm_b (l' := [(0, vr (some a0)), (2, vi v1)]) (st' := [vr (some a0)]) (pc' := 35) [(.aload_n 0, vi 0, 35)] (by decide +kernel) rfl rfl ?_
    refine sm_gd (fun h5 => ?_)
    refine sm_g (k := 2) (x := vr (sR σ 34 a0)) cd2 rfl h5 rfl q217 rfl (by decide +kernel) ?_
    refine sm_b (l' := [(0, vr (some a0)), (2, vi v1)]) (st' := [vi v1, vr (sR σ 34 a0)]) (pc' := 39) [(.iload_n 2, vi 0, 39)] (by decide +kernel) rfl rfl ?_
    refine sm_de (fun p6 h7 => ?_)
    refine sm_st [vi v1, vr (some p6)] (by rw [h7] <;> rfl) ?_
    refine sm_gd (fun h8 => ?_)
    refine sm_cv (N := mJ2_get) (d' := d - 1) (fun r => (some (vr r))) (fun _ => σ) (fun _ => τ) [vi v1] [] rfl (by decide +kernel) q882 q791 q792 (Or.inl ⟨rfl, q793⟩) (show okN yJ2_get 1 = true by decide +kernel) (fun H hR => hR.rvL G.1 h8) rfl rfl (by omega) rfl (fun Q' => l_get_ok G (d - 1) (by omega) p6 v1 σ Q') (fun y9 => ?_)
    refine sm_de (fun p10 h11 => ?_)
    refine sm_st [vr (some p10)] (by rw [h11] <;> rfl) ?_
    refine sm_gd (fun h12 => ?_)
    refine sm_cast cd7 q889 (fun H hR => hR.rv G.1 cd7 rfl h12) (by decide +kernel) ?_
    exact sm_aret rfl rfl (by decide +kernel) (fun h => hRET _ h)
  · exact scp_enumOf_L2_ok G d hd1 a0 a1 σ  (fun r h => hRET _ (o4 _ h)) (fun _ h => j3 _ h) FU 0
def ck_resolve_L78 (bb : Nat × Nat) (u0 : Option Nat) : Nat → Option Nat → Int → ST → Option (ST)
  | 0, _, _, _ => none
  | n + 1, w2, w3, σ => Option.bind u0 fun p63 => gd (sc σ p63 = 9) (Option.bind (sR σ 139 p63) fun p66 => gd (sc σ p66 = 16) (Option.bind (l_size p66 σ) fun y69 => gd (rg w3) (gd (rg y69) (if (y69 ≤ w3) ∨ (w2 = none) then (some σ) else (Option.bind (l_get p66 w3 σ) fun y78 => Option.bind y78 fun p79 => gd (sc σ p79 = 4) (Option.bind (l_size p66 σ) fun y82 => Option.bind (gd (rg (w3 + 1)) (gd (rg y82) (if (w3 + 1) = y82 then (some 1) else (some 0)))) fun (v87 : Int) => Option.bind w2 fun p91 => gd (sc σ p91 = 3) (Option.bind (scp_message p91 (some p79) σ) fun y94 => Option.bind (gd (rg v87) (if v87 = 0 then (some σ) else (nm (pR σ 137 p63 y94) fun σ117 => Option.bind (if y94 = none then (gd (sc σ117 p91 = 3) (Option.bind (scp_enumOf p91 (some p79) σ117) fun y129 => some y129)) else (some none)) fun (v122 : Option Nat) => gd (sc σ117 p63 = 9) (nm (pR σ117 138 p63 v122) fun σ127 => some σ127)))) fun (v97 : ST) => Option.bind (if y94 = none then (some none) else (Option.bind y94 fun p110 => gd (sc v97 p110 = 7) (some ((sR v97 98 p110))))) fun (v106 : Option Nat) => ck_resolve_L78 bb u0 n v106 (w3 + 1) v97)))))))
def ck_resolve_L48 (bb : Nat × Nat) (u0 : Option Nat) (u1 : Nat) (σ : ST) : Nat → Option Nat → Option (Option Nat)
  | 0, _ => none
  | n + 1, w2 => gd (¬ (w2 = none) → ¬ w2 = none) (gd (¬ (w2 = none) → sc σ (ad w2) = 3) (gd (¬ (w2 = none) → ok (scp_message (ad w2) (some u1) σ)) (gd (¬ ((w2 = none) ∨ (¬ ((vo (scp_message (ad w2) (some u1) σ)) = none))) → ¬ w2 = none) (gd (¬ ((w2 = none) ∨ (¬ ((vo (scp_message (ad w2) (some u1) σ)) = none))) → sc σ (ad w2) = 3) (gd (¬ ((w2 = none) ∨ (¬ ((vo (scp_message (ad w2) (some u1) σ)) = none))) → ok (scp_enumOf (ad w2) (some u1) σ)) (if ((w2 = none) ∨ (¬ ((vo (scp_message (ad w2) (some u1) σ)) = none))) ∨ (¬ ((vo (scp_enumOf (ad w2) (some u1) σ)) = none)) then (some w2) else (Option.bind w2 fun p162 => gd (sc σ p162 = 3) (nm (sR σ 32 p162) fun x165 => ck_resolve_L48 bb u0 u1 σ n x165))))))))
def ck_resolve (bb : Nat × Nat) (a1 : Option Nat) (σ : ST) : Option (Int × ST) := Option.bind a1 fun p1 => gd (sc σ p1 = 9) (Option.bind (sR σ 139 p1) fun p4 => gd (sc σ p4 = 16) (Option.bind (l_get p4 0 σ) fun y7 => Option.bind y7 fun p8 => gd (sc σ p8 = 4) (Option.bind (l_size p4 σ) fun y11 => gd (rg y11) (gd (y11 = 1 → ok (ck_scalar (some p8) σ)) (gd (y11 = 1 → rg (vv (ck_scalar (some p8) σ))) (if (y11 = 1) ∧ (¬ ((vv (ck_scalar (some p8) σ)) < 0)) then (Option.bind (ck_scalar (some p8) σ) fun y22 => nm (pI σ 132 p1 y22) fun σ23 => some ((1, σ23))) else (Option.bind (sR σ 128 p1) fun p24 => gd (sc σ p24 = 7) (nm (sR σ 98 p24) fun x27 => Option.bind (ck_resolve_L48 bb a1 p8 σ FU x27) fun (v28 : Option Nat) => Option.bind (ck_resolve_L78 bb a1 FU v28 0 σ) fun (v32 : ST) => gd (sc v32 p1 = 9) (Option.bind (if (sR v32 137 p1) = none then (if (sR v32 138 p1) = none then (some (((-1)))) else (some 32)) else (some 16)) fun (v39 : Int) => nm (pI v32 132 p1 v39) fun σ43 => gd (sc σ43 p1 = 9) (gd (rg (sI σ43 132 p1)) (if (sI σ43 132 p1) < 0 then (some ((0, σ43))) else (some ((1, σ43))))))))))))))
set_option maxHeartbeats 4000000 in
theorem ck_resolve_L78_ok {g : GE} (G : GG g) {τ : TT} {Q : VQ} (d : Nat) (hd1 : 8 ≤ d) (u0 : Option Nat)  {K : ST → Prop} (hE185 : ∀ v62 : ST, K (v62) → V g mX9_resolve d 185 [(0, vr u0)] [] v62 τ Q) : ∀ (n : Nat) (w2 : Option Nat) (w3 : Int) (σ : ST), Sm (V g mX9_resolve d 78 [(0, vr u0), (2, vr w2), (3, vi w3)] [] σ τ Q) (ck_resolve_L78 (gRm g) u0 n w2 w3 σ) K := by
  intro n
  induction n with
  | zero => intro w2 w3 σ; exact sm_none
  | succ n ih =>
    intro w2 w3 σ
    rw [ck_resolve_L78.eq_2]
    refine sm_b (l' := [(0, vr u0), (2, vr w2), (3, vi w3)]) (st' := [vr u0, vi w3]) (pc' := 80) [(.iload_n 3, vi 0, 79), (.aload_n 0, vi 0, 80)] (by decide +kernel) rfl rfl ?_
    refine sm_de (fun p63 h64 => ?_)
    refine sm_st [vr (some p63), vi w3] (by rw [h64] <;> rfl) ?_
    refine sm_gd (fun h65 => ?_)
    refine sm_gN (k := 11) (x := vr (sR σ 139 p63)) cd8 rfl h65 rfl q763 rfl (by decide +kernel) ?_
    refine sm_de (fun p66 h67 => ?_)
    refine sm_st [vr (some p66), vi w3] (by rw [h67] <;> rfl) ?_
    refine sm_gd (fun h68 => ?_)
    refine sm_cv (N := mJ2_size) (d' := d - 1) (fun r => (some (vi r))) (fun _ => σ) (fun _ => τ) [] [vi w3] rfl (by decide +kernel) q834 q519 q520 (Or.inl ⟨rfl, q521⟩) (show okN yJ2_size 0 = true by decide +kernel) (fun H hR => hR.rvL G.1 h68) rfl rfl (by omega) rfl (fun Q' => l_size_ok G (d - 1) (by omega) p66 σ Q') (fun y69 => ?_)
    refine sm_gd (fun h70 => ?_)
    refine sm_gd (fun h71 => ?_)
    refine sm_case (V g mX9_resolve d 185 [(0, vr u0), (2, vr w2), (3, vi w3)] [] σ τ Q) (V g mX9_resolve d 93 [(0, vr u0), (2, vr w2), (3, vi w3)] [] σ τ Q) ?_ ?_ (fun f142 p143 n144 => ?_)
    · refine sm_pick [0] (l' := [(0, vr u0)]) rfl ?_
      exact sm_leaf (fun h => hE185 _ h)
    · refine sm_b (l' := [(0, vr u0), (2, vr w2), (3, vi w3)]) (st' := [vr u0]) (pc' := 94) [(.aload_n 0, vi 0, 94)] (by decide +kernel) rfl rfl ?_
      refine sm_st [vr (some p63)] (by rw [h64] <;> rfl) ?_
      refine sm_gN (k := 11) (x := vr (sR σ 139 p63)) cd8 rfl h65 rfl q763 rfl (by decide +kernel) ?_
      refine sm_b (l' := [(0, vr u0), (2, vr w2), (3, vi w3)]) (st' := [vi w3, vr (sR σ 139 p63)]) (pc' := 98) [(.iload_n 3, vi 0, 98)] (by decide +kernel) rfl rfl ?_
      refine sm_st [vi w3, vr (some p66)] (by rw [h67] <;> rfl) ?_
      refine sm_cv (N := mJ2_get) (d' := d - 1) (fun r => (some (vr r))) (fun _ => σ) (fun _ => τ) [vi w3] [] rfl (by decide +kernel) q835 q791 q792 (Or.inl ⟨rfl, q793⟩) (show okN yJ2_get 1 = true by decide +kernel) (fun H hR => hR.rvL G.1 h68) rfl rfl (by omega) rfl (fun Q' => l_get_ok G (d - 1) (by omega) p66 w3 σ Q') (fun y78 => ?_)
      refine sm_de (fun p79 h80 => ?_)
      refine sm_st [vr (some p79)] (by rw [h80] <;> rfl) ?_
      refine sm_gd (fun h81 => ?_)
      refine sm_cast cd3 q836 (fun H hR => hR.rvR G.1 h81) (by decide +kernel) ?_
      refine sm_b (l' := [(0, vr u0), (2, vr w2), (3, vi w3), (4, vr (some p79))]) (st' := [vr u0, vi (w3 + 1)]) (pc' := 110) [(.astore 4, vi 0, 106), (.iload_n 3, vi 0, 107), (.iconst 1, vi 1, 108), (.iadd, vi 0, 109), (.aload_n 0, vi 0, 110)] (by decide +kernel) rfl rfl ?_
      refine sm_st [vr (some p63), vi (w3 + 1)] (by rw [h64] <;> rfl) ?_
      refine sm_gN (k := 11) (x := vr (sR σ 139 p63)) cd8 rfl h65 rfl q763 rfl (by decide +kernel) ?_
      refine sm_st [vr (some p66), vi (w3 + 1)] (by rw [h67] <;> rfl) ?_
      refine sm_cv (N := mJ2_size) (d' := d - 1) (fun r => (some (vi r))) (fun _ => σ) (fun _ => τ) [] [vi (w3 + 1)] rfl (by decide +kernel) q834 q519 q520 (Or.inl ⟨rfl, q521⟩) (show okN yJ2_size 0 = true by decide +kernel) (fun H hR => hR.rvL G.1 h68) rfl rfl (by omega) rfl (fun Q' => l_size_ok G (d - 1) (by omega) p66 σ Q') (fun y82 => ?_)
      refine sm_bind1 (fun (v87 : Int) => V g mX9_resolve d 124 [(0, vr u0), (2, vr w2), (3, vi w3), (4, vr (some p79))] [vi v87] σ τ Q) (fun v87 => ?_) (fun K88 j89 => ?_)
      · refine sm_b (l' := [(0, vr u0), (2, vr w2), (3, vi w3), (4, vr (some p79)), (5, vi v87)]) (st' := [vr (some p79), vr w2]) (pc' := 129) [(.istore 5, vi 0, 126), (.aload_n 2, vi 0, 127), (.aload 4, vi 0, 129)] (by decide +kernel) rfl rfl ?_
        refine sm_de (fun p91 h92 => ?_)
        refine sm_st [vr (some p79), vr (some p91)] (by rw [h92] <;> rfl) ?_
        refine sm_gd (fun h93 => ?_)
        refine sm_cv (N := mX2_message) (d' := d - 1) (fun r => (some (vr r))) (fun _ => σ) (fun _ => τ) [vr (some p79)] [] rfl (by decide +kernel) q877 q878 q879 (Or.inl ⟨rfl, q880⟩) (show okN yX2_message 1 = true by decide +kernel) (fun H hR => hR.rv G.1 cd2 rfl h93) rfl rfl (by omega) rfl (fun Q' => scp_message_ok G (d - 1) (by omega) p91 (some p79) σ Q') (fun y94 => ?_)
        refine sm_b (l' := [(0, vr u0), (2, vr w2), (3, vi w3), (4, vr (some p79)), (5, vi v87), (6, vr y94)]) (st' := [vi v87]) (pc' := 136) [(.astore 6, vi 0, 134), (.iload 5, vi 0, 136)] (by decide +kernel) rfl rfl ?_
        refine sm_bind1 (fun (v97 : ST) => V g mX9_resolve d 164 [(0, vr u0), (3, vi w3), (6, vr y94)] [] v97 τ Q) (fun v97 => ?_) (fun K98 j99 => ?_)
        · refine sm_b (l' := [(0, vr u0), (3, vi w3), (6, vr y94)]) (st' := [vr y94]) (pc' := 166) [(.aload 6, vi 0, 166)] (by decide +kernel) rfl rfl ?_
          refine sm_bind1 (fun (v106 : Option Nat) => V g mX9_resolve d 178 [(0, vr u0), (3, vi w3)] [vr v106] v97 τ Q) (fun v106 => ?_) (fun K107 j108 => ?_)
          · refine sm_b (l' := [(0, vr u0), (3, vi (w3 + 1)), (2, vr v106)]) (st' := []) (pc' := 78) [(.astore_n 2, vi 0, 179), (.iinc 3 1, vi 1, 182), (.goto (-104), vi 0, 78)] (by decide +kernel) rfl rfl ?_
            refine sm_pick [0, 2, 1] (l' := [(0, vr u0), (2, vr v106), (3, vi (w3 + 1))]) rfl ?_
            exact ih v106 (w3 + 1) v97
          · refine sm_case (V g mX9_resolve d 169 [(0, vr u0), (3, vi w3), (6, vr y94)] [] v97 τ Q) (V g mX9_resolve d 173 [(0, vr u0), (3, vi w3), (6, vr y94)] [] v97 τ Q) ?_ ?_ (fun f113 p114 n115 => ?_)
            · refine sm_b (l' := [(0, vr u0), (3, vi w3), (6, vr y94)]) (st' := [vr none]) (pc' := 178) [(.aconst_null, vi 0, 170), (.goto 8, vi 0, 178)] (by decide +kernel) rfl rfl ?_
              refine sm_pick [0, 1] (l' := [(0, vr u0), (3, vi w3)]) rfl ?_
              exact sm_leaf (fun h => j108 _ h)
            · refine sm_b (l' := [(0, vr u0), (3, vi w3), (6, vr y94)]) (st' := [vr y94]) (pc' := 175) [(.aload 6, vi 0, 175)] (by decide +kernel) rfl rfl ?_
              refine sm_de (fun p110 h111 => ?_)
              refine sm_st [vr (some p110)] (by rw [h111] <;> rfl) ?_
              refine sm_gd (fun h112 => ?_)
              refine sm_gN (k := 2) (x := vr (sR v97 98 p110)) cd6 rfl h112 rfl q558 rfl (by decide +kernel) ?_
              refine sm_pick [0, 1] (l' := [(0, vr u0), (3, vi w3)]) rfl ?_
              exact sm_leaf (fun h => j108 _ h)
            refine sm_ifnonnull (off := 7) (tgt := 173) (by decide +kernel) (fun c116 => ?_) (fun c116 => ?_)
            · exact n115 c116
            · exact p114 c116
        · refine sm_gd (fun h95 => ?_)
          refine sm_case (V g mX9_resolve d 164 [(0, vr u0), (2, vr w2), (3, vi w3), (4, vr (some p79)), (5, vi v87), (6, vr y94)] [] σ τ Q) (V g mX9_resolve d 139 [(0, vr u0), (2, vr w2), (3, vi w3), (4, vr (some p79)), (5, vi v87), (6, vr y94)] [] σ τ Q) ?_ ?_ (fun f134 p135 n136 => ?_)
          · refine sm_pick [0, 2, 5] (l' := [(0, vr u0), (3, vi w3), (6, vr y94)]) rfl ?_
            exact sm_leaf (fun h => j99 _ h)
          · refine sm_b (l' := [(0, vr u0), (2, vr w2), (3, vi w3), (4, vr (some p79)), (5, vi v87), (6, vr y94)]) (st' := [vr y94, vr u0]) (pc' := 142) [(.aload_n 0, vi 0, 140), (.aload 6, vi 0, 142)] (by decide +kernel) rfl rfl ?_
            refine sm_st [vr y94, vr (some p63)] (by rw [h64] <;> rfl) ?_
            refine sm_pN (k := 9) (x := vr y94) cd8 rfl h65 rfl q754 rfl (nar_r _ rfl) (fit_r _ rfl) rfl (at_pR σ 137 p63 y94) (fp_137 σ p63 y94) (by decide +kernel) ?_
            refine sm_nms (fun σ117 => ?_)
            refine sm_b (l' := [(0, vr u0), (2, vr w2), (3, vi w3), (4, vr (some p79)), (5, vi v87), (6, vr y94)]) (st' := [vr y94, vr u0]) (pc' := 148) [(.aload_n 0, vi 0, 146), (.aload 6, vi 0, 148)] (by decide +kernel) rfl rfl ?_
            refine sm_bind1 (fun (v122 : Option Nat) => V g mX9_resolve d 161 [(0, vr u0), (3, vi w3), (6, vr y94)] [vr v122, vr u0] σ117 τ Q) (fun v122 => ?_) (fun K123 j124 => ?_)
            · refine sm_st [vr v122, vr (some p63)] (by rw [h64] <;> rfl) ?_
              refine sm_gd (fun h126 => ?_)
              refine sm_pN (k := 10) (x := vr v122) cd8 rfl h126 rfl q759 rfl (nar_r _ rfl) (fit_r _ rfl) rfl (at_pR σ117 138 p63 v122) (fp_138 σ117 p63 v122) (by decide +kernel) ?_
              refine sm_nms (fun σ127 => ?_)
              exact sm_leaf (fun h => j99 _ h)
            · refine sm_case (V g mX9_resolve d 151 [(0, vr u0), (2, vr w2), (3, vi w3), (4, vr (some p79)), (5, vi v87), (6, vr y94)] [vr u0] σ117 τ Q) (V g mX9_resolve d 160 [(0, vr u0), (2, vr w2), (3, vi w3), (4, vr (some p79)), (5, vi v87), (6, vr y94)] [vr u0] σ117 τ Q) ?_ ?_ (fun f130 p131 n132 => ?_)
              · refine sm_b (l' := [(0, vr u0), (2, vr w2), (3, vi w3), (4, vr (some p79)), (5, vi v87), (6, vr y94)]) (st' := [vr (some p79), vr w2, vr u0]) (pc' := 154) [(.aload_n 2, vi 0, 152), (.aload 4, vi 0, 154)] (by decide +kernel) rfl rfl ?_
                refine sm_st [vr (some p79), vr (some p91), vr u0] (by rw [h92] <;> rfl) ?_
                refine sm_gd (fun h128 => ?_)
                refine sm_cv (N := mX2_enumOf) (d' := d - 1) (fun r => (some (vr r))) (fun _ => σ117) (fun _ => τ) [vr (some p79)] [vr u0] rfl (by decide +kernel) q885 q886 q887 (Or.inl ⟨rfl, q888⟩) (show okN yX2_enumOf 1 = true by decide +kernel) (fun H hR => hR.rv G.1 cd2 rfl h128) rfl rfl (by omega) rfl (fun Q' => scp_enumOf_ok G (d - 1) (by omega) p91 (some p79) σ117 Q') (fun y129 => ?_)
                refine sm_b (l' := [(0, vr u0), (2, vr w2), (3, vi w3), (4, vr (some p79)), (5, vi v87), (6, vr y94)]) (st' := [vr y129, vr u0]) (pc' := 161) [(.goto 4, vi 0, 161)] (by decide +kernel) rfl rfl ?_
                refine sm_pick [0, 2, 5] (l' := [(0, vr u0), (3, vi w3), (6, vr y94)]) rfl ?_
                exact sm_leaf (fun h => j124 _ h)
              · refine sm_b (l' := [(0, vr u0), (2, vr w2), (3, vi w3), (4, vr (some p79)), (5, vi v87), (6, vr y94)]) (st' := [vr none, vr u0]) (pc' := 161) [(.aconst_null, vi 0, 161)] (by decide +kernel) rfl rfl ?_
                refine sm_pick [0, 2, 5] (l' := [(0, vr u0), (3, vi w3), (6, vr y94)]) rfl ?_
                exact sm_leaf (fun h => j124 _ h)
              refine sm_ifnonnull (off := 12) (tgt := 160) (by decide +kernel) (fun c133 => ?_) (fun c133 => ?_)
              · exact n132 c133
              · exact p131 c133
          refine sm_if_eq (off := 28) (tgt := 164) h95 (by decide +kernel) (fun c137 => ?_) (fun c137 => ?_)
          · exact p135 c137
          · exact n136 c137
      · refine sm_gd (fun h83 => ?_)
        refine sm_gd (fun h84 => ?_)
        refine sm_case (V g mX9_resolve d 119 [(0, vr u0), (2, vr w2), (3, vi w3), (4, vr (some p79))] [] σ τ Q) (V g mX9_resolve d 123 [(0, vr u0), (2, vr w2), (3, vi w3), (4, vr (some p79))] [] σ τ Q) ?_ ?_ (fun f138 p139 n140 => ?_)
        · refine sm_b (l' := [(0, vr u0), (2, vr w2), (3, vi w3), (4, vr (some p79))]) (st' := [vi 1]) (pc' := 124) [(.iconst 1, vi 1, 120), (.goto 4, vi 0, 124)] (by decide +kernel) rfl rfl ?_
          exact sm_leaf (fun h => j89 _ h)
        · refine sm_b (l' := [(0, vr u0), (2, vr w2), (3, vi w3), (4, vr (some p79))]) (st' := [vi 0]) (pc' := 124) [(.iconst 0, vi 0, 124)] (by decide +kernel) rfl rfl ?_
          exact sm_leaf (fun h => j89 _ h)
        refine sm_icmp_ne (off := 7) (tgt := 123) h83 h84 (by decide +kernel) (fun c141 => ?_) (fun c141 => ?_)
        · exact n140 c141
        · exact p139 c141
    refine sm_icmp_ge (off := 99) (tgt := 185) h70 h71 (by decide +kernel) (fun c145 => ?_) (fun c145 => ?_)
    · exact p143 (Or.inl c145)
    · refine sm_b (l' := [(0, vr u0), (2, vr w2), (3, vi w3)]) (st' := [vr w2]) (pc' := 90) [(.aload_n 2, vi 0, 90)] (by decide +kernel) rfl rfl ?_
      refine sm_ifnull (off := 95) (tgt := 185) (by decide +kernel) (fun c146 => ?_) (fun c146 => ?_)
      · exact p143 (Or.inr c146)
      · exact n144 (fun q => q.elim c145 c146)
set_option maxHeartbeats 4000000 in
theorem ck_resolve_L48_ok {g : GE} (G : GG g) {τ : TT} {Q : VQ} (d : Nat) (hd1 : 8 ≤ d) (u0 : Option Nat) (u1 : Nat) (σ : ST)  {K : Option Nat → Prop} (hE76 : ∀ v147 : Option Nat, K (v147) → V g mX9_resolve d 76 [(0, vr u0), (2, vr v147)] [] σ τ Q) : ∀ (n : Nat) (w2 : Option Nat), Sm (V g mX9_resolve d 48 [(0, vr u0), (1, vr (some u1)), (2, vr w2)] [] σ τ Q) (ck_resolve_L48 (gRm g) u0 u1 σ n w2) K := by
  intro n
  induction n with
  | zero => intro w2; exact sm_none
  | succ n ih =>
    intro w2
    rw [ck_resolve_L48.eq_2]
    refine sm_b (l' := [(0, vr u0), (1, vr (some u1)), (2, vr w2)]) (st' := [vr w2]) (pc' := 49) [(.aload_n 2, vi 0, 49)] (by decide +kernel) rfl rfl ?_
    refine sm_gd (fun h149 => ?_)
    refine sm_gd (fun h151 => ?_)
    refine sm_gd (fun h152 => ?_)
    refine sm_gd (fun h154 => ?_)
    refine sm_gd (fun h156 => ?_)
    refine sm_gd (fun h157 => ?_)
    refine sm_case (V g mX9_resolve d 76 [(0, vr u0), (1, vr (some u1)), (2, vr w2)] [] σ τ Q) (V g mX9_resolve d 68 [(0, vr u0), (1, vr (some u1)), (2, vr w2)] [] σ τ Q) ?_ ?_ (fun f166 p167 n168 => ?_)
    · refine sm_pick [0, 2] (l' := [(0, vr u0), (2, vr w2)]) rfl ?_
      exact sm_leaf (fun h => hE76 _ h)
    · refine sm_b (l' := [(0, vr u0), (1, vr (some u1)), (2, vr w2)]) (st' := [vr w2]) (pc' := 69) [(.aload_n 2, vi 0, 69)] (by decide +kernel) rfl rfl ?_
      refine sm_de (fun p162 h163 => ?_)
      refine sm_st [vr (some p162)] (by rw [h163] <;> rfl) ?_
      refine sm_gd (fun h164 => ?_)
      refine sm_gN (k := 0) (x := vr (sR σ 32 p162)) cd2 rfl h164 rfl q214 rfl (by decide +kernel) ?_
      refine sm_nmr (fun x165 => ?_)
      refine sm_b (l' := [(0, vr u0), (1, vr (some u1)), (2, vr x165)]) (st' := []) (pc' := 48) [(.astore_n 2, vi 0, 73), (.goto (-25), vi 0, 48)] (by decide +kernel) rfl rfl ?_
      exact ih x165
    refine sm_ifnull (off := 27) (tgt := 76) (by decide +kernel) (fun c169 => ?_) (fun c169 => ?_)
    · exact p167 (Or.inl (Or.inl c169))
    · have w148 : ¬ (w2 = none) := c169
      refine sm_b (l' := [(0, vr u0), (1, vr (some u1)), (2, vr w2)]) (st' := [vr (some u1), vr w2]) (pc' := 54) [(.aload_n 2, vi 0, 53), (.aload_n 1, vi 0, 54)] (by decide +kernel) rfl rfl ?_
      have q150 := (ad_some (h149 w148))
      refine sm_st [vr (some u1), vr (some (ad w2))] (congrArg (fun z => [vr (some u1), vr z]) q150) ?_
      refine sm_cvp (N := mX2_message) (d' := d - 1) (fun r => (some (vr r))) (some (vr (vo (scp_message (ad w2) (some u1) σ)))) (h152 w148) (fun y h => by rw [vo_some h]) [vr (some u1)] [] rfl (by decide +kernel) q877 q878 q879 (Or.inl ⟨rfl, q880⟩) (show okN yX2_message 1 = true by decide +kernel) (fun H hR => hR.rv G.1 cd2 rfl (h151 w148)) rfl rfl (by omega) rfl (fun Q' => scp_message_ok G (d - 1) (by omega) (ad w2) (some u1) σ Q') ?_
      refine sm_ifnonnull (off := 19) (tgt := 76) (by decide +kernel) (fun c170 => ?_) (fun c170 => ?_)
      · exact p167 (Or.inl (Or.inr c170))
      · have w153 : ¬ ((w2 = none) ∨ (¬ ((vo (scp_message (ad w2) (some u1) σ)) = none))) := (fun q => q.elim c169 (fun q => q c170))
        refine sm_b (l' := [(0, vr u0), (1, vr (some u1)), (2, vr w2)]) (st' := [vr (some u1), vr w2]) (pc' := 62) [(.aload_n 2, vi 0, 61), (.aload_n 1, vi 0, 62)] (by decide +kernel) rfl rfl ?_
        have q155 := (ad_some (h154 w153))
        refine sm_st [vr (some u1), vr (some (ad w2))] (congrArg (fun z => [vr (some u1), vr z]) q155) ?_
        refine sm_cvp (N := mX2_enumOf) (d' := d - 1) (fun r => (some (vr r))) (some (vr (vo (scp_enumOf (ad w2) (some u1) σ)))) (h157 w153) (fun y h => by rw [vo_some h]) [vr (some u1)] [] rfl (by decide +kernel) q885 q886 q887 (Or.inl ⟨rfl, q888⟩) (show okN yX2_enumOf 1 = true by decide +kernel) (fun H hR => hR.rv G.1 cd2 rfl (h156 w153)) rfl rfl (by omega) rfl (fun Q' => scp_enumOf_ok G (d - 1) (by omega) (ad w2) (some u1) σ Q') ?_
        refine sm_ifnonnull (off := 11) (tgt := 76) (by decide +kernel) (fun c171 => ?_) (fun c171 => ?_)
        · exact p167 (Or.inr c171)
        · exact n168 (fun q => q.elim (fun q => q.elim c169 (fun q => q c170)) (fun q => q c171))
set_option maxHeartbeats 4000000 in
theorem ck_resolve_ok {g : GE} (G : GG g) {τ : TT} (d : Nat) (hd1 : 8 ≤ d) (a1 : Option Nat)  (σ : ST) (Q : VQ) : Sm (V g mX9_resolve d 0 [(0, vr a1)] [] σ τ Q) (ck_resolve (gRm g) a1 σ) (fun r => Q.1 (some (vi r.1)) r.2 τ) := by
  unfold ck_resolve
  refine sm_top (fun K hRET => ?_)
  refine sm_b (l' := [(0, vr a1)]) (st' := [vr a1]) (pc' := 1) [(.aload_n 0, vi 0, 1)] (by decide +kernel) rfl rfl ?_
  refine sm_de (fun p1 h2 => ?_)
  refine sm_st [vr (some p1)] (by rw [h2] <;> rfl) ?_
  refine sm_gd (fun h3 => ?_)
  refine sm_gN (k := 11) (x := vr (sR σ 139 p1)) cd8 rfl h3 rfl q763 rfl (by decide +kernel) ?_
  refine sm_b (l' := [(0, vr a1)]) (st' := [vi 0, vr (sR σ 139 p1)]) (pc' := 5) [(.iconst 0, vi 0, 5)] (by decide +kernel) rfl rfl ?_
  refine sm_de (fun p4 h5 => ?_)
  refine sm_st [vi 0, vr (some p4)] (by rw [h5] <;> rfl) ?_
  refine sm_gd (fun h6 => ?_)
  refine sm_cv (N := mJ2_get) (d' := d - 1) (fun r => (some (vr r))) (fun _ => σ) (fun _ => τ) [vi 0] [] rfl (by decide +kernel) q835 q791 q792 (Or.inl ⟨rfl, q793⟩) (show okN yJ2_get 1 = true by decide +kernel) (fun H hR => hR.rvL G.1 h6) rfl rfl (by omega) rfl (fun Q' => l_get_ok G (d - 1) (by omega) p4 0 σ Q') (fun y7 => ?_)
  refine sm_de (fun p8 h9 => ?_)
  refine sm_st [vr (some p8)] (by rw [h9] <;> rfl) ?_
  refine sm_gd (fun h10 => ?_)
  refine sm_cast cd3 q836 (fun H hR => hR.rvR G.1 h10) (by decide +kernel) ?_
  refine sm_b (l' := [(0, vr a1), (1, vr (some p8))]) (st' := [vr a1]) (pc' := 13) [(.astore_n 1, vi 0, 12), (.aload_n 0, vi 0, 13)] (by decide +kernel) rfl rfl ?_
  refine sm_st [vr (some p1)] (by rw [h2] <;> rfl) ?_
  refine sm_gN (k := 11) (x := vr (sR σ 139 p1)) cd8 rfl h3 rfl q763 rfl (by decide +kernel) ?_
  refine sm_st [vr (some p4)] (by rw [h5] <;> rfl) ?_
  refine sm_cv (N := mJ2_size) (d' := d - 1) (fun r => (some (vi r))) (fun _ => σ) (fun _ => τ) [] [] rfl (by decide +kernel) q834 q519 q520 (Or.inl ⟨rfl, q521⟩) (show okN yJ2_size 0 = true by decide +kernel) (fun H hR => hR.rvL G.1 h6) rfl rfl (by omega) rfl (fun Q' => l_size_ok G (d - 1) (by omega) p4 σ Q') (fun y11 => ?_)
  refine sm_b (l' := [(0, vr a1), (1, vr (some p8))]) (st' := [vi 1, vi y11]) (pc' := 20) [(.iconst 1, vi 1, 20)] (by decide +kernel) rfl rfl ?_
  refine sm_gd (fun h12 => ?_)
  refine sm_gd (fun h14 => ?_)
  refine sm_gd (fun h15 => ?_)
  refine sm_case (V g mX9_resolve d 30 [(0, vr a1), (1, vr (some p8))] [] σ τ Q) (V g mX9_resolve d 40 [(0, vr a1), (1, vr (some p8))] [] σ τ Q) ?_ ?_ (fun f172 p173 n174 => ?_)
  · refine sm_b (l' := [(0, vr a1), (1, vr (some p8))]) (st' := [vr (some p8), vr a1]) (pc' := 32) [(.aload_n 0, vi 0, 31), (.aload_n 1, vi 0, 32)] (by decide +kernel) rfl rfl ?_
    refine sm_cs (N := mX9_scalar) (d' := d - 1) (fun r => (some (vi r))) (fun _ => σ) (fun _ => τ) [vr (some p8)] [vr a1] rfl (by decide +kernel) q857 q858 q156 (Or.inl ⟨rfl, q859⟩) (show okN yX9_scalar 1 = true by decide +kernel) rfl rfl (by omega) rfl (fun Q' => ck_scalar_ok G (d - 1) (by omega) (some p8) σ Q') (fun y22 => ?_)
    refine sm_st [vi y22, vr (some p1)] (by rw [h2] <;> rfl) ?_
    refine sm_pN (k := 4) (x := vi y22) cd8 rfl h3 rfl q733 rfl (nar_i _) (fit_i _) rfl (at_pI σ 132 p1 y22) (fp_132 σ p1 y22) (by decide +kernel) ?_
    refine sm_nms (fun σ23 => ?_)
    refine sm_b (l' := [(0, vr a1), (1, vr (some p8))]) (st' := [vi 1]) (pc' := 39) [(.iconst 1, vi 1, 39)] (by decide +kernel) rfl rfl ?_
    exact sm_zret rfl (by decide +kernel) (by decide) (fun h => hRET _ h)
  · refine sm_b (l' := [(0, vr a1), (1, vr (some p8))]) (st' := [vr a1]) (pc' := 41) [(.aload_n 0, vi 0, 41)] (by decide +kernel) rfl rfl ?_
    refine sm_st [vr (some p1)] (by rw [h2] <;> rfl) ?_
    refine sm_gN (k := 0) (x := vr (sR σ 128 p1)) cd8 rfl h3 rfl q715 rfl (by decide +kernel) ?_
    refine sm_de (fun p24 h25 => ?_)
    refine sm_st [vr (some p24)] (by rw [h25] <;> rfl) ?_
    refine sm_gd (fun h26 => ?_)
    refine sm_gN (k := 2) (x := vr (sR σ 98 p24)) cd6 rfl h26 rfl q558 rfl (by decide +kernel) ?_
    refine sm_nmr (fun x27 => ?_)
    refine sm_b (l' := [(0, vr a1), (1, vr (some p8)), (2, vr x27)]) (st' := []) (pc' := 48) [(.astore_n 2, vi 0, 48)] (by decide +kernel) rfl rfl ?_
    refine sm_bind1 (fun (v28 : Option Nat) => V g mX9_resolve d 76 [(0, vr a1), (2, vr v28)] [] σ τ Q) (fun v28 => ?_) (fun K29 j30 => ?_)
    · refine sm_b (l' := [(0, vr a1), (2, vr v28), (3, vi 0)]) (st' := []) (pc' := 78) [(.iconst 0, vi 0, 77), (.istore_n 3, vi 0, 78)] (by decide +kernel) rfl rfl ?_
      refine sm_bind1 (fun (v32 : ST) => V g mX9_resolve d 185 [(0, vr a1)] [] v32 τ Q) (fun v32 => ?_) (fun K33 j34 => ?_)
      · refine sm_b (l' := [(0, vr a1)]) (st' := [vr a1, vr a1]) (pc' := 187) [(.aload_n 0, vi 0, 186), (.aload_n 0, vi 0, 187)] (by decide +kernel) rfl rfl ?_
        refine sm_st [vr (some p1), vr a1] (by rw [h2] <;> rfl) ?_
        refine sm_gd (fun h36 => ?_)
        refine sm_gN (k := 9) (x := vr (sR v32 137 p1)) cd8 rfl h36 rfl q754 rfl (by decide +kernel) ?_
        refine sm_bind1 (fun (v39 : Int) => V g mX9_resolve d 211 [(0, vr a1)] [vi v39, vr a1] v32 τ Q) (fun v39 => ?_) (fun K40 j41 => ?_)
        · refine sm_st [vi v39, vr (some p1)] (by rw [h2] <;> rfl) ?_
          refine sm_pN (k := 4) (x := vi v39) cd8 rfl h36 rfl q733 rfl (nar_i _) (fit_i _) rfl (at_pI v32 132 p1 v39) (fp_132 v32 p1 v39) (by decide +kernel) ?_
          refine sm_nms (fun σ43 => ?_)
          refine sm_b (l' := [(0, vr a1)]) (st' := [vr a1]) (pc' := 215) [(.aload_n 0, vi 0, 215)] (by decide +kernel) rfl rfl ?_
          refine sm_st [vr (some p1)] (by rw [h2] <;> rfl) ?_
          refine sm_gd (fun h44 => ?_)
          refine sm_gN (k := 4) (x := vi (sI σ43 132 p1)) cd8 rfl h44 rfl q733 rfl (by decide +kernel) ?_
          refine sm_gd (fun h45 => ?_)
          refine sm_case (V g mX9_resolve d 225 [(0, vr a1)] [] σ43 τ Q) (V g mX9_resolve d 221 [(0, vr a1)] [] σ43 τ Q) ?_ ?_ (fun f48 p49 n50 => ?_)
          · refine sm_b (l' := [(0, vr a1)]) (st' := [vi 0]) (pc' := 226) [(.iconst 0, vi 0, 226)] (by decide +kernel) rfl rfl ?_
            exact sm_zret rfl (by decide +kernel) (by decide) (fun h => hRET _ h)
          · refine sm_b (l' := [(0, vr a1)]) (st' := [vi 1]) (pc' := 226) [(.iconst 1, vi 1, 222), (.goto 4, vi 0, 226)] (by decide +kernel) rfl rfl ?_
            exact sm_zret rfl (by decide +kernel) (by decide) (fun h => hRET _ h)
          refine sm_if_lt (off := 7) (tgt := 225) h45 (by decide +kernel) (fun c51 => ?_) (fun c51 => ?_)
          · exact p49 c51
          · exact n50 c51
        · refine sm_case (V g mX9_resolve d 198 [(0, vr a1)] [vr a1] v32 τ Q) (V g mX9_resolve d 193 [(0, vr a1)] [vr a1] v32 τ Q) ?_ ?_ (fun f58 p59 n60 => ?_)
          · refine sm_b (l' := [(0, vr a1)]) (st' := [vr a1, vr a1]) (pc' := 199) [(.aload_n 0, vi 0, 199)] (by decide +kernel) rfl rfl ?_
            refine sm_st [vr (some p1), vr a1] (by rw [h2] <;> rfl) ?_
            refine sm_gN (k := 10) (x := vr (sR v32 138 p1)) cd8 rfl h36 rfl q759 rfl (by decide +kernel) ?_
            refine sm_case (V g mX9_resolve d 210 [(0, vr a1)] [vr a1] v32 τ Q) (V g mX9_resolve d 205 [(0, vr a1)] [vr a1] v32 τ Q) ?_ ?_ (fun f54 p55 n56 => ?_)
            · refine sm_b (l' := [(0, vr a1)]) (st' := [vi ((-1)), vr a1]) (pc' := 211) [(.iconst (-1), vi (-1), 211)] (by decide +kernel) rfl rfl ?_
              exact sm_leaf (fun h => j41 _ h)
            · refine sm_b (l' := [(0, vr a1)]) (st' := [vi 32, vr a1]) (pc' := 211) [(.bipush 32, vi 32, 207), (.goto 4, vi 0, 211)] (by decide +kernel) rfl rfl ?_
              exact sm_leaf (fun h => j41 _ h)
            refine sm_ifnull (off := 8) (tgt := 210) (by decide +kernel) (fun c57 => ?_) (fun c57 => ?_)
            · exact p55 c57
            · exact n56 c57
          · refine sm_b (l' := [(0, vr a1)]) (st' := [vi 16, vr a1]) (pc' := 211) [(.bipush 16, vi 16, 195), (.goto 16, vi 0, 211)] (by decide +kernel) rfl rfl ?_
            exact sm_leaf (fun h => j41 _ h)
          refine sm_ifnull (off := 8) (tgt := 198) (by decide +kernel) (fun c61 => ?_) (fun c61 => ?_)
          · exact p59 c61
          · exact n60 c61
      · exact ck_resolve_L78_ok G d hd1 a1  (fun _ h => j34 _ h) FU v28 0 σ
    · exact ck_resolve_L48_ok G d hd1 a1 p8 σ  (fun _ h => j30 _ h) FU x27
  refine sm_icmp_ne (off := 20) (tgt := 40) h12 (by decide) (by decide +kernel) (fun c175 => ?_) (fun c175 => ?_)
  · exact n174 (fun q => c175 q.1)
  · have w13 : y11 = 1 := c175
    refine sm_b (l' := [(0, vr a1), (1, vr (some p8))]) (st' := [vr (some p8)]) (pc' := 24) [(.aload_n 1, vi 0, 24)] (by decide +kernel) rfl rfl ?_
    refine sm_csp (N := mX9_scalar) (d' := d - 1) (fun r => (some (vi r))) (some (vi (vv (ck_scalar (some p8) σ)))) (h14 w13) (fun y h => by rw [vv_some h]) [vr (some p8)] [] rfl (by decide +kernel) q857 q858 q156 (Or.inl ⟨rfl, q859⟩) (show okN yX9_scalar 1 = true by decide +kernel) rfl rfl (by omega) rfl (fun Q' => ck_scalar_ok G (d - 1) (by omega) (some p8) σ Q') ?_
    refine sm_if_lt (off := 13) (tgt := 40) (h15 w13) (by decide +kernel) (fun c176 => ?_) (fun c176 => ?_)
    · exact n174 (fun q => (fun q => q c176) q.2)
    · exact p173 ⟨c175, c176⟩
def et_isRight_L30 (u0 : Nat) (u2 : Int) (σ : ST) : Nat → Int → Int → Option (Int)
  | 0, _, _ => none
  | n + 1, w1, w3 => gd (rg w3) (gd (rg u2) (if u2 ≤ w3 then (some w1) else (Option.bind (gd (rg w1) (gd (¬ (w1 = 0) → sc σ u0 = 8) (gd (¬ (w1 = 0) → ¬ (sR σ 115 u0) = none) (gd (¬ (w1 = 0) → sc σ (ad (sR σ 115 u0)) = 102) (gd (¬ (w1 = 0) → ib u2 (sN σ (ad (sR σ 115 u0)))) (gd (¬ (w1 = 0) → ib w3 (sN σ (ad (sR σ 115 u0)))) (gd (¬ (w1 = 0) → rg (sE σ (ad (sR σ 115 u0)) u2.toNat)) (gd (¬ (w1 = 0) → rg (sE σ (ad (sR σ 115 u0)) w3.toNat)) (if (w1 = 0) ∨ ((sE σ (ad (sR σ 115 u0)) u2.toNat) = (sE σ (ad (sR σ 115 u0)) w3.toNat)) then (some 0) else (some 1)))))))))) fun (v45 : Int) => et_isRight_L30 u0 u2 σ n v45 (w3 + 1))))
def et_isRight_L17 (u0 : Nat) (σ : ST) : Nat → Int → Int → Option (Int)
  | 0, _, _ => none
  | n + 1, w1, w2 => gd (sc σ u0 = 8) (Option.bind (sR σ 114 u0) fun p14 => gd (sc σ p14 = 16) (Option.bind (l_size p14 σ) fun y17 => gd (rg w2) (gd (rg y17) (if y17 ≤ w2 then (gd (zb w1) (some w1)) else (Option.bind (et_isRight_L30 u0 w2 σ FU w1 0) fun (v23 : Int) => et_isRight_L17 u0 σ n v23 (w2 + 1))))))
def et_isRight (a0 : Nat) (σ : ST) : Option (Int) := gd (sc σ a0 = 8) (Option.bind (sR σ 115 a0) fun p2 => gd (sc σ p2 = 102) (gd (ib 0 (sN σ p2)) (Option.bind (gd (rg (sE σ p2 (0 : Int).toNat)) (if (sE σ p2 (0 : Int).toNat) = 0 then (some 1) else (some 0))) fun (v9 : Int) => et_isRight_L17 a0 σ FU v9 0)))
set_option maxHeartbeats 4000000 in
theorem et_isRight_L30_ok {g : GE} (G : GG g) {τ : TT} {Q : VQ} (d : Nat) (hd1 : 1 ≤ d) (u0 : Nat) (u2 : Int) (σ : ST)  {K : Int → Prop} (hE66 : ∀ v27 : Int, K (v27) → V g mX7_isRight d 66 [(0, vr (some u0)), (1, vi v27), (2, vi u2)] [] σ τ Q) : ∀ (n : Nat) (w1 : Int) (w3 : Int), Sm (V g mX7_isRight d 30 [(0, vr (some u0)), (1, vi w1), (2, vi u2), (3, vi w3)] [] σ τ Q) (et_isRight_L30 u0 u2 σ n w1 w3) K := by
  intro n
  induction n with
  | zero => intro w1 w3; exact sm_none
  | succ n ih =>
    intro w1 w3
    rw [et_isRight_L30.eq_2]
    refine sm_b (l' := [(0, vr (some u0)), (1, vi w1), (2, vi u2), (3, vi w3)]) (st' := [vi u2, vi w3]) (pc' := 32) [(.iload_n 3, vi 0, 31), (.iload_n 2, vi 0, 32)] (by decide +kernel) rfl rfl ?_
    refine sm_gd (fun h28 => ?_)
    refine sm_gd (fun h29 => ?_)
    refine sm_case (V g mX7_isRight d 66 [(0, vr (some u0)), (1, vi w1), (2, vi u2), (3, vi w3)] [] σ τ Q) (V g mX7_isRight d 35 [(0, vr (some u0)), (1, vi w1), (2, vi u2), (3, vi w3)] [] σ τ Q) ?_ ?_ (fun f54 p55 n56 => ?_)
    · refine sm_pick [0, 1, 2] (l' := [(0, vr (some u0)), (1, vi w1), (2, vi u2)]) rfl ?_
      exact sm_leaf (fun h => hE66 _ h)
    · refine sm_b (l' := [(0, vr (some u0)), (1, vi w1), (2, vi u2), (3, vi w3)]) (st' := [vi w1]) (pc' := 36) [(.iload_n 1, vi 0, 36)] (by decide +kernel) rfl rfl ?_
      refine sm_bind1 (fun (v45 : Int) => V g mX7_isRight d 59 [(0, vr (some u0)), (2, vi u2), (3, vi w3)] [vi v45] σ τ Q) (fun v45 => ?_) (fun K46 j47 => ?_)
      · refine sm_b (l' := [(0, vr (some u0)), (2, vi u2), (3, vi (w3 + 1)), (1, vi v45)]) (st' := []) (pc' := 30) [(.istore_n 1, vi 0, 60), (.iinc 3 1, vi 1, 63), (.goto (-33), vi 0, 30)] (by decide +kernel) rfl rfl ?_
        refine sm_pick [0, 3, 1, 2] (l' := [(0, vr (some u0)), (1, vi v45), (2, vi u2), (3, vi (w3 + 1))]) rfl ?_
        exact ih v45 (w3 + 1)
      · refine sm_gd (fun h32 => ?_)
        refine sm_gd (fun h34 => ?_)
        refine sm_gd (fun h35 => ?_)
        refine sm_gd (fun h37 => ?_)
        refine sm_gd (fun h38 => ?_)
        refine sm_gd (fun h40 => ?_)
        refine sm_gd (fun h41 => ?_)
        refine sm_gd (fun h42 => ?_)
        refine sm_case (V g mX7_isRight d 58 [(0, vr (some u0)), (1, vi w1), (2, vi u2), (3, vi w3)] [] σ τ Q) (V g mX7_isRight d 54 [(0, vr (some u0)), (1, vi w1), (2, vi u2), (3, vi w3)] [] σ τ Q) ?_ ?_ (fun f49 p50 n51 => ?_)
        · refine sm_b (l' := [(0, vr (some u0)), (1, vi w1), (2, vi u2), (3, vi w3)]) (st' := [vi 0]) (pc' := 59) [(.iconst 0, vi 0, 59)] (by decide +kernel) rfl rfl ?_
          refine sm_pick [0, 2, 3] (l' := [(0, vr (some u0)), (2, vi u2), (3, vi w3)]) rfl ?_
          exact sm_leaf (fun h => j47 _ h)
        · refine sm_b (l' := [(0, vr (some u0)), (1, vi w1), (2, vi u2), (3, vi w3)]) (st' := [vi 1]) (pc' := 59) [(.iconst 1, vi 1, 55), (.goto 4, vi 0, 59)] (by decide +kernel) rfl rfl ?_
          refine sm_pick [0, 2, 3] (l' := [(0, vr (some u0)), (2, vi u2), (3, vi w3)]) rfl ?_
          exact sm_leaf (fun h => j47 _ h)
        refine sm_if_eq (off := 22) (tgt := 58) h32 (by decide +kernel) (fun c52 => ?_) (fun c52 => ?_)
        · exact p50 (Or.inl c52)
        · have w33 : ¬ (w1 = 0) := c52
          refine sm_b (l' := [(0, vr (some u0)), (1, vi w1), (2, vi u2), (3, vi w3)]) (st' := [vr (some u0)]) (pc' := 40) [(.aload_n 0, vi 0, 40)] (by decide +kernel) rfl rfl ?_
          refine sm_g (k := 3) (x := vr (sR σ 115 u0)) cd7 rfl (h34 w33) rfl q672 rfl (by decide +kernel) ?_
          refine sm_b (l' := [(0, vr (some u0)), (1, vi w1), (2, vi u2), (3, vi w3)]) (st' := [vi u2, vr (sR σ 115 u0)]) (pc' := 44) [(.iload_n 2, vi 0, 44)] (by decide +kernel) rfl rfl ?_
          have q36 := (ad_some (h35 w33))
          refine sm_st [vi u2, vr (some (ad (sR σ 115 u0)))] (congrArg (fun z => [vi u2, vr z]) q36) ?_
          refine sm_el (h37 w33) (h38 w33) (by decide +kernel) ?_
          refine sm_b (l' := [(0, vr (some u0)), (1, vi w1), (2, vi u2), (3, vi w3)]) (st' := [vr (some u0), vi (sE σ (ad (sR σ 115 u0)) u2.toNat)]) (pc' := 46) [(.aload_n 0, vi 0, 46)] (by decide +kernel) rfl rfl ?_
          refine sm_g (k := 3) (x := vr (sR σ 115 u0)) cd7 rfl (h34 w33) rfl q672 rfl (by decide +kernel) ?_
          refine sm_b (l' := [(0, vr (some u0)), (1, vi w1), (2, vi u2), (3, vi w3)]) (st' := [vi w3, vr (sR σ 115 u0), vi (sE σ (ad (sR σ 115 u0)) u2.toNat)]) (pc' := 50) [(.iload_n 3, vi 0, 50)] (by decide +kernel) rfl rfl ?_
          have q39 := (ad_some (h35 w33))
          refine sm_st [vi w3, vr (some (ad (sR σ 115 u0))), vi (sE σ (ad (sR σ 115 u0)) u2.toNat)] (congrArg (fun z => [vi w3, vr z, vi (sE σ (ad (sR σ 115 u0)) u2.toNat)]) q39) ?_
          refine sm_el (h37 w33) (h40 w33) (by decide +kernel) ?_
          refine sm_icmp_eq (off := 7) (tgt := 58) (h41 w33) (h42 w33) (by decide +kernel) (fun c53 => ?_) (fun c53 => ?_)
          · exact p50 (Or.inr c53)
          · exact n51 (fun q => q.elim c52 c53)
    refine sm_icmp_ge (off := 34) (tgt := 66) h28 h29 (by decide +kernel) (fun c57 => ?_) (fun c57 => ?_)
    · exact p55 c57
    · exact n56 c57
set_option maxHeartbeats 4000000 in
theorem et_isRight_L17_ok {g : GE} (G : GG g) {τ : TT} {Q : VQ} (d : Nat) (hd1 : 1 ≤ d) (u0 : Nat) (σ : ST)  {K : Int → Prop} (hRET : ∀ r : Int, K (r) → Q.1 (some (vi r)) σ τ) : ∀ (n : Nat) (w1 : Int) (w2 : Int), Sm (V g mX7_isRight d 17 [(0, vr (some u0)), (1, vi w1), (2, vi w2)] [] σ τ Q) (et_isRight_L17 u0 σ n w1 w2) K := by
  intro n
  induction n with
  | zero => intro w1 w2; exact sm_none
  | succ n ih =>
    intro w1 w2
    rw [et_isRight_L17.eq_2]
    refine sm_b (l' := [(0, vr (some u0)), (1, vi w1), (2, vi w2)]) (st' := [vr (some u0), vi w2]) (pc' := 19) [(.iload_n 2, vi 0, 18), (.aload_n 0, vi 0, 19)] (by decide +kernel) rfl rfl ?_
    refine sm_gd (fun h13 => ?_)
    refine sm_g (k := 2) (x := vr (sR σ 114 u0)) cd7 rfl h13 rfl q670 rfl (by decide +kernel) ?_
    refine sm_de (fun p14 h15 => ?_)
    refine sm_st [vr (some p14), vi w2] (by rw [h15] <;> rfl) ?_
    refine sm_gd (fun h16 => ?_)
    refine sm_cv (N := mJ2_size) (d' := d - 1) (fun r => (some (vi r))) (fun _ => σ) (fun _ => τ) [] [vi w2] rfl (by decide +kernel) q895 q519 q520 (Or.inl ⟨rfl, q521⟩) (show okN yJ2_size 0 = true by decide +kernel) (fun H hR => hR.rvL G.1 h16) rfl rfl (by omega) rfl (fun Q' => l_size_ok G (d - 1) (by omega) p14 σ Q') (fun y17 => ?_)
    refine sm_gd (fun h18 => ?_)
    refine sm_gd (fun h19 => ?_)
    refine sm_case (V g mX7_isRight d 72 [(0, vr (some u0)), (1, vi w1), (2, vi w2)] [] σ τ Q) (V g mX7_isRight d 28 [(0, vr (some u0)), (1, vi w1), (2, vi w2)] [] σ τ Q) ?_ ?_ (fun f58 p59 n60 => ?_)
    · refine sm_b (l' := [(0, vr (some u0)), (1, vi w1), (2, vi w2)]) (st' := [vi w1]) (pc' := 73) [(.iload_n 1, vi 0, 73)] (by decide +kernel) rfl rfl ?_
      refine sm_gd (fun h22 => ?_)
      exact sm_zret rfl (by decide +kernel) h22 (fun h => hRET _ h)
    · refine sm_b (l' := [(0, vr (some u0)), (1, vi w1), (2, vi w2), (3, vi 0)]) (st' := []) (pc' := 30) [(.iconst 0, vi 0, 29), (.istore_n 3, vi 0, 30)] (by decide +kernel) rfl rfl ?_
      refine sm_bind1 (fun (v23 : Int) => V g mX7_isRight d 66 [(0, vr (some u0)), (1, vi v23), (2, vi w2)] [] σ τ Q) (fun v23 => ?_) (fun K24 j25 => ?_)
      · refine sm_b (l' := [(0, vr (some u0)), (1, vi v23), (2, vi (w2 + 1))]) (st' := []) (pc' := 17) [(.iinc 2 1, vi 1, 69), (.goto (-52), vi 0, 17)] (by decide +kernel) rfl rfl ?_
        exact ih v23 (w2 + 1)
      · exact et_isRight_L30_ok G d hd1 u0 w2 σ  (fun _ h => j25 _ h) FU w1 0
    refine sm_icmp_ge (off := 47) (tgt := 72) h18 h19 (by decide +kernel) (fun c61 => ?_) (fun c61 => ?_)
    · exact p59 c61
    · exact n60 c61
set_option maxHeartbeats 4000000 in
theorem et_isRight_ok {g : GE} (G : GG g) {τ : TT} (d : Nat) (hd1 : 1 ≤ d) (a0 : Nat)  (σ : ST) (Q : VQ) : Sm (V g mX7_isRight d 0 [(0, vr (some a0))] [] σ τ Q) (et_isRight a0 σ) (fun r => Q.1 (some (vi r)) σ τ) := by
  unfold et_isRight
  refine sm_top (fun K hRET => ?_)
  refine sm_b (l' := [(0, vr (some a0))]) (st' := [vr (some a0)]) (pc' := 1) [(.aload_n 0, vi 0, 1)] (by decide +kernel) rfl rfl ?_
  refine sm_gd (fun h1 => ?_)
  refine sm_g (k := 3) (x := vr (sR σ 115 a0)) cd7 rfl h1 rfl q672 rfl (by decide +kernel) ?_
  refine sm_b (l' := [(0, vr (some a0))]) (st' := [vi 0, vr (sR σ 115 a0)]) (pc' := 5) [(.iconst 0, vi 0, 5)] (by decide +kernel) rfl rfl ?_
  refine sm_de (fun p2 h3 => ?_)
  refine sm_st [vi 0, vr (some p2)] (by rw [h3] <;> rfl) ?_
  refine sm_gd (fun h4 => ?_)
  refine sm_gd (fun h5 => ?_)
  refine sm_el h4 h5 (by decide +kernel) ?_
  refine sm_bind1 (fun (v9 : Int) => V g mX7_isRight d 14 [(0, vr (some a0))] [vi v9] σ τ Q) (fun v9 => ?_) (fun K10 j11 => ?_)
  · refine sm_b (l' := [(0, vr (some a0)), (1, vi v9), (2, vi 0)]) (st' := []) (pc' := 17) [(.istore_n 1, vi 0, 15), (.iconst 0, vi 0, 16), (.istore_n 2, vi 0, 17)] (by decide +kernel) rfl rfl ?_
    exact et_isRight_L17_ok G d hd1 a0 σ  (fun r h => hRET _ h) FU v9 0
  · refine sm_gd (fun h6 => ?_)
    refine sm_case (V g mX7_isRight d 9 [(0, vr (some a0))] [] σ τ Q) (V g mX7_isRight d 13 [(0, vr (some a0))] [] σ τ Q) ?_ ?_ (fun f62 p63 n64 => ?_)
    · refine sm_b (l' := [(0, vr (some a0))]) (st' := [vi 1]) (pc' := 14) [(.iconst 1, vi 1, 10), (.goto 4, vi 0, 14)] (by decide +kernel) rfl rfl ?_
      exact sm_leaf (fun h => j11 _ h)
    · refine sm_b (l' := [(0, vr (some a0))]) (st' := [vi 0]) (pc' := 14) [(.iconst 0, vi 0, 14)] (by decide +kernel) rfl rfl ?_
      exact sm_leaf (fun h => j11 _ h)
    refine sm_if_ne (off := 7) (tgt := 13) h6 (by decide +kernel) (fun c65 => ?_) (fun c65 => ?_)
    · exact n64 c65
    · exact p63 c65
def mt_order_L104 (bb : Nat × Nat) (u0 : Nat) : Nat → Int → ST → Option (ST)
  | 0, _, _ => none
  | n + 1, w1, σ => gd (sc σ u0 = 7) (Option.bind (sR σ 103 u0) fun p15 => gd (sc σ p15 = 103) (gd (rg w1) (gd (rg (((sN σ p15 : Nat) : Int))) (if (((sN σ p15 : Nat) : Int)) ≤ w1 then (some σ) else (gd (ib w1 (sN σ p15)) (Option.bind (sF σ p15 w1.toNat) fun p24 => gd (sc σ p24 = 9) (nm (pI σ 134 p24 w1) fun σ27 => mt_order_L104 bb u0 n (w1 + 1) σ27)))))))
def mt_order_L27 (bb : Nat × Nat) (u0 : Nat) (u1 : Int) : Nat → Int → ST → Option (Int × ST)
  | 0, _, _ => none
  | n + 1, w2, σ => gd (rg w2) (gd (¬ (w2 ≤ 0) → sc σ u0 = 7) (gd (¬ (w2 ≤ 0) → ¬ (sR σ 103 u0) = none) (gd (¬ (w2 ≤ 0) → sc σ (ad (sR σ 103 u0)) = 103) (gd (¬ (w2 ≤ 0) → ib (w2 - 1) (sN σ (ad (sR σ 103 u0)))) (gd (¬ (w2 ≤ 0) → ¬ (sF σ (ad (sR σ 103 u0)) (w2 - 1).toNat) = none) (gd (¬ (w2 ≤ 0) → sc σ (ad (sF σ (ad (sR σ 103 u0)) (w2 - 1).toNat)) = 9) (gd (¬ (w2 ≤ 0) → ¬ (sR σ 99 u0) = none) (gd (¬ (w2 ≤ 0) → sc σ (ad (sR σ 99 u0)) = 16) (gd (¬ (w2 ≤ 0) → ok (l_get (ad (sR σ 99 u0)) u1 σ)) (gd (¬ (w2 ≤ 0) → ¬ (vo (l_get (ad (sR σ 99 u0)) u1 σ)) = none) (gd (¬ (w2 ≤ 0) → sc σ (ad (vo (l_get (ad (sR σ 99 u0)) u1 σ))) = 9) (gd (¬ (w2 ≤ 0) → rg (sI σ 131 (ad (sF σ (ad (sR σ 103 u0)) (w2 - 1).toNat)))) (gd (¬ (w2 ≤ 0) → rg (sI σ 131 (ad (vo (l_get (ad (sR σ 99 u0)) u1 σ))))) (if (w2 ≤ 0) ∨ ((sI σ 131 (ad (sF σ (ad (sR σ 103 u0)) (w2 - 1).toNat))) ≤ (sI σ 131 (ad (vo (l_get (ad (sR σ 99 u0)) u1 σ))))) then (some ((w2, σ))) else (gd (sc σ u0 = 7) (Option.bind (sR σ 103 u0) fun p84 => gd (sc σ p84 = 103) (gd (ib (w2 - 1) (sN σ p84)) (Option.bind (sF σ p84 (w2 - 1).toNat) fun p88 => gd (sc σ p88 = 9) (gd (ib w2 (sN σ p84)) (nm (pF σ p84 w2.toNat (some p88)) fun σ92 => mt_order_L27 bb u0 u1 n (w2 + (-1)) σ92))))))))))))))))))))
def mt_order_L16 (bb : Nat × Nat) (u0 : Nat) : Nat → Int → ST → Option (ST)
  | 0, _, _ => none
  | n + 1, w1, σ => gd (sc σ u0 = 7) (Option.bind (sR σ 103 u0) fun p34 => gd (sc σ p34 = 103) (gd (rg w1) (gd (rg (((sN σ p34 : Nat) : Int))) (if (((sN σ p34 : Nat) : Int)) ≤ w1 then (some σ) else (Option.bind (mt_order_L27 bb u0 w1 FU w1 σ) fun (v40 : Int × ST) => gd (sc v40.2 u0 = 7) (Option.bind (sR v40.2 99 u0) fun p45 => gd (sc v40.2 p45 = 16) (Option.bind (l_get p45 w1 v40.2) fun y48 => Option.bind y48 fun p49 => gd (sc v40.2 p49 = 9) (Option.bind (sR v40.2 103 u0) fun p52 => gd (sc v40.2 p52 = 103) (gd (ib v40.1 (sN v40.2 p52)) (nm (pF v40.2 p52 v40.1.toNat (some p49)) fun σ56 => mt_order_L16 bb u0 n (w1 + 1) σ56))))))))))
def mt_order (bb : Nat × Nat) (a0 : Nat) (σ : ST) : Option (ST) := gd (sc σ a0 = 7) (Option.bind (sR σ 99 a0) fun p2 => gd (sc σ p2 = 16) (Option.bind (l_size p2 σ) fun y5 => gd (0 ≤ y5 ∧ y5 < 16777216 ∧ rm bb σ y5.toNat) (nm (nF σ y5.toNat) fun σ7 => gd (sc σ7 a0 = 7) (nm (pR σ7 103 a0 (some (sZ σ))) fun σ9 => Option.bind (mt_order_L16 bb a0 FU 0 σ9) fun (v10 : ST) => mt_order_L104 bb a0 FU 0 v10))))
set_option maxHeartbeats 4000000 in
theorem mt_order_L104_ok {g : GE} (G : GG g) {τ : TT} {Q : VQ} (d : Nat) (hd1 : 4 ≤ d) (u0 : Nat)  {K : ST → Prop} (hRET : ∀ r : ST, K (r) → Q.1 none r τ) : ∀ (n : Nat) (w1 : Int) (σ : ST), Sm (V g mX6_order d 104 [(0, vr (some u0)), (1, vi w1)] [] σ τ Q) (mt_order_L104 (gRm g) u0 n w1 σ) K := by
  intro n
  induction n with
  | zero => intro w1 σ; exact sm_none
  | succ n ih =>
    intro w1 σ
    rw [mt_order_L104.eq_2]
    refine sm_b (l' := [(0, vr (some u0)), (1, vi w1)]) (st' := [vr (some u0), vi w1]) (pc' := 106) [(.iload_n 1, vi 0, 105), (.aload_n 0, vi 0, 106)] (by decide +kernel) rfl rfl ?_
    refine sm_gd (fun h14 => ?_)
    refine sm_g (k := 7) (x := vr (sR σ 103 u0)) cd6 rfl h14 rfl q571 rfl (by decide +kernel) ?_
    refine sm_de (fun p15 h16 => ?_)
    refine sm_st [vr (some p15), vi w1] (by rw [h16] <;> rfl) ?_
    refine sm_gd (fun h17 => ?_)
    refine sm_alF h17 (by decide +kernel) ?_
    refine sm_gd (fun h18 => ?_)
    refine sm_gd (fun h19 => ?_)
    refine sm_case (V g mX6_order d 129 [(0, vr (some u0)), (1, vi w1)] [] σ τ Q) (V g mX6_order d 113 [(0, vr (some u0)), (1, vi w1)] [] σ τ Q) ?_ ?_ (fun f28 p29 n30 => ?_)
    · exact sm_vret rfl (by decide +kernel) (fun h => hRET _ h)
    · refine sm_b (l' := [(0, vr (some u0)), (1, vi w1)]) (st' := [vr (some u0)]) (pc' := 114) [(.aload_n 0, vi 0, 114)] (by decide +kernel) rfl rfl ?_
      refine sm_g (k := 7) (x := vr (sR σ 103 u0)) cd6 rfl h14 rfl q571 rfl (by decide +kernel) ?_
      refine sm_b (l' := [(0, vr (some u0)), (1, vi w1)]) (st' := [vi w1, vr (sR σ 103 u0)]) (pc' := 118) [(.iload_n 1, vi 0, 118)] (by decide +kernel) rfl rfl ?_
      refine sm_st [vi w1, vr (some p15)] (by rw [h16] <;> rfl) ?_
      refine sm_gd (fun h23 => ?_)
      refine sm_fl h17 h23 (by decide +kernel) ?_
      refine sm_b (l' := [(0, vr (some u0)), (1, vi w1)]) (st' := [vi w1, vr (sF σ p15 w1.toNat)]) (pc' := 120) [(.iload_n 1, vi 0, 120)] (by decide +kernel) rfl rfl ?_
      refine sm_de (fun p24 h25 => ?_)
      refine sm_st [vi w1, vr (some p24)] (by rw [h25] <;> rfl) ?_
      refine sm_gd (fun h26 => ?_)
      refine sm_pN (k := 6) (x := vi w1) cd8 rfl h26 rfl q741 rfl (nar_i _) (fit_i _) rfl (at_pI σ 134 p24 w1) (fp_134 σ p24 w1) (by decide +kernel) ?_
      refine sm_nms (fun σ27 => ?_)
      refine sm_b (l' := [(0, vr (some u0)), (1, vi (w1 + 1))]) (st' := []) (pc' := 104) [(.iinc 1 1, vi 1, 126), (.goto (-22), vi 0, 104)] (by decide +kernel) rfl rfl ?_
      exact ih (w1 + 1) σ27
    refine sm_icmp_ge (off := 19) (tgt := 129) h18 h19 (by decide +kernel) (fun c31 => ?_) (fun c31 => ?_)
    · exact p29 c31
    · exact n30 c31
set_option maxHeartbeats 4000000 in
theorem mt_order_L27_ok {g : GE} (G : GG g) {τ : TT} {Q : VQ} (d : Nat) (hd1 : 4 ≤ d) (u0 : Nat) (u1 : Int)  {K : Int × ST → Prop} (hE79 : ∀ v57 : Int × ST, K (v57) → V g mX6_order d 79 [(0, vr (some u0)), (1, vi u1), (2, vi v57.1)] [] v57.2 τ Q) : ∀ (n : Nat) (w2 : Int) (σ : ST), Sm (V g mX6_order d 27 [(0, vr (some u0)), (1, vi u1), (2, vi w2)] [] σ τ Q) (mt_order_L27 (gRm g) u0 u1 n w2 σ) K := by
  intro n
  induction n with
  | zero => intro w2 σ; exact sm_none
  | succ n ih =>
    intro w2 σ
    rw [mt_order_L27.eq_2]
    refine sm_b (l' := [(0, vr (some u0)), (1, vi u1), (2, vi w2)]) (st' := [vi w2]) (pc' := 28) [(.iload_n 2, vi 0, 28)] (by decide +kernel) rfl rfl ?_
    refine sm_gd (fun h58 => ?_)
    refine sm_gd (fun h60 => ?_)
    refine sm_gd (fun h61 => ?_)
    refine sm_gd (fun h63 => ?_)
    refine sm_gd (fun h64 => ?_)
    refine sm_gd (fun h65 => ?_)
    refine sm_gd (fun h67 => ?_)
    refine sm_gd (fun h68 => ?_)
    refine sm_gd (fun h70 => ?_)
    refine sm_gd (fun h71 => ?_)
    refine sm_gd (fun h72 => ?_)
    refine sm_gd (fun h74 => ?_)
    refine sm_gd (fun h75 => ?_)
    refine sm_gd (fun h76 => ?_)
    refine sm_case (V g mX6_order d 79 [(0, vr (some u0)), (1, vi u1), (2, vi w2)] [] σ τ Q) (V g mX6_order d 59 [(0, vr (some u0)), (1, vi u1), (2, vi w2)] [] σ τ Q) ?_ ?_ (fun f93 p94 n95 => ?_)
    · exact sm_leaf (fun h => hE79 _ h)
    · refine sm_b (l' := [(0, vr (some u0)), (1, vi u1), (2, vi w2)]) (st' := [vr (some u0)]) (pc' := 60) [(.aload_n 0, vi 0, 60)] (by decide +kernel) rfl rfl ?_
      refine sm_gd (fun h83 => ?_)
      refine sm_g (k := 7) (x := vr (sR σ 103 u0)) cd6 rfl h83 rfl q571 rfl (by decide +kernel) ?_
      refine sm_b (l' := [(0, vr (some u0)), (1, vi u1), (2, vi w2)]) (st' := [vr (some u0), vi w2, vr (sR σ 103 u0)]) (pc' := 65) [(.iload_n 2, vi 0, 64), (.aload_n 0, vi 0, 65)] (by decide +kernel) rfl rfl ?_
      refine sm_g (k := 7) (x := vr (sR σ 103 u0)) cd6 rfl h83 rfl q571 rfl (by decide +kernel) ?_
      refine sm_b (l' := [(0, vr (some u0)), (1, vi u1), (2, vi w2)]) (st' := [vi (w2 - 1), vr (sR σ 103 u0), vi w2, vr (sR σ 103 u0)]) (pc' := 71) [(.iload_n 2, vi 0, 69), (.iconst 1, vi 1, 70), (.isub, vi 0, 71)] (by decide +kernel) rfl rfl ?_
      refine sm_de (fun p84 h85 => ?_)
      refine sm_st [vi (w2 - 1), vr (some p84), vi w2, vr (sR σ 103 u0)] (by rw [h85] <;> rfl) ?_
      refine sm_gd (fun h86 => ?_)
      refine sm_gd (fun h87 => ?_)
      refine sm_fl h86 h87 (by decide +kernel) ?_
      refine sm_st [vr (sF σ p84 (w2 - 1).toNat), vi w2, vr (some p84)] (by rw [h85] <;> rfl) ?_
      refine sm_de (fun p88 h89 => ?_)
      refine sm_st [vr (some p88), vi w2, vr (some p84)] (by rw [h89] <;> rfl) ?_
      refine sm_gd (fun h90 => ?_)
      refine sm_gd (fun h91 => ?_)
      refine sm_fs h86 h90 h91 (by decide +kernel) ?_
      refine sm_nms (fun σ92 => ?_)
      refine sm_b (l' := [(0, vr (some u0)), (1, vi u1), (2, vi (w2 + (-1)))]) (st' := []) (pc' := 27) [(.iinc 2 (-1), vi (-1), 76), (.goto (-49), vi 0, 27)] (by decide +kernel) rfl rfl ?_
      exact ih (w2 + (-1)) σ92
    refine sm_if_le (off := 51) (tgt := 79) h58 (by decide +kernel) (fun c96 => ?_) (fun c96 => ?_)
    · exact p94 (Or.inl c96)
    · have w59 : ¬ (w2 ≤ 0) := c96
      refine sm_b (l' := [(0, vr (some u0)), (1, vi u1), (2, vi w2)]) (st' := [vr (some u0)]) (pc' := 32) [(.aload_n 0, vi 0, 32)] (by decide +kernel) rfl rfl ?_
      refine sm_g (k := 7) (x := vr (sR σ 103 u0)) cd6 rfl (h60 w59) rfl q571 rfl (by decide +kernel) ?_
      refine sm_b (l' := [(0, vr (some u0)), (1, vi u1), (2, vi w2)]) (st' := [vi (w2 - 1), vr (sR σ 103 u0)]) (pc' := 38) [(.iload_n 2, vi 0, 36), (.iconst 1, vi 1, 37), (.isub, vi 0, 38)] (by decide +kernel) rfl rfl ?_
      have q62 := (ad_some (h61 w59))
      refine sm_st [vi (w2 - 1), vr (some (ad (sR σ 103 u0)))] (congrArg (fun z => [vi (w2 - 1), vr z]) q62) ?_
      refine sm_fl (h63 w59) (h64 w59) (by decide +kernel) ?_
      have q66 := (ad_some (h65 w59))
      refine sm_st [vr (some (ad (sF σ (ad (sR σ 103 u0)) (w2 - 1).toNat)))] (congrArg (fun z => [vr z]) q66) ?_
      refine sm_gN (k := 3) (x := vi (sI σ 131 (ad (sF σ (ad (sR σ 103 u0)) (w2 - 1).toNat)))) cd8 rfl (h67 w59) rfl q725 rfl (by decide +kernel) ?_
      refine sm_b (l' := [(0, vr (some u0)), (1, vi u1), (2, vi w2)]) (st' := [vr (some u0), vi (sI σ 131 (ad (sF σ (ad (sR σ 103 u0)) (w2 - 1).toNat)))]) (pc' := 43) [(.aload_n 0, vi 0, 43)] (by decide +kernel) rfl rfl ?_
      refine sm_g (k := 3) (x := vr (sR σ 99 u0)) cd6 rfl (h60 w59) rfl q560 rfl (by decide +kernel) ?_
      refine sm_b (l' := [(0, vr (some u0)), (1, vi u1), (2, vi w2)]) (st' := [vi u1, vr (sR σ 99 u0), vi (sI σ 131 (ad (sF σ (ad (sR σ 103 u0)) (w2 - 1).toNat)))]) (pc' := 47) [(.iload_n 1, vi 0, 47)] (by decide +kernel) rfl rfl ?_
      have q69 := (ad_some (h68 w59))
      refine sm_st [vi u1, vr (some (ad (sR σ 99 u0))), vi (sI σ 131 (ad (sF σ (ad (sR σ 103 u0)) (w2 - 1).toNat)))] (congrArg (fun z => [vi u1, vr z, vi (sI σ 131 (ad (sF σ (ad (sR σ 103 u0)) (w2 - 1).toNat)))]) q69) ?_
      refine sm_cvp (N := mJ2_get) (d' := d - 1) (fun r => (some (vr r))) (some (vr (vo (l_get (ad (sR σ 99 u0)) u1 σ)))) (h71 w59) (fun y h => by rw [vo_some h]) [vi u1] [vi (sI σ 131 (ad (sF σ (ad (sR σ 103 u0)) (w2 - 1).toNat)))] rfl (by decide +kernel) q901 q791 q792 (Or.inl ⟨rfl, q793⟩) (show okN yJ2_get 1 = true by decide +kernel) (fun H hR => hR.rvL G.1 (h70 w59)) rfl rfl (by omega) rfl (fun Q' => l_get_ok G (d - 1) (by omega) (ad (sR σ 99 u0)) u1 σ Q') ?_
      have q73 := (ad_some (h72 w59))
      refine sm_st [vr (some (ad (vo (l_get (ad (sR σ 99 u0)) u1 σ)))), vi (sI σ 131 (ad (sF σ (ad (sR σ 103 u0)) (w2 - 1).toNat)))] (congrArg (fun z => [vr z, vi (sI σ 131 (ad (sF σ (ad (sR σ 103 u0)) (w2 - 1).toNat)))]) q73) ?_
      refine sm_cast cd8 q548 (fun H hR => hR.rv G.1 cd8 rfl (h74 w59)) (by decide +kernel) ?_
      refine sm_gN (k := 3) (x := vi (sI σ 131 (ad (vo (l_get (ad (sR σ 99 u0)) u1 σ))))) cd8 rfl (h74 w59) rfl q725 rfl (by decide +kernel) ?_
      refine sm_icmp_le (off := 23) (tgt := 79) (h75 w59) (h76 w59) (by decide +kernel) (fun c97 => ?_) (fun c97 => ?_)
      · exact p94 (Or.inr c97)
      · exact n95 (fun q => q.elim c96 c97)
set_option maxHeartbeats 4000000 in
theorem mt_order_L16_ok {g : GE} (G : GG g) {τ : TT} {Q : VQ} (d : Nat) (hd1 : 4 ≤ d) (u0 : Nat)  {K : ST → Prop} (hE102 : ∀ v32 : ST, K (v32) → V g mX6_order d 102 [(0, vr (some u0))] [] v32 τ Q) : ∀ (n : Nat) (w1 : Int) (σ : ST), Sm (V g mX6_order d 16 [(0, vr (some u0)), (1, vi w1)] [] σ τ Q) (mt_order_L16 (gRm g) u0 n w1 σ) K := by
  intro n
  induction n with
  | zero => intro w1 σ; exact sm_none
  | succ n ih =>
    intro w1 σ
    rw [mt_order_L16.eq_2]
    refine sm_b (l' := [(0, vr (some u0)), (1, vi w1)]) (st' := [vr (some u0), vi w1]) (pc' := 18) [(.iload_n 1, vi 0, 17), (.aload_n 0, vi 0, 18)] (by decide +kernel) rfl rfl ?_
    refine sm_gd (fun h33 => ?_)
    refine sm_g (k := 7) (x := vr (sR σ 103 u0)) cd6 rfl h33 rfl q571 rfl (by decide +kernel) ?_
    refine sm_de (fun p34 h35 => ?_)
    refine sm_st [vr (some p34), vi w1] (by rw [h35] <;> rfl) ?_
    refine sm_gd (fun h36 => ?_)
    refine sm_alF h36 (by decide +kernel) ?_
    refine sm_gd (fun h37 => ?_)
    refine sm_gd (fun h38 => ?_)
    refine sm_case (V g mX6_order d 102 [(0, vr (some u0)), (1, vi w1)] [] σ τ Q) (V g mX6_order d 25 [(0, vr (some u0)), (1, vi w1)] [] σ τ Q) ?_ ?_ (fun f98 p99 n100 => ?_)
    · refine sm_pick [0] (l' := [(0, vr (some u0))]) rfl ?_
      exact sm_leaf (fun h => hE102 _ h)
    · refine sm_b (l' := [(0, vr (some u0)), (1, vi w1), (2, vi w1)]) (st' := []) (pc' := 27) [(.iload_n 1, vi 0, 26), (.istore_n 2, vi 0, 27)] (by decide +kernel) rfl rfl ?_
      refine sm_bind1 (fun (v40 : Int × ST) => V g mX6_order d 79 [(0, vr (some u0)), (1, vi w1), (2, vi v40.1)] [] v40.2 τ Q) (fun v40 => ?_) (fun K41 j42 => ?_)
      · refine sm_b (l' := [(0, vr (some u0)), (1, vi w1), (2, vi v40.1)]) (st' := [vr (some u0)]) (pc' := 80) [(.aload_n 0, vi 0, 80)] (by decide +kernel) rfl rfl ?_
        refine sm_gd (fun h44 => ?_)
        refine sm_g (k := 7) (x := vr (sR v40.2 103 u0)) cd6 rfl h44 rfl q571 rfl (by decide +kernel) ?_
        refine sm_b (l' := [(0, vr (some u0)), (1, vi w1), (2, vi v40.1)]) (st' := [vr (some u0), vi v40.1, vr (sR v40.2 103 u0)]) (pc' := 85) [(.iload_n 2, vi 0, 84), (.aload_n 0, vi 0, 85)] (by decide +kernel) rfl rfl ?_
        refine sm_g (k := 3) (x := vr (sR v40.2 99 u0)) cd6 rfl h44 rfl q560 rfl (by decide +kernel) ?_
        refine sm_b (l' := [(0, vr (some u0)), (1, vi w1), (2, vi v40.1)]) (st' := [vi w1, vr (sR v40.2 99 u0), vi v40.1, vr (sR v40.2 103 u0)]) (pc' := 89) [(.iload_n 1, vi 0, 89)] (by decide +kernel) rfl rfl ?_
        refine sm_de (fun p45 h46 => ?_)
        refine sm_st [vi w1, vr (some p45), vi v40.1, vr (sR v40.2 103 u0)] (by rw [h46] <;> rfl) ?_
        refine sm_gd (fun h47 => ?_)
        refine sm_cv (N := mJ2_get) (d' := d - 1) (fun r => (some (vr r))) (fun _ => v40.2) (fun _ => τ) [vi w1] [vi v40.1, vr (sR v40.2 103 u0)] rfl (by decide +kernel) q901 q791 q792 (Or.inl ⟨rfl, q793⟩) (show okN yJ2_get 1 = true by decide +kernel) (fun H hR => hR.rvL G.1 h47) rfl rfl (by omega) rfl (fun Q' => l_get_ok G (d - 1) (by omega) p45 w1 v40.2 Q') (fun y48 => ?_)
        refine sm_de (fun p49 h50 => ?_)
        refine sm_st [vr (some p49), vi v40.1, vr (sR v40.2 103 u0)] (by rw [h50] <;> rfl) ?_
        refine sm_gd (fun h51 => ?_)
        refine sm_cast cd8 q548 (fun H hR => hR.rv G.1 cd8 rfl h51) (by decide +kernel) ?_
        refine sm_de (fun p52 h53 => ?_)
        refine sm_st [vr (some p49), vi v40.1, vr (some p52)] (by rw [h53] <;> rfl) ?_
        refine sm_gd (fun h54 => ?_)
        refine sm_gd (fun h55 => ?_)
        refine sm_fs h54 h51 h55 (by decide +kernel) ?_
        refine sm_nms (fun σ56 => ?_)
        refine sm_b (l' := [(0, vr (some u0)), (1, vi (w1 + 1)), (2, vi v40.1)]) (st' := []) (pc' := 16) [(.iinc 1 1, vi 1, 99), (.goto (-83), vi 0, 16)] (by decide +kernel) rfl rfl ?_
        refine sm_pick [0, 1] (l' := [(0, vr (some u0)), (1, vi (w1 + 1))]) rfl ?_
        exact ih (w1 + 1) σ56
      · exact mt_order_L27_ok G d hd1 u0 w1  (fun _ h => j42 _ h) FU w1 σ
    refine sm_icmp_ge (off := 80) (tgt := 102) h37 h38 (by decide +kernel) (fun c101 => ?_) (fun c101 => ?_)
    · exact p99 c101
    · exact n100 c101
set_option maxHeartbeats 4000000 in
theorem mt_order_ok {g : GE} (G : GG g) {τ : TT} (d : Nat) (hd1 : 4 ≤ d) (a0 : Nat)  (σ : ST) (Q : VQ) : Sm (V g mX6_order d 0 [(0, vr (some a0))] [] σ τ Q) (mt_order (gRm g) a0 σ) (fun r => Q.1 none r τ) := by
  unfold mt_order
  refine sm_top (fun K hRET => ?_)
  refine sm_b (l' := [(0, vr (some a0))]) (st' := [vr (some a0), vr (some a0)]) (pc' := 2) [(.aload_n 0, vi 0, 1), (.aload_n 0, vi 0, 2)] (by decide +kernel) rfl rfl ?_
  refine sm_gd (fun h1 => ?_)
  refine sm_g (k := 3) (x := vr (sR σ 99 a0)) cd6 rfl h1 rfl q560 rfl (by decide +kernel) ?_
  refine sm_de (fun p2 h3 => ?_)
  refine sm_st [vr (some p2), vr (some a0)] (by rw [h3] <;> rfl) ?_
  refine sm_gd (fun h4 => ?_)
  refine sm_cv (N := mJ2_size) (d' := d - 1) (fun r => (some (vi r))) (fun _ => σ) (fun _ => τ) [] [vr (some a0)] rfl (by decide +kernel) q900 q519 q520 (Or.inl ⟨rfl, q521⟩) (show okN yJ2_size 0 = true by decide +kernel) (fun H hR => hR.rvL G.1 h4) rfl rfl (by omega) rfl (fun Q' => l_size_ok G (d - 1) (by omega) p2 σ Q') (fun y5 => ?_)
  refine sm_gd (fun h6 => ?_)
  refine sm_newF q548 q549 h6 (by decide +kernel) ?_
  refine sm_nms (fun σ7 => ?_)
  refine sm_gd (fun h8 => ?_)
  refine sm_p (k := 7) (x := vr (some (sZ σ))) cd6 rfl h8 rfl q571 rfl (nar_r _ rfl) (fit_r _ rfl) rfl (at_pR σ7 103 a0 (some (sZ σ))) (fp_103 σ7 a0 (some (sZ σ))) (by decide +kernel) ?_
  refine sm_nms (fun σ9 => ?_)
  refine sm_b (l' := [(0, vr (some a0)), (1, vi 0)]) (st' := []) (pc' := 16) [(.iconst 0, vi 0, 15), (.istore_n 1, vi 0, 16)] (by decide +kernel) rfl rfl ?_
  refine sm_bind1 (fun (v10 : ST) => V g mX6_order d 102 [(0, vr (some a0))] [] v10 τ Q) (fun v10 => ?_) (fun K11 j12 => ?_)
  · refine sm_b (l' := [(0, vr (some a0)), (1, vi 0)]) (st' := []) (pc' := 104) [(.iconst 0, vi 0, 103), (.istore_n 1, vi 0, 104)] (by decide +kernel) rfl rfl ?_
    exact mt_order_L104_ok G d hd1 a0  (fun r h => hRET _ h) FU 0 v10
  · exact mt_order_L16_ok G d hd1 a0  (fun _ h => j12 _ h) FU 0 σ9
