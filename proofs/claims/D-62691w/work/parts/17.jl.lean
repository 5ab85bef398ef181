set_option maxRecDepth 100000
/-! the reference: J11_max, J11_min, J11_min_2, J15_divideUnsigned, J15_compare, J15_compareUnsigned, J15_remainderUnsigned -/
def jl_max (a1 : Int) (a2 : Int) : Option (Int) := gd (rg a1) (gd (rg a2) (if a1 < a2 then (some a2) else (some a1)))
set_option maxHeartbeats 4000000 in
theorem jl_max_ok {g : GE} (G : GG g) {σ : ST} (d : Nat) (hd1 : 0 ≤ d) (a1 : Int) (a2 : Int)  (τ : TT) (Q : VQ) : Sm (V g mJ11_max d 0 [(0, vi a1), (1, vi a2)] [] σ τ Q) (jl_max a1 a2) (fun r => Q.1 (some (vi r)) σ τ) := by
  unfold jl_max
  refine sm_top (fun K hRET => ?_)
  refine sm_b (l' := [(0, vi a1), (1, vi a2)]) (st' := [vi a2, vi a1]) (pc' := 2) [(.iload_n 0, vi 0, 1), (.iload_n 1, vi 0, 2)] (by decide +kernel) rfl rfl ?_
  refine sm_gd (fun h1 => ?_)
  refine sm_gd (fun h2 => ?_)
  refine sm_case (V g mJ11_max d 9 [(0, vi a1), (1, vi a2)] [] σ τ Q) (V g mJ11_max d 5 [(0, vi a1), (1, vi a2)] [] σ τ Q) ?_ ?_ (fun f5 p6 n7 => ?_)
  · refine sm_b (l' := [(0, vi a1), (1, vi a2)]) (st' := [vi a2]) (pc' := 10) [(.iload_n 1, vi 0, 10)] (by decide +kernel) rfl rfl ?_
    exact sm_iret rfl (by decide +kernel) (fun h => hRET _ h)
  · refine sm_b (l' := [(0, vi a1), (1, vi a2)]) (st' := [vi a1]) (pc' := 10) [(.iload_n 0, vi 0, 6), (.goto 4, vi 0, 10)] (by decide +kernel) rfl rfl ?_
    exact sm_iret rfl (by decide +kernel) (fun h => hRET _ h)
  refine sm_icmp_lt (off := 7) (tgt := 9) h1 h2 (by decide +kernel) (fun c8 => ?_) (fun c8 => ?_)
  · exact p6 c8
  · exact n7 c8
def jl_min (a1 : Int) (a2 : Int) : Option (Int) := gd (rg a1) (gd (rg a2) (if a2 < a1 then (some a2) else (some a1)))
set_option maxHeartbeats 4000000 in
theorem jl_min_ok {g : GE} (G : GG g) {σ : ST} (d : Nat) (hd1 : 0 ≤ d) (a1 : Int) (a2 : Int)  (τ : TT) (Q : VQ) : Sm (V g mJ11_min d 0 [(0, vi a1), (1, vi a2)] [] σ τ Q) (jl_min a1 a2) (fun r => Q.1 (some (vi r)) σ τ) := by
  unfold jl_min
  refine sm_top (fun K hRET => ?_)
  refine sm_b (l' := [(0, vi a1), (1, vi a2)]) (st' := [vi a2, vi a1]) (pc' := 2) [(.iload_n 0, vi 0, 1), (.iload_n 1, vi 0, 2)] (by decide +kernel) rfl rfl ?_
  refine sm_gd (fun h1 => ?_)
  refine sm_gd (fun h2 => ?_)
  refine sm_case (V g mJ11_min d 9 [(0, vi a1), (1, vi a2)] [] σ τ Q) (V g mJ11_min d 5 [(0, vi a1), (1, vi a2)] [] σ τ Q) ?_ ?_ (fun f5 p6 n7 => ?_)
  · refine sm_b (l' := [(0, vi a1), (1, vi a2)]) (st' := [vi a2]) (pc' := 10) [(.iload_n 1, vi 0, 10)] (by decide +kernel) rfl rfl ?_
    exact sm_iret rfl (by decide +kernel) (fun h => hRET _ h)
  · refine sm_b (l' := [(0, vi a1), (1, vi a2)]) (st' := [vi a1]) (pc' := 10) [(.iload_n 0, vi 0, 6), (.goto 4, vi 0, 10)] (by decide +kernel) rfl rfl ?_
    exact sm_iret rfl (by decide +kernel) (fun h => hRET _ h)
  refine sm_icmp_gt (off := 7) (tgt := 9) h1 h2 (by decide +kernel) (fun c8 => ?_) (fun c8 => ?_)
  · exact p6 c8
  · exact n7 c8
def jl_min_2 (a1 : Int64) (a2 : Int64) : Option (Int64) := if a2 < a1 then (some a2) else (some a1)
set_option maxHeartbeats 4000000 in
theorem jl_min_2_ok {g : GE} (G : GG g) {σ : ST} (d : Nat) (hd1 : 0 ≤ d) (a1 : Int64) (a2 : Int64)  (τ : TT) (Q : VQ) : Sm (V g mJ11_min_2 d 0 [(0, vl a1), (2, vl a2)] [] σ τ Q) (jl_min_2 a1 a2) (fun r => Q.1 (some (vl r)) σ τ) := by
  unfold jl_min_2
  refine sm_top (fun K hRET => ?_)
  refine sm_b (l' := [(0, vl a1), (2, vl a2)]) (st' := [vl a2, vl a1]) (pc' := 2) [(.lload_n 0, vi 0, 1), (.lload_n 2, vi 0, 2)] (by decide +kernel) rfl rfl ?_
  refine sm_case (V g mJ11_min_2 d 10 [(0, vl a1), (2, vl a2)] [] σ τ Q) (V g mJ11_min_2 d 6 [(0, vl a1), (2, vl a2)] [] σ τ Q) ?_ ?_ (fun f3 p4 n5 => ?_)
  · refine sm_b (l' := [(0, vl a1), (2, vl a2)]) (st' := [vl a2]) (pc' := 11) [(.lload_n 2, vi 0, 11)] (by decide +kernel) rfl rfl ?_
    exact sm_lret rfl (by decide +kernel) (fun h => hRET _ h)
  · refine sm_b (l' := [(0, vl a1), (2, vl a2)]) (st' := [vl a1]) (pc' := 11) [(.lload_n 0, vi 0, 7), (.goto 4, vi 0, 11)] (by decide +kernel) rfl rfl ?_
    exact sm_lret rfl (by decide +kernel) (fun h => hRET _ h)
  refine sm_lc_gt (off := 7) (tgt := 10) (by decide +kernel) (by decide +kernel) (fun c6 => ?_) (fun c6 => ?_)
  · exact p4 c6
  · exact n5 c6
def jl_divideUnsigned (a1 : Int64) (a2 : Int64) : Option (Int64) := if a2 < 0 then (some ((lUsh (a1 &&& ((a1 - a2) ^^^ ((-1)))) 63))) else (gd (¬ a2 = 0) (nm (lShl ((lUsh a1 1) / a2) 1) fun x5 => nm (a1 - (x5 * a2)) fun x6 => some ((x5 + (lUsh (x6 ||| ((x6 - a2) ^^^ ((-1)))) 63)))))
set_option maxHeartbeats 4000000 in
theorem jl_divideUnsigned_ok {g : GE} (G : GG g) {σ : ST} (d : Nat) (hd1 : 0 ≤ d) (a1 : Int64) (a2 : Int64)  (τ : TT) (Q : VQ) : Sm (V g mJ15_divideUnsigned d 0 [(0, vl a1), (2, vl a2)] [] σ τ Q) (jl_divideUnsigned a1 a2) (fun r => Q.1 (some (vl r)) σ τ) := by
  unfold jl_divideUnsigned
  refine sm_top (fun K hRET => ?_)
  refine sm_b (l' := [(0, vl a1), (2, vl a2)]) (st' := [vl 0, vl a2]) (pc' := 2) [(.lload_n 2, vi 0, 1), (.lconst 0, vl 0, 2)] (by decide +kernel) rfl rfl ?_
  refine sm_case (V g mJ15_divideUnsigned d 41 [(0, vl a1), (2, vl a2)] [] σ τ Q) (V g mJ15_divideUnsigned d 6 [(0, vl a1), (2, vl a2)] [] σ τ Q) ?_ ?_ (fun f7 p8 n9 => ?_)
  · refine sm_b (l' := [(0, vl a1), (2, vl a2)]) (st' := [vl (a1 - a2), vl a1]) (pc' := 45) [(.lload_n 0, vi 0, 42), (.lload_n 0, vi 0, 43), (.lload_n 2, vi 0, 44), (.lsub, vi 0, 45)] (by decide +kernel) rfl rfl ?_
    refine sm_ldc2 (by decide +kernel) q1150 ?_
    refine sm_b (l' := [(0, vl a1), (2, vl a2)]) (st' := [vl (lUsh (a1 &&& ((a1 - a2) ^^^ ((-1)))) 63)]) (pc' := 53) [(.lxor, vi 0, 49), (.land, vi 0, 50), (.bipush 63, vi 63, 52), (.lushr, vi 0, 53)] (by decide +kernel) rfl rfl ?_
    exact sm_lret rfl (by decide +kernel) (fun h => hRET _ h)
  · refine sm_b (l' := [(0, vl a1), (2, vl a2)]) (st' := [vl a2, vl (lUsh a1 1)]) (pc' := 10) [(.lload_n 0, vi 0, 7), (.iconst 1, vi 1, 8), (.lushr, vi 0, 9), (.lload_n 2, vi 0, 10)] (by decide +kernel) rfl rfl ?_
    refine sm_gd (fun h4 => ?_)
    refine sm_ldiv (by decide +kernel) h4 ?_
    refine sm_b (l' := [(0, vl a1), (2, vl a2)]) (st' := [vl (lShl ((lUsh a1 1) / a2) 1)]) (pc' := 13) [(.iconst 1, vi 1, 12), (.lshl, vi 0, 13)] (by decide +kernel) rfl rfl ?_
    refine sm_nml (fun x5 => ?_)
    refine sm_b (l' := [(0, vl a1), (2, vl a2), (4, vl x5)]) (st' := [vl (a1 - (x5 * a2))]) (pc' := 21) [(.lstore 4, vi 0, 15), (.lload_n 0, vi 0, 16), (.lload 4, vi 0, 18), (.lload_n 2, vi 0, 19), (.lmul, vi 0, 20), (.lsub, vi 0, 21)] (by decide +kernel) rfl rfl ?_
    refine sm_nml (fun x6 => ?_)
    refine sm_b (l' := [(0, vl a1), (2, vl a2), (4, vl x5), (6, vl x6)]) (st' := [vl (x6 - a2), vl x6, vl x5]) (pc' := 31) [(.lstore 6, vi 0, 23), (.lload 4, vi 0, 25), (.lload 6, vi 0, 27), (.lload 6, vi 0, 29), (.lload_n 2, vi 0, 30), (.lsub, vi 0, 31)] (by decide +kernel) rfl rfl ?_
    refine sm_ldc2 (by decide +kernel) q1150 ?_
    refine sm_b (l' := [(0, vl a1), (2, vl a2), (4, vl x5), (6, vl x6)]) (st' := [vl (x5 + (lUsh (x6 ||| ((x6 - a2) ^^^ ((-1)))) 63))]) (pc' := 40) [(.lxor, vi 0, 35), (.lor, vi 0, 36), (.bipush 63, vi 63, 38), (.lushr, vi 0, 39), (.ladd, vi 0, 40)] (by decide +kernel) rfl rfl ?_
    exact sm_lret rfl (by decide +kernel) (fun h => hRET _ h)
  refine sm_lc_lt (off := 38) (tgt := 41) (by decide +kernel) (by decide +kernel) (fun c10 => ?_) (fun c10 => ?_)
  · exact p8 c10
  · exact n9 c10
def jl_compare (a1 : Int64) (a2 : Int64) : Option (Int) := if a2 ≤ a1 then (if a1 = a2 then (some 0) else (some 1)) else (some (((-1))))
set_option maxHeartbeats 4000000 in
theorem jl_compare_ok {g : GE} (G : GG g) {σ : ST} (d : Nat) (hd1 : 0 ≤ d) (a1 : Int64) (a2 : Int64)  (τ : TT) (Q : VQ) : Sm (V g mJ15_compare d 0 [(0, vl a1), (2, vl a2)] [] σ τ Q) (jl_compare a1 a2) (fun r => Q.1 (some (vi r)) σ τ) := by
  unfold jl_compare
  refine sm_top (fun K hRET => ?_)
  refine sm_b (l' := [(0, vl a1), (2, vl a2)]) (st' := [vl a2, vl a1]) (pc' := 2) [(.lload_n 0, vi 0, 1), (.lload_n 2, vi 0, 2)] (by decide +kernel) rfl rfl ?_
  refine sm_case (V g mJ15_compare d 10 [(0, vl a1), (2, vl a2)] [] σ τ Q) (V g mJ15_compare d 6 [(0, vl a1), (2, vl a2)] [] σ τ Q) ?_ ?_ (fun f9 p10 n11 => ?_)
  · refine sm_b (l' := [(0, vl a1), (2, vl a2)]) (st' := [vl a2, vl a1]) (pc' := 12) [(.lload_n 0, vi 0, 11), (.lload_n 2, vi 0, 12)] (by decide +kernel) rfl rfl ?_
    refine sm_case (V g mJ15_compare d 16 [(0, vl a1), (2, vl a2)] [] σ τ Q) (V g mJ15_compare d 20 [(0, vl a1), (2, vl a2)] [] σ τ Q) ?_ ?_ (fun f5 p6 n7 => ?_)
    · refine sm_b (l' := [(0, vl a1), (2, vl a2)]) (st' := [vi 0]) (pc' := 21) [(.iconst 0, vi 0, 17), (.goto 4, vi 0, 21)] (by decide +kernel) rfl rfl ?_
      exact sm_iret rfl (by decide +kernel) (fun h => hRET _ h)
    · refine sm_b (l' := [(0, vl a1), (2, vl a2)]) (st' := [vi 1]) (pc' := 21) [(.iconst 1, vi 1, 21)] (by decide +kernel) rfl rfl ?_
      exact sm_iret rfl (by decide +kernel) (fun h => hRET _ h)
    refine sm_lc_ne (off := 7) (tgt := 20) (by decide +kernel) (by decide +kernel) (fun c8 => ?_) (fun c8 => ?_)
    · exact n7 c8
    · exact p6 c8
  · refine sm_b (l' := [(0, vl a1), (2, vl a2)]) (st' := [vi ((-1))]) (pc' := 21) [(.iconst (-1), vi (-1), 7), (.goto 14, vi 0, 21)] (by decide +kernel) rfl rfl ?_
    exact sm_iret rfl (by decide +kernel) (fun h => hRET _ h)
  refine sm_lc_ge (off := 7) (tgt := 10) (by decide +kernel) (by decide +kernel) (fun c12 => ?_) (fun c12 => ?_)
  · exact p10 c12
  · exact n11 c12
def jl_compareUnsigned (a1 : Int64) (a2 : Int64) : Option (Int) := Option.bind (jl_compare (a1 + ((-9223372036854775808))) (a2 + ((-9223372036854775808)))) fun y1 => some y1
set_option maxHeartbeats 4000000 in
theorem jl_compareUnsigned_ok {g : GE} (G : GG g) {σ : ST} (d : Nat) (hd1 : 1 ≤ d) (a1 : Int64) (a2 : Int64)  (τ : TT) (Q : VQ) : Sm (V g mJ15_compareUnsigned d 0 [(0, vl a1), (2, vl a2)] [] σ τ Q) (jl_compareUnsigned a1 a2) (fun r => Q.1 (some (vi r)) σ τ) := by
  unfold jl_compareUnsigned
  refine sm_top (fun K hRET => ?_)
  refine sm_b (l' := [(0, vl a1), (2, vl a2)]) (st' := [vl a1]) (pc' := 1) [(.lload_n 0, vi 0, 1)] (by decide +kernel) rfl rfl ?_
  refine sm_ldc2 (by decide +kernel) q1155 ?_
  refine sm_b (l' := [(0, vl a1), (2, vl a2)]) (st' := [vl a2, vl (a1 + ((-9223372036854775808)))]) (pc' := 6) [(.ladd, vi 0, 5), (.lload_n 2, vi 0, 6)] (by decide +kernel) rfl rfl ?_
  refine sm_ldc2 (by decide +kernel) q1155 ?_
  refine sm_b (l' := [(0, vl a1), (2, vl a2)]) (st' := [vl (a2 + ((-9223372036854775808))), vl (a1 + ((-9223372036854775808)))]) (pc' := 10) [(.ladd, vi 0, 10)] (by decide +kernel) rfl rfl ?_
  refine sm_cs (N := mJ15_compare) (d' := d - 1) (fun r => (some (vi r))) (fun _ => σ) (fun _ => τ) [vl (a1 + ((-9223372036854775808))), vl (a2 + ((-9223372036854775808)))] [] rfl (by decide +kernel) q1156 q1157 q161 (Or.inl ⟨rfl, q1158⟩) (show okN yJ15_compare 2 = true by decide +kernel) rfl rfl (by omega) rfl (fun Q' => jl_compare_ok G (d - 1) (by omega) (a1 + ((-9223372036854775808))) (a2 + ((-9223372036854775808))) τ Q') (fun y1 => ?_)
  exact sm_iret rfl (by decide +kernel) (fun h => hRET _ h)
def jl_remainderUnsigned (a1 : Int64) (a2 : Int64) : Option (Int64) := if a2 < 0 then (some ((a1 - ((lShr (a1 &&& ((a1 - a2) ^^^ ((-1)))) 63) &&& a2)))) else (gd (¬ a2 = 0) (nm (lShl ((lUsh a1 1) / a2) 1) fun x5 => nm (a1 - (x5 * a2)) fun x6 => some ((x6 - ((lShr ((x6 - a2) ^^^ ((-1))) 63) &&& a2)))))
set_option maxHeartbeats 4000000 in
theorem jl_remainderUnsigned_ok {g : GE} (G : GG g) {σ : ST} (d : Nat) (hd1 : 0 ≤ d) (a1 : Int64) (a2 : Int64)  (τ : TT) (Q : VQ) : Sm (V g mJ15_remainderUnsigned d 0 [(0, vl a1), (2, vl a2)] [] σ τ Q) (jl_remainderUnsigned a1 a2) (fun r => Q.1 (some (vl r)) σ τ) := by
  unfold jl_remainderUnsigned
  refine sm_top (fun K hRET => ?_)
  refine sm_b (l' := [(0, vl a1), (2, vl a2)]) (st' := [vl 0, vl a2]) (pc' := 2) [(.lload_n 2, vi 0, 1), (.lconst 0, vl 0, 2)] (by decide +kernel) rfl rfl ?_
  refine sm_case (V g mJ15_remainderUnsigned d 40 [(0, vl a1), (2, vl a2)] [] σ τ Q) (V g mJ15_remainderUnsigned d 6 [(0, vl a1), (2, vl a2)] [] σ τ Q) ?_ ?_ (fun f7 p8 n9 => ?_)
  · refine sm_b (l' := [(0, vl a1), (2, vl a2)]) (st' := [vl (a1 - a2), vl a1, vl a1]) (pc' := 45) [(.lload_n 0, vi 0, 41), (.lload_n 0, vi 0, 42), (.lload_n 0, vi 0, 43), (.lload_n 2, vi 0, 44), (.lsub, vi 0, 45)] (by decide +kernel) rfl rfl ?_
    refine sm_ldc2 (by decide +kernel) q1150 ?_
    refine sm_b (l' := [(0, vl a1), (2, vl a2)]) (st' := [vl (a1 - ((lShr (a1 &&& ((a1 - a2) ^^^ ((-1)))) 63) &&& a2))]) (pc' := 56) [(.lxor, vi 0, 49), (.land, vi 0, 50), (.bipush 63, vi 63, 52), (.lshr, vi 0, 53), (.lload_n 2, vi 0, 54), (.land, vi 0, 55), (.lsub, vi 0, 56)] (by decide +kernel) rfl rfl ?_
    exact sm_lret rfl (by decide +kernel) (fun h => hRET _ h)
  · refine sm_b (l' := [(0, vl a1), (2, vl a2)]) (st' := [vl a2, vl (lUsh a1 1)]) (pc' := 10) [(.lload_n 0, vi 0, 7), (.iconst 1, vi 1, 8), (.lushr, vi 0, 9), (.lload_n 2, vi 0, 10)] (by decide +kernel) rfl rfl ?_
    refine sm_gd (fun h4 => ?_)
    refine sm_ldiv (by decide +kernel) h4 ?_
    refine sm_b (l' := [(0, vl a1), (2, vl a2)]) (st' := [vl (lShl ((lUsh a1 1) / a2) 1)]) (pc' := 13) [(.iconst 1, vi 1, 12), (.lshl, vi 0, 13)] (by decide +kernel) rfl rfl ?_
    refine sm_nml (fun x5 => ?_)
    refine sm_b (l' := [(0, vl a1), (2, vl a2), (4, vl x5)]) (st' := [vl (a1 - (x5 * a2))]) (pc' := 21) [(.lstore 4, vi 0, 15), (.lload_n 0, vi 0, 16), (.lload 4, vi 0, 18), (.lload_n 2, vi 0, 19), (.lmul, vi 0, 20), (.lsub, vi 0, 21)] (by decide +kernel) rfl rfl ?_
    refine sm_nml (fun x6 => ?_)
    refine sm_b (l' := [(0, vl a1), (2, vl a2), (4, vl x5), (6, vl x6)]) (st' := [vl (x6 - a2), vl x6]) (pc' := 29) [(.lstore 6, vi 0, 23), (.lload 6, vi 0, 25), (.lload 6, vi 0, 27), (.lload_n 2, vi 0, 28), (.lsub, vi 0, 29)] (by decide +kernel) rfl rfl ?_
    refine sm_ldc2 (by decide +kernel) q1150 ?_
    refine sm_b (l' := [(0, vl a1), (2, vl a2), (4, vl x5), (6, vl x6)]) (st' := [vl (x6 - ((lShr ((x6 - a2) ^^^ ((-1))) 63) &&& a2))]) (pc' := 39) [(.lxor, vi 0, 33), (.bipush 63, vi 63, 35), (.lshr, vi 0, 36), (.lload_n 2, vi 0, 37), (.land, vi 0, 38), (.lsub, vi 0, 39)] (by decide +kernel) rfl rfl ?_
    exact sm_lret rfl (by decide +kernel) (fun h => hRET _ h)
  refine sm_lc_lt (off := 37) (tgt := 40) (by decide +kernel) (by decide +kernel) (fun c10 => ?_) (fun c10 => ?_)
  · exact p8 c10
  · exact n9 c10
