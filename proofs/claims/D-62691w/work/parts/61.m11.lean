set_option maxRecDepth 100000
/-! the reference: X4_say, X4_string, X4_fieldNamed, X4_literal -/
def m_say (a1 : Int) (τ : TT) : Option (TT) := gd (rg a1) (if 128 ≤ a1 then (if 2048 ≤ a1 then (if 65536 ≤ a1 then (Option.bind (m_sayByte (iOr 240 (iShr a1 18)) τ) fun y8 => Option.bind (m_sayByte (iOr 128 (iAnd (iShr a1 12) 63)) y8) fun y9 => Option.bind (m_sayByte (iOr 128 (iAnd (iShr a1 6) 63)) y9) fun y10 => Option.bind (m_sayByte (iOr 128 (iAnd a1 63)) y10) fun y11 => some y11) else (Option.bind (m_sayByte (iOr 224 (iShr a1 12)) τ) fun y12 => Option.bind (m_sayByte (iOr 128 (iAnd (iShr a1 6) 63)) y12) fun y13 => Option.bind (m_sayByte (iOr 128 (iAnd a1 63)) y13) fun y14 => some y14)) else (Option.bind (m_sayByte (iOr 192 (iShr a1 6)) τ) fun y19 => Option.bind (m_sayByte (iOr 128 (iAnd a1 63)) y19) fun y20 => some y20)) else (Option.bind (m_sayByte a1 τ) fun y25 => some y25))
set_option maxHeartbeats 4000000 in
theorem m_say_ok {g : GE} (G : GG g) {σ : ST} (d : Nat) (hd1 : 1 ≤ d) (a1 : Int)  (τ : TT) (Q : VQ) : Sm (V g mX4_say d 0 [(0, vr (some (gw g))), (1, vi a1)] [] σ τ Q) (m_say a1 τ) (fun r => Q.1 none σ r) := by
  unfold m_say
  refine sm_top (fun K hRET => ?_)
  refine sm_b (l' := [(0, vr (some (gw g))), (1, vi a1)]) (st' := [vi 128, vi a1]) (pc' := 4) [(.iload_n 1, vi 0, 1), (.sipush 128, vi 128, 4)] (by decide +kernel) rfl rfl ?_
  refine sm_gd (fun h1 => ?_)
  refine sm_case (V g mX4_say d 15 [(0, vr (some (gw g))), (1, vi a1)] [] σ τ Q) (V g mX4_say d 7 [(0, vr (some (gw g))), (1, vi a1)] [] σ τ Q) ?_ ?_ (fun f26 p27 n28 => ?_)
  · refine sm_b (l' := [(0, vr (some (gw g))), (1, vi a1)]) (st' := [vi 2048, vi a1]) (pc' := 19) [(.iload_n 1, vi 0, 16), (.sipush 2048, vi 2048, 19)] (by decide +kernel) rfl rfl ?_
    refine sm_case (V g mX4_say d 49 [(0, vr (some (gw g))), (1, vi a1)] [] σ τ Q) (V g mX4_say d 22 [(0, vr (some (gw g))), (1, vi a1)] [] σ τ Q) ?_ ?_ (fun f21 p22 n23 => ?_)
    · refine sm_b (l' := [(0, vr (some (gw g))), (1, vi a1)]) (st' := [vi a1]) (pc' := 50) [(.iload_n 1, vi 0, 50)] (by decide +kernel) rfl rfl ?_
      refine sm_ldcw (x := 65536) (by decide) (by decide +kernel) q1799 ?_
      refine sm_case (V g mX4_say d 98 [(0, vr (some (gw g))), (1, vi a1)] [] σ τ Q) (V g mX4_say d 56 [(0, vr (some (gw g))), (1, vi a1)] [] σ τ Q) ?_ ?_ (fun f15 p16 n17 => ?_)
      · refine sm_b (l' := [(0, vr (some (gw g))), (1, vi a1)]) (st' := [vi (iOr 240 (iShr a1 18)), vr (some (gw g))]) (pc' := 107) [(.aload_n 0, vi 0, 99), (.sipush 240, vi 240, 102), (.iload_n 1, vi 0, 103), (.bipush 18, vi 18, 105), (.ishr, vi 0, 106), (.ior, vi 0, 107)] (by decide +kernel) rfl rfl ?_
        refine sm_cv (N := mX4_sayByte) (d' := d - 1) (fun r => none) (fun _ => σ) (fun r => r) [vi (iOr 240 (iShr a1 18))] [] rfl (by decide +kernel) q1910 q1912 qs105 (Or.inl ⟨rfl, q1913⟩) (show okN yX4_sayByte 1 = true by decide +kernel) (fun H hR => hR.rvw G.1 G.2.1) rfl rfl (by omega) rfl (fun Q' => m_sayByte_ok G (d - 1) (by omega) (iOr 240 (iShr a1 18)) τ Q') (fun y8 => ?_)
        refine sm_b (l' := [(0, vr (some (gw g))), (1, vi a1)]) (st' := [vi (iOr 128 (iAnd (iShr a1 12) 63)), vr (some (gw g))]) (pc' := 122) [(.aload_n 0, vi 0, 111), (.sipush 128, vi 128, 114), (.iload_n 1, vi 0, 115), (.bipush 12, vi 12, 117), (.ishr, vi 0, 118), (.bipush 63, vi 63, 120), (.iand, vi 0, 121), (.ior, vi 0, 122)] (by decide +kernel) rfl rfl ?_
        refine sm_cv (N := mX4_sayByte) (d' := d - 1) (fun r => none) (fun _ => σ) (fun r => r) [vi (iOr 128 (iAnd (iShr a1 12) 63))] [] rfl (by decide +kernel) q1910 q1912 qs105 (Or.inl ⟨rfl, q1913⟩) (show okN yX4_sayByte 1 = true by decide +kernel) (fun H hR => hR.rvw G.1 G.2.1) rfl rfl (by omega) rfl (fun Q' => m_sayByte_ok G (d - 1) (by omega) (iOr 128 (iAnd (iShr a1 12) 63)) y8 Q') (fun y9 => ?_)
        refine sm_b (l' := [(0, vr (some (gw g))), (1, vi a1)]) (st' := [vi (iOr 128 (iAnd (iShr a1 6) 63)), vr (some (gw g))]) (pc' := 137) [(.aload_n 0, vi 0, 126), (.sipush 128, vi 128, 129), (.iload_n 1, vi 0, 130), (.bipush 6, vi 6, 132), (.ishr, vi 0, 133), (.bipush 63, vi 63, 135), (.iand, vi 0, 136), (.ior, vi 0, 137)] (by decide +kernel) rfl rfl ?_
        refine sm_cv (N := mX4_sayByte) (d' := d - 1) (fun r => none) (fun _ => σ) (fun r => r) [vi (iOr 128 (iAnd (iShr a1 6) 63))] [] rfl (by decide +kernel) q1910 q1912 qs105 (Or.inl ⟨rfl, q1913⟩) (show okN yX4_sayByte 1 = true by decide +kernel) (fun H hR => hR.rvw G.1 G.2.1) rfl rfl (by omega) rfl (fun Q' => m_sayByte_ok G (d - 1) (by omega) (iOr 128 (iAnd (iShr a1 6) 63)) y9 Q') (fun y10 => ?_)
        refine sm_b (l' := [(0, vr (some (gw g))), (1, vi a1)]) (st' := [vi (iOr 128 (iAnd a1 63)), vr (some (gw g))]) (pc' := 149) [(.aload_n 0, vi 0, 141), (.sipush 128, vi 128, 144), (.iload_n 1, vi 0, 145), (.bipush 63, vi 63, 147), (.iand, vi 0, 148), (.ior, vi 0, 149)] (by decide +kernel) rfl rfl ?_
        refine sm_cv (N := mX4_sayByte) (d' := d - 1) (fun r => none) (fun _ => σ) (fun r => r) [vi (iOr 128 (iAnd a1 63))] [] rfl (by decide +kernel) q1910 q1912 qs105 (Or.inl ⟨rfl, q1913⟩) (show okN yX4_sayByte 1 = true by decide +kernel) (fun H hR => hR.rvw G.1 G.2.1) rfl rfl (by omega) rfl (fun Q' => m_sayByte_ok G (d - 1) (by omega) (iOr 128 (iAnd a1 63)) y10 Q') (fun y11 => ?_)
        exact sm_vret rfl (by decide +kernel) (fun h => hRET _ h)
      · refine sm_b (l' := [(0, vr (some (gw g))), (1, vi a1)]) (st' := [vi (iOr 224 (iShr a1 12)), vr (some (gw g))]) (pc' := 65) [(.aload_n 0, vi 0, 57), (.sipush 224, vi 224, 60), (.iload_n 1, vi 0, 61), (.bipush 12, vi 12, 63), (.ishr, vi 0, 64), (.ior, vi 0, 65)] (by decide +kernel) rfl rfl ?_
        refine sm_cv (N := mX4_sayByte) (d' := d - 1) (fun r => none) (fun _ => σ) (fun r => r) [vi (iOr 224 (iShr a1 12))] [] rfl (by decide +kernel) q1910 q1912 qs105 (Or.inl ⟨rfl, q1913⟩) (show okN yX4_sayByte 1 = true by decide +kernel) (fun H hR => hR.rvw G.1 G.2.1) rfl rfl (by omega) rfl (fun Q' => m_sayByte_ok G (d - 1) (by omega) (iOr 224 (iShr a1 12)) τ Q') (fun y12 => ?_)
        refine sm_b (l' := [(0, vr (some (gw g))), (1, vi a1)]) (st' := [vi (iOr 128 (iAnd (iShr a1 6) 63)), vr (some (gw g))]) (pc' := 80) [(.aload_n 0, vi 0, 69), (.sipush 128, vi 128, 72), (.iload_n 1, vi 0, 73), (.bipush 6, vi 6, 75), (.ishr, vi 0, 76), (.bipush 63, vi 63, 78), (.iand, vi 0, 79), (.ior, vi 0, 80)] (by decide +kernel) rfl rfl ?_
        refine sm_cv (N := mX4_sayByte) (d' := d - 1) (fun r => none) (fun _ => σ) (fun r => r) [vi (iOr 128 (iAnd (iShr a1 6) 63))] [] rfl (by decide +kernel) q1910 q1912 qs105 (Or.inl ⟨rfl, q1913⟩) (show okN yX4_sayByte 1 = true by decide +kernel) (fun H hR => hR.rvw G.1 G.2.1) rfl rfl (by omega) rfl (fun Q' => m_sayByte_ok G (d - 1) (by omega) (iOr 128 (iAnd (iShr a1 6) 63)) y12 Q') (fun y13 => ?_)
        refine sm_b (l' := [(0, vr (some (gw g))), (1, vi a1)]) (st' := [vi (iOr 128 (iAnd a1 63)), vr (some (gw g))]) (pc' := 92) [(.aload_n 0, vi 0, 84), (.sipush 128, vi 128, 87), (.iload_n 1, vi 0, 88), (.bipush 63, vi 63, 90), (.iand, vi 0, 91), (.ior, vi 0, 92)] (by decide +kernel) rfl rfl ?_
        refine sm_cv (N := mX4_sayByte) (d' := d - 1) (fun r => none) (fun _ => σ) (fun r => r) [vi (iOr 128 (iAnd a1 63))] [] rfl (by decide +kernel) q1910 q1912 qs105 (Or.inl ⟨rfl, q1913⟩) (show okN yX4_sayByte 1 = true by decide +kernel) (fun H hR => hR.rvw G.1 G.2.1) rfl rfl (by omega) rfl (fun Q' => m_sayByte_ok G (d - 1) (by omega) (iOr 128 (iAnd a1 63)) y13 Q') (fun y14 => ?_)
        refine sm_b (l' := [(0, vr (some (gw g))), (1, vi a1)]) (st' := []) (pc' := 152) [(.goto 57, vi 0, 152)] (by decide +kernel) rfl rfl ?_
        exact sm_vret rfl (by decide +kernel) (fun h => hRET _ h)
      refine sm_icmp_ge (off := 45) (tgt := 98) h1 (by decide) (by decide +kernel) (fun c18 => ?_) (fun c18 => ?_)
      · exact p16 c18
      · exact n17 c18
    · refine sm_b (l' := [(0, vr (some (gw g))), (1, vi a1)]) (st' := [vi (iOr 192 (iShr a1 6)), vr (some (gw g))]) (pc' := 31) [(.aload_n 0, vi 0, 23), (.sipush 192, vi 192, 26), (.iload_n 1, vi 0, 27), (.bipush 6, vi 6, 29), (.ishr, vi 0, 30), (.ior, vi 0, 31)] (by decide +kernel) rfl rfl ?_
      refine sm_cv (N := mX4_sayByte) (d' := d - 1) (fun r => none) (fun _ => σ) (fun r => r) [vi (iOr 192 (iShr a1 6))] [] rfl (by decide +kernel) q1910 q1912 qs105 (Or.inl ⟨rfl, q1913⟩) (show okN yX4_sayByte 1 = true by decide +kernel) (fun H hR => hR.rvw G.1 G.2.1) rfl rfl (by omega) rfl (fun Q' => m_sayByte_ok G (d - 1) (by omega) (iOr 192 (iShr a1 6)) τ Q') (fun y19 => ?_)
      refine sm_b (l' := [(0, vr (some (gw g))), (1, vi a1)]) (st' := [vi (iOr 128 (iAnd a1 63)), vr (some (gw g))]) (pc' := 43) [(.aload_n 0, vi 0, 35), (.sipush 128, vi 128, 38), (.iload_n 1, vi 0, 39), (.bipush 63, vi 63, 41), (.iand, vi 0, 42), (.ior, vi 0, 43)] (by decide +kernel) rfl rfl ?_
      refine sm_cv (N := mX4_sayByte) (d' := d - 1) (fun r => none) (fun _ => σ) (fun r => r) [vi (iOr 128 (iAnd a1 63))] [] rfl (by decide +kernel) q1910 q1912 qs105 (Or.inl ⟨rfl, q1913⟩) (show okN yX4_sayByte 1 = true by decide +kernel) (fun H hR => hR.rvw G.1 G.2.1) rfl rfl (by omega) rfl (fun Q' => m_sayByte_ok G (d - 1) (by omega) (iOr 128 (iAnd a1 63)) y19 Q') (fun y20 => ?_)
      refine sm_b (l' := [(0, vr (some (gw g))), (1, vi a1)]) (st' := []) (pc' := 152) [(.goto 106, vi 0, 152)] (by decide +kernel) rfl rfl ?_
      exact sm_vret rfl (by decide +kernel) (fun h => hRET _ h)
    refine sm_icmp_ge (off := 30) (tgt := 49) h1 (by decide) (by decide +kernel) (fun c24 => ?_) (fun c24 => ?_)
    · exact p22 c24
    · exact n23 c24
  · refine sm_b (l' := [(0, vr (some (gw g))), (1, vi a1)]) (st' := [vi a1, vr (some (gw g))]) (pc' := 9) [(.aload_n 0, vi 0, 8), (.iload_n 1, vi 0, 9)] (by decide +kernel) rfl rfl ?_
    refine sm_cv (N := mX4_sayByte) (d' := d - 1) (fun r => none) (fun _ => σ) (fun r => r) [vi a1] [] rfl (by decide +kernel) q1910 q1912 qs105 (Or.inl ⟨rfl, q1913⟩) (show okN yX4_sayByte 1 = true by decide +kernel) (fun H hR => hR.rvw G.1 G.2.1) rfl rfl (by omega) rfl (fun Q' => m_sayByte_ok G (d - 1) (by omega) a1 τ Q') (fun y25 => ?_)
    refine sm_b (l' := [(0, vr (some (gw g))), (1, vi a1)]) (st' := []) (pc' := 152) [(.goto 140, vi 0, 152)] (by decide +kernel) rfl rfl ?_
    exact sm_vret rfl (by decide +kernel) (fun h => hRET _ h)
  refine sm_icmp_ge (off := 11) (tgt := 15) h1 (by decide) (by decide +kernel) (fun c29 => ?_) (fun c29 => ?_)
  · exact p27 c29
  · exact n28 c29
def m_string_L21  : Nat → Int → TT → Option ((Int × TT) ⊕ (Int × TT))
  | 0, _, _ => none
  | n + 1, w2, τ => Option.bind (m_look w2 τ) fun y12 => gd (rg y12) (if y12 = 34 then (some (Sum.inr ((w2, τ)))) else (Option.bind (m_look w2 τ) fun y16 => gd (rg y16) (if 32 ≤ y16 then (if y16 = 92 then (Option.bind (m_look (w2 + 1) τ) fun y23 => Option.bind (gd (rg y23) (if y23 = 98 then (some 8) else (if y23 = 102 then (some 12) else (if y23 = 110 then (some 10) else (if y23 = 114 then (some 13) else (if y23 = 116 then (some 9) else (if ((y23 = 34) ∨ (y23 = 92)) ∨ (y23 = 47) then (some y23) else (some (((-1))))))))))) fun (v27 : Int) => Option.bind (gd (rg y23) (if y23 = 117 then (Option.bind (m_fourDigits (w2 + 2) τ) fun y46 => gd (rg y46) (if (y46 < 55296) ∨ (56320 ≤ y46) then (if (y46 < 56320) ∨ (57344 ≤ y46) then (some (Sum.inr (((w2 + 2) + 4, y46)))) else (some (Sum.inl (Sum.inl (((-1), τ)))))) else (Option.bind (m_look ((w2 + 2) + 4) τ) fun y60 => Option.bind (gd (rg y60) (gd (y60 = 92 → ok (m_look (((w2 + 2) + 4) + 1) τ)) (gd (y60 = 92 → rg (vv (m_look (((w2 + 2) + 4) + 1) τ))) (if (y60 = 92) ∧ ((vv (m_look (((w2 + 2) + 4) + 1) τ)) = 117) then (Option.bind (m_fourDigits (((w2 + 2) + 4) + 2) τ) fun y82 => some y82) else (some (((-1)))))))) fun (v68 : Int) => gd (rg v68) (if (v68 < 56320) ∨ (¬ (v68 < 57344)) then (some (Sum.inl (Sum.inl (((-1), τ))))) else (nm (((65536 + (iShl (y46 - 55296) 10)) + v68) - 56320) fun x76 => some (Sum.inr ((((w2 + 2) + 4) + 6, x76)))))))) else (some (Sum.inr ((w2 + 2, v27)))))) (Sum.elim some fun (v34 : Int × Int) => gd (rg v34.2) (if v34.2 = ((-1)) then (some (Sum.inl (((-1), τ)))) else (Option.bind (m_say v34.2 τ) fun y41 => m_string_L21 n v34.1 y41)))) else (Option.bind (m_sayByte y16 τ) fun y135 => m_string_L21 n (w2 + 1) y135)) else (some (Sum.inl (((-1), τ)))))))
def m_string (a1 : Int) (τ : TT) : Option (Int × TT) := Option.bind (m_look a1 τ) fun y1 => gd (rg y1) (if y1 = 34 then (nm (uI τ 57 0) fun τ5 => nm (a1 + 1) fun x6 => Option.bind (m_string_L21  FU x6 τ5) (Sum.elim some fun (v7 : Int × TT) => some ((v7.1 + 1, v7.2)))) else (some (((-1), τ))))
set_option maxHeartbeats 4000000 in
theorem m_string_L21_ok {g : GE} (G : GG g) {σ : ST} {Q : VQ} (d : Nat) (hd1 : 2 ≤ d)   {K : (Int × TT) ⊕ (Int × TT) → Prop} (hRET : ∀ r : Int × TT, K (Sum.inl r) → Q.1 (some (vi r.1)) σ r.2) (hE312 : ∀ v11 : Int × TT, K (Sum.inr v11) → V g mX4_string d 312 [(2, vi v11.1)] [] σ v11.2 Q) : ∀ (n : Nat) (w2 : Int) (τ : TT), Sm (V g mX4_string d 21 [(0, vr (some (gw g))), (2, vi w2)] [] σ τ Q) (m_string_L21 n w2 τ) K := by
  intro n
  induction n with
  | zero => intro w2 τ; exact sm_none
  | succ n ih =>
    intro w2 τ
    rw [m_string_L21.eq_2]
    refine sm_b (l' := [(0, vr (some (gw g))), (2, vi w2)]) (st' := [vi w2, vr (some (gw g))]) (pc' := 23) [(.aload_n 0, vi 0, 22), (.iload_n 2, vi 0, 23)] (by decide +kernel) rfl rfl ?_
    refine sm_cv (N := mX4_look) (d' := d - 1) (fun r => (some (vi r))) (fun _ => σ) (fun _ => τ) [vi w2] [] rfl (by decide +kernel) q1902 q1904 qs103 (Or.inl ⟨rfl, q1905⟩) (show okN yX4_look 1 = true by decide +kernel) (fun H hR => hR.rvw G.1 G.2.1) rfl rfl (by omega) rfl (fun Q' => m_look_ok G (d - 1) (by omega) w2 τ Q') (fun y12 => ?_)
    refine sm_b (l' := [(0, vr (some (gw g))), (2, vi w2)]) (st' := [vi 34, vi y12]) (pc' := 28) [(.bipush 34, vi 34, 28)] (by decide +kernel) rfl rfl ?_
    refine sm_gd (fun h13 => ?_)
    refine sm_case (V g mX4_string d 312 [(0, vr (some (gw g))), (2, vi w2)] [] σ τ Q) (V g mX4_string d 31 [(0, vr (some (gw g))), (2, vi w2)] [] σ τ Q) ?_ ?_ (fun f144 p145 n146 => ?_)
    · refine sm_pick [1] (l' := [(2, vi w2)]) rfl ?_
      exact sm_leaf (fun h => hE312 _ h)
    · refine sm_b (l' := [(0, vr (some (gw g))), (2, vi w2)]) (st' := [vi w2, vr (some (gw g))]) (pc' := 33) [(.aload_n 0, vi 0, 32), (.iload_n 2, vi 0, 33)] (by decide +kernel) rfl rfl ?_
      refine sm_cv (N := mX4_look) (d' := d - 1) (fun r => (some (vi r))) (fun _ => σ) (fun _ => τ) [vi w2] [] rfl (by decide +kernel) q1902 q1904 qs103 (Or.inl ⟨rfl, q1905⟩) (show okN yX4_look 1 = true by decide +kernel) (fun H hR => hR.rvw G.1 G.2.1) rfl rfl (by omega) rfl (fun Q' => m_look_ok G (d - 1) (by omega) w2 τ Q') (fun y16 => ?_)
      refine sm_b (l' := [(0, vr (some (gw g))), (2, vi w2), (3, vi y16)]) (st' := [vi 32, vi y16]) (pc' := 40) [(.istore_n 3, vi 0, 37), (.iload_n 3, vi 0, 38), (.bipush 32, vi 32, 40)] (by decide +kernel) rfl rfl ?_
      refine sm_gd (fun h17 => ?_)
      refine sm_case (V g mX4_string d 45 [(0, vr (some (gw g))), (2, vi w2), (3, vi y16)] [] σ τ Q) (V g mX4_string d 43 [(0, vr (some (gw g))), (2, vi w2), (3, vi y16)] [] σ τ Q) ?_ ?_ (fun f140 p141 n142 => ?_)
      · refine sm_b (l' := [(0, vr (some (gw g))), (2, vi w2), (3, vi y16)]) (st' := [vi 92, vi y16]) (pc' := 48) [(.iload_n 3, vi 0, 46), (.bipush 92, vi 92, 48)] (by decide +kernel) rfl rfl ?_
        refine sm_case (V g mX4_string d 62 [(0, vr (some (gw g))), (2, vi w2), (3, vi y16)] [] σ τ Q) (V g mX4_string d 51 [(0, vr (some (gw g))), (2, vi w2), (3, vi y16)] [] σ τ Q) ?_ ?_ (fun f136 p137 n138 => ?_)
        · refine sm_b (l' := [(0, vr (some (gw g))), (2, vi w2), (3, vi y16)]) (st' := [vi (w2 + 1), vr (some (gw g))]) (pc' := 66) [(.aload_n 0, vi 0, 63), (.iload_n 2, vi 0, 64), (.iconst 1, vi 1, 65), (.iadd, vi 0, 66)] (by decide +kernel) rfl rfl ?_
          refine sm_cv (N := mX4_look) (d' := d - 1) (fun r => (some (vi r))) (fun _ => σ) (fun _ => τ) [vi (w2 + 1)] [] rfl (by decide +kernel) q1902 q1904 qs103 (Or.inl ⟨rfl, q1905⟩) (show okN yX4_look 1 = true by decide +kernel) (fun H hR => hR.rvw G.1 G.2.1) rfl rfl (by omega) rfl (fun Q' => m_look_ok G (d - 1) (by omega) (w2 + 1) τ Q') (fun y23 => ?_)
          refine sm_b (l' := [(0, vr (some (gw g))), (2, vi (w2 + 2)), (3, vi y16), (4, vi y23)]) (st' := [vi 98, vi y23]) (pc' := 78) [(.istore 4, vi 0, 71), (.iinc 2 2, vi 2, 74), (.iload 4, vi 0, 76), (.bipush 98, vi 98, 78)] (by decide +kernel) rfl rfl ?_
          refine sm_bind1 (fun (v27 : Int) => V g mX4_string d 161 [(0, vr (some (gw g))), (2, vi (w2 + 2)), (4, vi y23)] [vi v27] σ τ Q) (fun v27 => ?_) (fun K28 j29 => ?_)
          · refine sm_b (l' := [(0, vr (some (gw g))), (2, vi (w2 + 2)), (4, vi y23), (5, vi v27)]) (st' := [vi 117, vi y23]) (pc' := 167) [(.istore 5, vi 0, 163), (.iload 4, vi 0, 165), (.bipush 117, vi 117, 167)] (by decide +kernel) rfl rfl ?_
            refine sm_bindS (fun (v34 : Int × Int) => V g mX4_string d 295 [(0, vr (some (gw g))), (2, vi v34.1), (5, vi v34.2)] [] σ τ Q) (fun v34 => ?_) (fun K35 o37 j36 => ?_)
            · refine sm_b (l' := [(0, vr (some (gw g))), (2, vi v34.1), (5, vi v34.2)]) (st' := [vi ((-1)), vi v34.2]) (pc' := 298) [(.iload 5, vi 0, 297), (.iconst (-1), vi (-1), 298)] (by decide +kernel) rfl rfl ?_
              refine sm_gd (fun h38 => ?_)
              refine sm_case (V g mX4_string d 301 [(0, vr (some (gw g))), (2, vi v34.1), (5, vi v34.2)] [] σ τ Q) (V g mX4_string d 303 [(0, vr (some (gw g))), (2, vi v34.1), (5, vi v34.2)] [] σ τ Q) ?_ ?_ (fun f42 p43 n44 => ?_)
              · refine sm_b (l' := [(0, vr (some (gw g))), (2, vi v34.1), (5, vi v34.2)]) (st' := [vi ((-1))]) (pc' := 302) [(.iconst (-1), vi (-1), 302)] (by decide +kernel) rfl rfl ?_
                exact sm_iret rfl (by decide +kernel) (fun h => hRET _ h)
              · refine sm_b (l' := [(0, vr (some (gw g))), (2, vi v34.1), (5, vi v34.2)]) (st' := [vi v34.2, vr (some (gw g))]) (pc' := 306) [(.aload_n 0, vi 0, 304), (.iload 5, vi 0, 306)] (by decide +kernel) rfl rfl ?_
                refine sm_cv (N := mX4_say) (d' := d - 1) (fun r => none) (fun _ => σ) (fun r => r) [vi v34.2] [] rfl (by decide +kernel) q1919 q1921 qs107 (Or.inl ⟨rfl, q1922⟩) (show okN yX4_say 1 = true by decide +kernel) (fun H hR => hR.rvw G.1 G.2.1) rfl rfl (by omega) rfl (fun Q' => m_say_ok G (d - 1) (by omega) v34.2 τ Q') (fun y41 => ?_)
                refine sm_b (l' := [(0, vr (some (gw g))), (2, vi v34.1), (5, vi v34.2)]) (st' := []) (pc' := 21) [(.goto (-288), vi 0, 21)] (by decide +kernel) rfl rfl ?_
                refine sm_pick [0, 1] (l' := [(0, vr (some (gw g))), (2, vi v34.1)]) rfl ?_
                exact ih v34.1 y41
              refine sm_icmp_ne (off := 5) (tgt := 303) h38 (by decide) (by decide +kernel) (fun c45 => ?_) (fun c45 => ?_)
              · exact n44 c45
              · exact p43 c45
            · refine sm_gd (fun h31 => ?_)
              refine sm_case (V g mX4_string d 170 [(0, vr (some (gw g))), (2, vi (w2 + 2)), (4, vi y23), (5, vi v27)] [] σ τ Q) (V g mX4_string d 295 [(0, vr (some (gw g))), (2, vi (w2 + 2)), (4, vi y23), (5, vi v27)] [] σ τ Q) ?_ ?_ (fun f93 p94 n95 => ?_)
              · refine sm_b (l' := [(0, vr (some (gw g))), (2, vi (w2 + 2)), (4, vi y23), (5, vi v27)]) (st' := [vi (w2 + 2), vr (some (gw g))]) (pc' := 172) [(.aload_n 0, vi 0, 171), (.iload_n 2, vi 0, 172)] (by decide +kernel) rfl rfl ?_
                refine sm_cv (N := mX4_fourDigits) (d' := d - 1) (fun r => (some (vi r))) (fun _ => σ) (fun _ => τ) [vi (w2 + 2)] [] rfl (by decide +kernel) q1914 q1916 qs106 (Or.inl ⟨rfl, q1917⟩) (show okN yX4_fourDigits 1 = true by decide +kernel) (fun H hR => hR.rvw G.1 G.2.1) rfl rfl (by omega) rfl (fun Q' => m_fourDigits_ok G (d - 1) (by omega) (w2 + 2) τ Q') (fun y46 => ?_)
                refine sm_b (l' := [(0, vr (some (gw g))), (2, vi ((w2 + 2) + 4)), (4, vi y23), (5, vi y46)]) (st' := [vi y46]) (pc' := 182) [(.istore 5, vi 0, 177), (.iinc 2 4, vi 4, 180), (.iload 5, vi 0, 182)] (by decide +kernel) rfl rfl ?_
                refine sm_ldcw (x := 55296) (by decide) (by decide +kernel) q1797 ?_
                refine sm_gd (fun h47 => ?_)
                refine sm_case (V g mX4_string d 277 [(0, vr (some (gw g))), (2, vi ((w2 + 2) + 4)), (4, vi y23), (5, vi y46)] [] σ τ Q) (V g mX4_string d 196 [(0, vr (some (gw g))), (2, vi ((w2 + 2) + 4)), (4, vi y23), (5, vi y46)] [] σ τ Q) ?_ ?_ (fun f88 p89 n90 => ?_)
                · refine sm_b (l' := [(0, vr (some (gw g))), (2, vi ((w2 + 2) + 4)), (4, vi y23), (5, vi y46)]) (st' := [vi y46]) (pc' := 279) [(.iload 5, vi 0, 279)] (by decide +kernel) rfl rfl ?_
                  refine sm_ldcw (x := 56320) (by decide) (by decide +kernel) q1918 ?_
                  refine sm_case (V g mX4_string d 295 [(0, vr (some (gw g))), (2, vi ((w2 + 2) + 4)), (4, vi y23), (5, vi y46)] [] σ τ Q) (V g mX4_string d 293 [(0, vr (some (gw g))), (2, vi ((w2 + 2) + 4)), (4, vi y23), (5, vi y46)] [] σ τ Q) ?_ ?_ (fun f55 p56 n57 => ?_)
                  · refine sm_pick [0, 1, 3] (l' := [(0, vr (some (gw g))), (2, vi ((w2 + 2) + 4)), (5, vi y46)]) rfl ?_
                    exact sm_leaf (fun h => j36 _ h)
                  · refine sm_b (l' := [(0, vr (some (gw g))), (2, vi ((w2 + 2) + 4)), (4, vi y23), (5, vi y46)]) (st' := [vi ((-1))]) (pc' := 294) [(.iconst (-1), vi (-1), 294)] (by decide +kernel) rfl rfl ?_
                    exact sm_iret rfl (by decide +kernel) (fun h => hRET _ (o37 _ h))
                  refine sm_icmp_lt (off := 13) (tgt := 295) h47 (by decide) (by decide +kernel) (fun c58 => ?_) (fun c58 => ?_)
                  · exact p56 (Or.inl c58)
                  · refine sm_b (l' := [(0, vr (some (gw g))), (2, vi ((w2 + 2) + 4)), (4, vi y23), (5, vi y46)]) (st' := [vi y46]) (pc' := 287) [(.iload 5, vi 0, 287)] (by decide +kernel) rfl rfl ?_
                    refine sm_ldcw (x := 57344) (by decide) (by decide +kernel) q1798 ?_
                    refine sm_icmp_ge (off := 5) (tgt := 295) h47 (by decide) (by decide +kernel) (fun c59 => ?_) (fun c59 => ?_)
                    · exact p56 (Or.inr c59)
                    · exact n57 (fun q => q.elim c58 c59)
                · refine sm_b (l' := [(0, vr (some (gw g))), (2, vi ((w2 + 2) + 4)), (4, vi y23), (5, vi y46)]) (st' := [vi ((w2 + 2) + 4), vr (some (gw g))]) (pc' := 198) [(.aload_n 0, vi 0, 197), (.iload_n 2, vi 0, 198)] (by decide +kernel) rfl rfl ?_
                  refine sm_cv (N := mX4_look) (d' := d - 1) (fun r => (some (vi r))) (fun _ => σ) (fun _ => τ) [vi ((w2 + 2) + 4)] [] rfl (by decide +kernel) q1902 q1904 qs103 (Or.inl ⟨rfl, q1905⟩) (show okN yX4_look 1 = true by decide +kernel) (fun H hR => hR.rvw G.1 G.2.1) rfl rfl (by omega) rfl (fun Q' => m_look_ok G (d - 1) (by omega) ((w2 + 2) + 4) τ Q') (fun y60 => ?_)
                  refine sm_b (l' := [(0, vr (some (gw g))), (2, vi ((w2 + 2) + 4)), (4, vi y23), (5, vi y46)]) (st' := [vi 92, vi y60]) (pc' := 203) [(.bipush 92, vi 92, 203)] (by decide +kernel) rfl rfl ?_
                  refine sm_bind1 (fun (v68 : Int) => V g mX4_string d 229 [(0, vr (some (gw g))), (2, vi ((w2 + 2) + 4)), (5, vi y46)] [vi v68] σ τ Q) (fun v68 => ?_) (fun K69 j70 => ?_)
                  · refine sm_b (l' := [(0, vr (some (gw g))), (2, vi ((w2 + 2) + 4)), (5, vi y46), (6, vi v68)]) (st' := [vi v68]) (pc' := 233) [(.istore 6, vi 0, 231), (.iload 6, vi 0, 233)] (by decide +kernel) rfl rfl ?_
                    refine sm_ldcw (x := 56320) (by decide) (by decide +kernel) q1918 ?_
                    refine sm_gd (fun h72 => ?_)
                    refine sm_case (V g mX4_string d 247 [(0, vr (some (gw g))), (2, vi ((w2 + 2) + 4)), (5, vi y46), (6, vi v68)] [] σ τ Q) (V g mX4_string d 249 [(0, vr (some (gw g))), (2, vi ((w2 + 2) + 4)), (5, vi y46), (6, vi v68)] [] σ τ Q) ?_ ?_ (fun f77 p78 n79 => ?_)
                    · refine sm_b (l' := [(0, vr (some (gw g))), (2, vi ((w2 + 2) + 4)), (5, vi y46), (6, vi v68)]) (st' := [vi ((-1))]) (pc' := 248) [(.iconst (-1), vi (-1), 248)] (by decide +kernel) rfl rfl ?_
                      exact sm_iret rfl (by decide +kernel) (fun h => hRET _ (o37 _ h))
                    · refine sm_ldcw (x := 65536) (by decide) (by decide +kernel) q1799 ?_
                      refine sm_b (l' := [(0, vr (some (gw g))), (2, vi ((w2 + 2) + 4)), (5, vi y46), (6, vi v68)]) (st' := [vi y46, vi 65536]) (pc' := 254) [(.iload 5, vi 0, 254)] (by decide +kernel) rfl rfl ?_
                      refine sm_ldcw (x := 55296) (by decide) (by decide +kernel) q1797 ?_
                      refine sm_b (l' := [(0, vr (some (gw g))), (2, vi ((w2 + 2) + 4)), (5, vi y46), (6, vi v68)]) (st' := [vi ((65536 + (iShl (y46 - 55296) 10)) + v68)]) (pc' := 265) [(.isub, vi 0, 258), (.bipush 10, vi 10, 260), (.ishl, vi 0, 261), (.iadd, vi 0, 262), (.iload 6, vi 0, 264), (.iadd, vi 0, 265)] (by decide +kernel) rfl rfl ?_
                      refine sm_ldcw (x := 56320) (by decide) (by decide +kernel) q1918 ?_
                      refine sm_b (l' := [(0, vr (some (gw g))), (2, vi ((w2 + 2) + 4)), (5, vi y46), (6, vi v68)]) (st' := [vi (((65536 + (iShl (y46 - 55296) 10)) + v68) - 56320)]) (pc' := 269) [(.isub, vi 0, 269)] (by decide +kernel) rfl rfl ?_
                      refine sm_nmi (fun x76 => ?_)
                      refine sm_b (l' := [(0, vr (some (gw g))), (2, vi (((w2 + 2) + 4) + 6)), (5, vi x76), (6, vi v68)]) (st' := []) (pc' := 295) [(.istore 5, vi 0, 271), (.iinc 2 6, vi 6, 274), (.goto 21, vi 0, 295)] (by decide +kernel) rfl rfl ?_
                      refine sm_pick [0, 1, 2] (l' := [(0, vr (some (gw g))), (2, vi (((w2 + 2) + 4) + 6)), (5, vi x76)]) rfl ?_
                      exact sm_leaf (fun h => j36 _ h)
                    refine sm_icmp_lt (off := 11) (tgt := 247) h72 (by decide) (by decide +kernel) (fun c80 => ?_) (fun c80 => ?_)
                    · exact p78 (Or.inl c80)
                    · refine sm_b (l' := [(0, vr (some (gw g))), (2, vi ((w2 + 2) + 4)), (5, vi y46), (6, vi v68)]) (st' := [vi v68]) (pc' := 241) [(.iload 6, vi 0, 241)] (by decide +kernel) rfl rfl ?_
                      refine sm_ldcw (x := 57344) (by decide) (by decide +kernel) q1798 ?_
                      refine sm_icmp_lt (off := 5) (tgt := 249) h72 (by decide) (by decide +kernel) (fun c81 => ?_) (fun c81 => ?_)
                      · exact n79 (fun q => q.elim c80 (fun q => q c81))
                      · exact p78 (Or.inr c81)
                  · refine sm_gd (fun h61 => ?_)
                    refine sm_gd (fun h63 => ?_)
                    refine sm_gd (fun h64 => ?_)
                    refine sm_case (V g mX4_string d 218 [(0, vr (some (gw g))), (2, vi ((w2 + 2) + 4)), (4, vi y23), (5, vi y46)] [] σ τ Q) (V g mX4_string d 228 [(0, vr (some (gw g))), (2, vi ((w2 + 2) + 4)), (4, vi y23), (5, vi y46)] [] σ τ Q) ?_ ?_ (fun f83 p84 n85 => ?_)
                    · refine sm_b (l' := [(0, vr (some (gw g))), (2, vi ((w2 + 2) + 4)), (4, vi y23), (5, vi y46)]) (st' := [vi (((w2 + 2) + 4) + 2), vr (some (gw g))]) (pc' := 222) [(.aload_n 0, vi 0, 219), (.iload_n 2, vi 0, 220), (.iconst 2, vi 2, 221), (.iadd, vi 0, 222)] (by decide +kernel) rfl rfl ?_
                      refine sm_cv (N := mX4_fourDigits) (d' := d - 1) (fun r => (some (vi r))) (fun _ => σ) (fun _ => τ) [vi (((w2 + 2) + 4) + 2)] [] rfl (by decide +kernel) q1914 q1916 qs106 (Or.inl ⟨rfl, q1917⟩) (show okN yX4_fourDigits 1 = true by decide +kernel) (fun H hR => hR.rvw G.1 G.2.1) rfl rfl (by omega) rfl (fun Q' => m_fourDigits_ok G (d - 1) (by omega) (((w2 + 2) + 4) + 2) τ Q') (fun y82 => ?_)
                      refine sm_b (l' := [(0, vr (some (gw g))), (2, vi ((w2 + 2) + 4)), (4, vi y23), (5, vi y46)]) (st' := [vi y82]) (pc' := 229) [(.goto 4, vi 0, 229)] (by decide +kernel) rfl rfl ?_
                      refine sm_pick [0, 1, 3] (l' := [(0, vr (some (gw g))), (2, vi ((w2 + 2) + 4)), (5, vi y46)]) rfl ?_
                      exact sm_leaf (fun h => j70 _ h)
                    · refine sm_b (l' := [(0, vr (some (gw g))), (2, vi ((w2 + 2) + 4)), (4, vi y23), (5, vi y46)]) (st' := [vi ((-1))]) (pc' := 229) [(.iconst (-1), vi (-1), 229)] (by decide +kernel) rfl rfl ?_
                      refine sm_pick [0, 1, 3] (l' := [(0, vr (some (gw g))), (2, vi ((w2 + 2) + 4)), (5, vi y46)]) rfl ?_
                      exact sm_leaf (fun h => j70 _ h)
                    refine sm_icmp_ne (off := 25) (tgt := 228) h61 (by decide) (by decide +kernel) (fun c86 => ?_) (fun c86 => ?_)
                    · exact n85 (fun q => c86 q.1)
                    · have w62 : y60 = 92 := c86
                      refine sm_b (l' := [(0, vr (some (gw g))), (2, vi ((w2 + 2) + 4)), (4, vi y23), (5, vi y46)]) (st' := [vi (((w2 + 2) + 4) + 1), vr (some (gw g))]) (pc' := 210) [(.aload_n 0, vi 0, 207), (.iload_n 2, vi 0, 208), (.iconst 1, vi 1, 209), (.iadd, vi 0, 210)] (by decide +kernel) rfl rfl ?_
                      refine sm_cvp (N := mX4_look) (d' := d - 1) (fun r => (some (vi r))) (some (vi (vv (m_look (((w2 + 2) + 4) + 1) τ)))) (h63 w62) (fun y h => by rw [vv_some h]) [vi (((w2 + 2) + 4) + 1)] [] rfl (by decide +kernel) q1902 q1904 qs103 (Or.inl ⟨rfl, q1905⟩) (show okN yX4_look 1 = true by decide +kernel) (fun H hR => hR.rvw G.1 G.2.1) rfl rfl (by omega) rfl (fun Q' => m_look_ok G (d - 1) (by omega) (((w2 + 2) + 4) + 1) τ Q') ?_
                      refine sm_b (l' := [(0, vr (some (gw g))), (2, vi ((w2 + 2) + 4)), (4, vi y23), (5, vi y46)]) (st' := [vi 117, vi (vv (m_look (((w2 + 2) + 4) + 1) τ))]) (pc' := 215) [(.bipush 117, vi 117, 215)] (by decide +kernel) rfl rfl ?_
                      refine sm_icmp_ne (off := 13) (tgt := 228) (h64 w62) (by decide) (by decide +kernel) (fun c87 => ?_) (fun c87 => ?_)
                      · exact n85 (fun q => c87 q.2)
                      · exact p84 ⟨c86, c87⟩
                refine sm_icmp_lt (off := 92) (tgt := 277) h47 (by decide) (by decide +kernel) (fun c91 => ?_) (fun c91 => ?_)
                · exact p89 (Or.inl c91)
                · refine sm_b (l' := [(0, vr (some (gw g))), (2, vi ((w2 + 2) + 4)), (4, vi y23), (5, vi y46)]) (st' := [vi y46]) (pc' := 190) [(.iload 5, vi 0, 190)] (by decide +kernel) rfl rfl ?_
                  refine sm_ldcw (x := 56320) (by decide) (by decide +kernel) q1918 ?_
                  refine sm_icmp_ge (off := 84) (tgt := 277) h47 (by decide) (by decide +kernel) (fun c92 => ?_) (fun c92 => ?_)
                  · exact p89 (Or.inr c92)
                  · exact n90 (fun q => q.elim c91 c92)
              · refine sm_pick [0, 1, 3] (l' := [(0, vr (some (gw g))), (2, vi (w2 + 2)), (5, vi v27)]) rfl ?_
                exact sm_leaf (fun h => j36 _ h)
              refine sm_icmp_ne (off := 128) (tgt := 295) h31 (by decide) (by decide +kernel) (fun c96 => ?_) (fun c96 => ?_)
              · exact n95 c96
              · exact p94 c96
          · refine sm_gd (fun h24 => ?_)
            refine sm_case (V g mX4_string d 81 [(0, vr (some (gw g))), (2, vi (w2 + 2)), (3, vi y16), (4, vi y23)] [] σ τ Q) (V g mX4_string d 86 [(0, vr (some (gw g))), (2, vi (w2 + 2)), (3, vi y16), (4, vi y23)] [] σ τ Q) ?_ ?_ (fun f131 p132 n133 => ?_)
            · refine sm_b (l' := [(0, vr (some (gw g))), (2, vi (w2 + 2)), (3, vi y16), (4, vi y23)]) (st' := [vi 8]) (pc' := 161) [(.bipush 8, vi 8, 83), (.goto 78, vi 0, 161)] (by decide +kernel) rfl rfl ?_
              refine sm_pick [0, 1, 3] (l' := [(0, vr (some (gw g))), (2, vi (w2 + 2)), (4, vi y23)]) rfl ?_
              exact sm_leaf (fun h => j29 _ h)
            · refine sm_b (l' := [(0, vr (some (gw g))), (2, vi (w2 + 2)), (3, vi y16), (4, vi y23)]) (st' := [vi 102, vi y23]) (pc' := 90) [(.iload 4, vi 0, 88), (.bipush 102, vi 102, 90)] (by decide +kernel) rfl rfl ?_
              refine sm_case (V g mX4_string d 93 [(0, vr (some (gw g))), (2, vi (w2 + 2)), (3, vi y16), (4, vi y23)] [] σ τ Q) (V g mX4_string d 98 [(0, vr (some (gw g))), (2, vi (w2 + 2)), (3, vi y16), (4, vi y23)] [] σ τ Q) ?_ ?_ (fun f127 p128 n129 => ?_)
              · refine sm_b (l' := [(0, vr (some (gw g))), (2, vi (w2 + 2)), (3, vi y16), (4, vi y23)]) (st' := [vi 12]) (pc' := 161) [(.bipush 12, vi 12, 95), (.goto 66, vi 0, 161)] (by decide +kernel) rfl rfl ?_
                refine sm_pick [0, 1, 3] (l' := [(0, vr (some (gw g))), (2, vi (w2 + 2)), (4, vi y23)]) rfl ?_
                exact sm_leaf (fun h => j29 _ h)
              · refine sm_b (l' := [(0, vr (some (gw g))), (2, vi (w2 + 2)), (3, vi y16), (4, vi y23)]) (st' := [vi 110, vi y23]) (pc' := 102) [(.iload 4, vi 0, 100), (.bipush 110, vi 110, 102)] (by decide +kernel) rfl rfl ?_
                refine sm_case (V g mX4_string d 105 [(0, vr (some (gw g))), (2, vi (w2 + 2)), (3, vi y16), (4, vi y23)] [] σ τ Q) (V g mX4_string d 110 [(0, vr (some (gw g))), (2, vi (w2 + 2)), (3, vi y16), (4, vi y23)] [] σ τ Q) ?_ ?_ (fun f123 p124 n125 => ?_)
                · refine sm_b (l' := [(0, vr (some (gw g))), (2, vi (w2 + 2)), (3, vi y16), (4, vi y23)]) (st' := [vi 10]) (pc' := 161) [(.bipush 10, vi 10, 107), (.goto 54, vi 0, 161)] (by decide +kernel) rfl rfl ?_
                  refine sm_pick [0, 1, 3] (l' := [(0, vr (some (gw g))), (2, vi (w2 + 2)), (4, vi y23)]) rfl ?_
                  exact sm_leaf (fun h => j29 _ h)
                · refine sm_b (l' := [(0, vr (some (gw g))), (2, vi (w2 + 2)), (3, vi y16), (4, vi y23)]) (st' := [vi 114, vi y23]) (pc' := 114) [(.iload 4, vi 0, 112), (.bipush 114, vi 114, 114)] (by decide +kernel) rfl rfl ?_
                  refine sm_case (V g mX4_string d 117 [(0, vr (some (gw g))), (2, vi (w2 + 2)), (3, vi y16), (4, vi y23)] [] σ τ Q) (V g mX4_string d 122 [(0, vr (some (gw g))), (2, vi (w2 + 2)), (3, vi y16), (4, vi y23)] [] σ τ Q) ?_ ?_ (fun f119 p120 n121 => ?_)
                  · refine sm_b (l' := [(0, vr (some (gw g))), (2, vi (w2 + 2)), (3, vi y16), (4, vi y23)]) (st' := [vi 13]) (pc' := 161) [(.bipush 13, vi 13, 119), (.goto 42, vi 0, 161)] (by decide +kernel) rfl rfl ?_
                    refine sm_pick [0, 1, 3] (l' := [(0, vr (some (gw g))), (2, vi (w2 + 2)), (4, vi y23)]) rfl ?_
                    exact sm_leaf (fun h => j29 _ h)
                  · refine sm_b (l' := [(0, vr (some (gw g))), (2, vi (w2 + 2)), (3, vi y16), (4, vi y23)]) (st' := [vi 116, vi y23]) (pc' := 126) [(.iload 4, vi 0, 124), (.bipush 116, vi 116, 126)] (by decide +kernel) rfl rfl ?_
                    refine sm_case (V g mX4_string d 129 [(0, vr (some (gw g))), (2, vi (w2 + 2)), (3, vi y16), (4, vi y23)] [] σ τ Q) (V g mX4_string d 134 [(0, vr (some (gw g))), (2, vi (w2 + 2)), (3, vi y16), (4, vi y23)] [] σ τ Q) ?_ ?_ (fun f115 p116 n117 => ?_)
                    · refine sm_b (l' := [(0, vr (some (gw g))), (2, vi (w2 + 2)), (3, vi y16), (4, vi y23)]) (st' := [vi 9]) (pc' := 161) [(.bipush 9, vi 9, 131), (.goto 30, vi 0, 161)] (by decide +kernel) rfl rfl ?_
                      refine sm_pick [0, 1, 3] (l' := [(0, vr (some (gw g))), (2, vi (w2 + 2)), (4, vi y23)]) rfl ?_
                      exact sm_leaf (fun h => j29 _ h)
                    · refine sm_b (l' := [(0, vr (some (gw g))), (2, vi (w2 + 2)), (3, vi y16), (4, vi y23)]) (st' := [vi 34, vi y23]) (pc' := 138) [(.iload 4, vi 0, 136), (.bipush 34, vi 34, 138)] (by decide +kernel) rfl rfl ?_
                      refine sm_case (V g mX4_string d 155 [(0, vr (some (gw g))), (2, vi (w2 + 2)), (3, vi y16), (4, vi y23)] [] σ τ Q) (V g mX4_string d 160 [(0, vr (some (gw g))), (2, vi (w2 + 2)), (3, vi y16), (4, vi y23)] [] σ τ Q) ?_ ?_ (fun f109 p110 n111 => ?_)
                      · refine sm_b (l' := [(0, vr (some (gw g))), (2, vi (w2 + 2)), (3, vi y16), (4, vi y23)]) (st' := [vi y23]) (pc' := 161) [(.iload 4, vi 0, 157), (.goto 4, vi 0, 161)] (by decide +kernel) rfl rfl ?_
                        refine sm_pick [0, 1, 3] (l' := [(0, vr (some (gw g))), (2, vi (w2 + 2)), (4, vi y23)]) rfl ?_
                        exact sm_leaf (fun h => j29 _ h)
                      · refine sm_b (l' := [(0, vr (some (gw g))), (2, vi (w2 + 2)), (3, vi y16), (4, vi y23)]) (st' := [vi ((-1))]) (pc' := 161) [(.iconst (-1), vi (-1), 161)] (by decide +kernel) rfl rfl ?_
                        refine sm_pick [0, 1, 3] (l' := [(0, vr (some (gw g))), (2, vi (w2 + 2)), (4, vi y23)]) rfl ?_
                        exact sm_leaf (fun h => j29 _ h)
                      refine sm_icmp_eq (off := 17) (tgt := 155) h24 (by decide) (by decide +kernel) (fun c112 => ?_) (fun c112 => ?_)
                      · exact p110 (Or.inl (Or.inl c112))
                      · refine sm_b (l' := [(0, vr (some (gw g))), (2, vi (w2 + 2)), (3, vi y16), (4, vi y23)]) (st' := [vi 92, vi y23]) (pc' := 145) [(.iload 4, vi 0, 143), (.bipush 92, vi 92, 145)] (by decide +kernel) rfl rfl ?_
                        refine sm_icmp_eq (off := 10) (tgt := 155) h24 (by decide) (by decide +kernel) (fun c113 => ?_) (fun c113 => ?_)
                        · exact p110 (Or.inl (Or.inr c113))
                        · refine sm_b (l' := [(0, vr (some (gw g))), (2, vi (w2 + 2)), (3, vi y16), (4, vi y23)]) (st' := [vi 47, vi y23]) (pc' := 152) [(.iload 4, vi 0, 150), (.bipush 47, vi 47, 152)] (by decide +kernel) rfl rfl ?_
                          refine sm_icmp_ne (off := 8) (tgt := 160) h24 (by decide) (by decide +kernel) (fun c114 => ?_) (fun c114 => ?_)
                          · exact n111 (fun q => q.elim (fun q => q.elim c112 c113) c114)
                          · exact p110 (Or.inr c114)
                    refine sm_icmp_ne (off := 8) (tgt := 134) h24 (by decide) (by decide +kernel) (fun c118 => ?_) (fun c118 => ?_)
                    · exact n117 c118
                    · exact p116 c118
                  refine sm_icmp_ne (off := 8) (tgt := 122) h24 (by decide) (by decide +kernel) (fun c122 => ?_) (fun c122 => ?_)
                  · exact n121 c122
                  · exact p120 c122
                refine sm_icmp_ne (off := 8) (tgt := 110) h24 (by decide) (by decide +kernel) (fun c126 => ?_) (fun c126 => ?_)
                · exact n125 c126
                · exact p124 c126
              refine sm_icmp_ne (off := 8) (tgt := 98) h24 (by decide) (by decide +kernel) (fun c130 => ?_) (fun c130 => ?_)
              · exact n129 c130
              · exact p128 c130
            refine sm_icmp_ne (off := 8) (tgt := 86) h24 (by decide) (by decide +kernel) (fun c134 => ?_) (fun c134 => ?_)
            · exact n133 c134
            · exact p132 c134
        · refine sm_b (l' := [(0, vr (some (gw g))), (2, vi w2), (3, vi y16)]) (st' := [vi y16, vr (some (gw g))]) (pc' := 53) [(.aload_n 0, vi 0, 52), (.iload_n 3, vi 0, 53)] (by decide +kernel) rfl rfl ?_
          refine sm_cv (N := mX4_sayByte) (d' := d - 1) (fun r => none) (fun _ => σ) (fun r => r) [vi y16] [] rfl (by decide +kernel) q1910 q1912 qs105 (Or.inl ⟨rfl, q1913⟩) (show okN yX4_sayByte 1 = true by decide +kernel) (fun H hR => hR.rvw G.1 G.2.1) rfl rfl (by omega) rfl (fun Q' => m_sayByte_ok G (d - 1) (by omega) y16 τ Q') (fun y135 => ?_)
          refine sm_b (l' := [(0, vr (some (gw g))), (2, vi (w2 + 1)), (3, vi y16)]) (st' := []) (pc' := 21) [(.iinc 2 1, vi 1, 59), (.goto (-38), vi 0, 21)] (by decide +kernel) rfl rfl ?_
          refine sm_pick [0, 1] (l' := [(0, vr (some (gw g))), (2, vi (w2 + 1))]) rfl ?_
          exact ih (w2 + 1) y135
        refine sm_icmp_eq (off := 14) (tgt := 62) h17 (by decide) (by decide +kernel) (fun c139 => ?_) (fun c139 => ?_)
        · exact p137 c139
        · exact n138 c139
      · refine sm_b (l' := [(0, vr (some (gw g))), (2, vi w2), (3, vi y16)]) (st' := [vi ((-1))]) (pc' := 44) [(.iconst (-1), vi (-1), 44)] (by decide +kernel) rfl rfl ?_
        exact sm_iret rfl (by decide +kernel) (fun h => hRET _ h)
      refine sm_icmp_ge (off := 5) (tgt := 45) h17 (by decide) (by decide +kernel) (fun c143 => ?_) (fun c143 => ?_)
      · exact p141 c143
      · exact n142 c143
    refine sm_icmp_eq (off := 284) (tgt := 312) h13 (by decide) (by decide +kernel) (fun c147 => ?_) (fun c147 => ?_)
    · exact p145 c147
    · exact n146 c147
set_option maxHeartbeats 4000000 in
theorem m_string_ok {g : GE} (G : GG g) {σ : ST} (d : Nat) (hd1 : 2 ≤ d) (a1 : Int)  (τ : TT) (Q : VQ) : Sm (V g mX4_string d 0 [(0, vr (some (gw g))), (1, vi a1)] [] σ τ Q) (m_string a1 τ) (fun r => Q.1 (some (vi r.1)) σ r.2) := by
  unfold m_string
  refine sm_top (fun K hRET => ?_)
  refine sm_b (l' := [(0, vr (some (gw g))), (1, vi a1)]) (st' := [vi a1, vr (some (gw g))]) (pc' := 2) [(.aload_n 0, vi 0, 1), (.iload_n 1, vi 0, 2)] (by decide +kernel) rfl rfl ?_
  refine sm_cv (N := mX4_look) (d' := d - 1) (fun r => (some (vi r))) (fun _ => σ) (fun _ => τ) [vi a1] [] rfl (by decide +kernel) q1902 q1904 qs103 (Or.inl ⟨rfl, q1905⟩) (show okN yX4_look 1 = true by decide +kernel) (fun H hR => hR.rvw G.1 G.2.1) rfl rfl (by omega) rfl (fun Q' => m_look_ok G (d - 1) (by omega) a1 τ Q') (fun y1 => ?_)
  refine sm_b (l' := [(0, vr (some (gw g))), (1, vi a1)]) (st' := [vi 34, vi y1]) (pc' := 7) [(.bipush 34, vi 34, 7)] (by decide +kernel) rfl rfl ?_
  refine sm_gd (fun h2 => ?_)
  refine sm_case (V g mX4_string d 12 [(0, vr (some (gw g))), (1, vi a1)] [] σ τ Q) (V g mX4_string d 10 [(0, vr (some (gw g))), (1, vi a1)] [] σ τ Q) ?_ ?_ (fun f148 p149 n150 => ?_)
  · refine sm_b (l' := [(0, vr (some (gw g))), (1, vi a1)]) (st' := [vi 0, vr (some (gw g))]) (pc' := 14) [(.aload_n 0, vi 0, 13), (.iconst 0, vi 0, 14)] (by decide +kernel) rfl rfl ?_
    refine sm_tpi (k := 57) G.2.1 q1475 rfl rfl rfl (tp_57 g τ 0) (by decide +kernel) ?_
    refine sm_nmt (fun τ5 => ?_)
    refine sm_b (l' := [(0, vr (some (gw g))), (1, vi a1)]) (st' := [vi (a1 + 1)]) (pc' := 20) [(.iload_n 1, vi 0, 18), (.iconst 1, vi 1, 19), (.iadd, vi 0, 20)] (by decide +kernel) rfl rfl ?_
    refine sm_nmi (fun x6 => ?_)
    refine sm_b (l' := [(0, vr (some (gw g))), (1, vi a1), (2, vi x6)]) (st' := []) (pc' := 21) [(.istore_n 2, vi 0, 21)] (by decide +kernel) rfl rfl ?_
    refine sm_bindS (fun (v7 : Int × TT) => V g mX4_string d 312 [(2, vi v7.1)] [] σ v7.2 Q) (fun v7 => ?_) (fun K8 o10 j9 => ?_)
    · refine sm_b (l' := [(2, vi v7.1)]) (st' := [vi (v7.1 + 1)]) (pc' := 315) [(.iload_n 2, vi 0, 313), (.iconst 1, vi 1, 314), (.iadd, vi 0, 315)] (by decide +kernel) rfl rfl ?_
      exact sm_iret rfl (by decide +kernel) (fun h => hRET _ h)
    · refine sm_pick [0, 2] (l' := [(0, vr (some (gw g))), (2, vi x6)]) rfl ?_
      exact m_string_L21_ok G d hd1   (fun r h => hRET _ (o10 _ h)) (fun _ h => j9 _ h) FU x6 τ5
  · refine sm_b (l' := [(0, vr (some (gw g))), (1, vi a1)]) (st' := [vi ((-1))]) (pc' := 11) [(.iconst (-1), vi (-1), 11)] (by decide +kernel) rfl rfl ?_
    exact sm_iret rfl (by decide +kernel) (fun h => hRET _ h)
  refine sm_icmp_eq (off := 5) (tgt := 12) h2 (by decide) (by decide +kernel) (fun c151 => ?_) (fun c151 => ?_)
  · exact p149 c151
  · exact n150 c151
def m_fieldNamed_L132 (u1 : Int) (u2 : Int) (u3 : Int) (τ : TT) : Nat → Int → Int → Option (Int)
  | 0, _, _ => none
  | n + 1, w5, w6 => gd (rg w6) (gd (rg (tI τ 57)) (gd (¬ ((tI τ 57) ≤ w6) → rg w5) (if ((tI τ 57) ≤ w6) ∨ (w5 = 0) then (some w5) else (gd (ib u3 50) (gd (ib (tA τ 22 u3.toNat) 1001) (gd (ib ((tA τ 10 (tA τ 22 u3.toNat).toNat) + w6) 1000) (gd (ib w6 1000) (Option.bind (gd (rg (tA τ 8 ((tA τ 10 (tA τ 22 u3.toNat).toNat) + w6).toNat)) (gd (rg (tA τ 56 w6.toNat)) (if (tA τ 8 ((tA τ 10 (tA τ 22 u3.toNat).toNat) + w6).toNat) = (tA τ 56 w6.toNat) then (some 1) else (some 0)))) fun (v75 : Int) => m_fieldNamed_L132 u1 u2 u3 τ n v75 (w6 + 1)))))))))
def m_fieldNamed_L55 (u1 : Int) (u2 : Int) (u3 : Int) (u4 : Int) (τ : TT) : Nat → Int → Int → Option (Int)
  | 0, _, _ => none
  | n + 1, w5, w6 => gd (rg w6) (gd (rg u4) (gd (¬ (u4 ≤ w6) → rg w5) (if (u4 ≤ w6) ∨ (w5 = 0) then (some w5) else (gd (ib w6 64) (gd (ib w6 1000) (Option.bind (gd (rg (tA τ 41 w6.toNat)) (gd (rg (tA τ 56 w6.toNat)) (if (tA τ 41 w6.toNat) = (tA τ 56 w6.toNat) then (some 1) else (some 0)))) fun (v112 : Int) => m_fieldNamed_L55 u1 u2 u3 u4 τ n v112 (w6 + 1)))))))
def m_fieldNamed_L4 (u1 : Int) : Nat → Int → Int → TT → Option (Int × TT)
  | 0, _, _, _ => none
  | n + 1, w2, w3, τ => gd (rg w3) (gd (rg (tI τ 38)) (if (tI τ 38) ≤ w3 then (some ((w2, τ))) else (gd (ib w3 50) (Option.bind (gd (rg (tA τ 23 w3.toNat)) (gd (rg u1) (if (tA τ 23 w3.toNat) = u1 then (Option.bind (m_jsonName w3 41 τ) fun y17 => Option.bind (gd (rg y17.1) (gd (rg (tI y17.2 57)) (if y17.1 = (tI y17.2 57) then (some 1) else (some 0)))) fun (v22 : Int) => Option.bind (m_fieldNamed_L55 u1 w2 w3 y17.1 y17.2 FU v22 0) fun (v26 : Int) => gd (rg v26) (if v26 = 0 then (gd (ib (tA y17.2 22 w3.toNat) 1001) (Option.bind (gd (rg (tA y17.2 11 (tA y17.2 22 w3.toNat).toNat)) (gd (rg (tI y17.2 57)) (if (tA y17.2 11 (tA y17.2 22 w3.toNat).toNat) = (tI y17.2 57) then (some 1) else (some 0)))) fun (v41 : Int) => Option.bind (m_fieldNamed_L132 u1 w2 w3 y17.2 FU v41 0) fun (v45 : Int) => gd (rg v45) (if v45 = 0 then (some (Sum.inr ((w2, y17.2)))) else (some (Sum.inr ((w3, y17.2))))))) else (some (Sum.inl ((w3, y17.2)))))) else (some (Sum.inr ((w2, τ))))))) (Sum.elim some fun (v13 : Int × TT) => m_fieldNamed_L4 u1 n v13.1 (w3 + 1) v13.2)))))
def m_fieldNamed (a1 : Int) (τ : TT) : Option (Int × TT) := m_fieldNamed_L4 a1 FU ((-1)) 0 τ
set_option maxHeartbeats 4000000 in
theorem m_fieldNamed_L132_ok {g : GE} (G : GG g) {σ : ST} {Q : VQ} (d : Nat) (hd1 : 1 ≤ d) (u1 : Int) (u2 : Int) (u3 : Int) (τ : TT)  {K : Int → Prop} (hE188 : ∀ v55 : Int, K (v55) → V g mX4_fieldNamed d 188 [(0, vr (some (gw g))), (1, vi u1), (2, vi u2), (3, vi u3), (5, vi v55)] [] σ τ Q) : ∀ (n : Nat) (w5 : Int) (w6 : Int), Sm (V g mX4_fieldNamed d 132 [(0, vr (some (gw g))), (1, vi u1), (2, vi u2), (3, vi u3), (5, vi w5), (6, vi w6)] [] σ τ Q) (m_fieldNamed_L132 u1 u2 u3 τ n w5 w6) K := by
  intro n
  induction n with
  | zero => intro w5 w6; exact sm_none
  | succ n ih =>
    intro w5 w6
    rw [m_fieldNamed_L132.eq_2]
    refine sm_b (l' := [(0, vr (some (gw g))), (1, vi u1), (2, vi u2), (3, vi u3), (5, vi w5), (6, vi w6)]) (st' := [vr (some (gw g)), vi w6]) (pc' := 135) [(.iload 6, vi 0, 134), (.aload_n 0, vi 0, 135)] (by decide +kernel) rfl rfl ?_
    refine sm_tg (k := 57) (x := vi (tI τ 57)) G.2.1 q1475 rfl rfl (by decide +kernel) ?_
    refine sm_gd (fun h56 => ?_)
    refine sm_gd (fun h57 => ?_)
    refine sm_gd (fun h59 => ?_)
    refine sm_case (V g mX4_fieldNamed d 188 [(0, vr (some (gw g))), (1, vi u1), (2, vi u2), (3, vi u3), (5, vi w5), (6, vi w6)] [] σ τ Q) (V g mX4_fieldNamed d 146 [(0, vr (some (gw g))), (1, vi u1), (2, vi u2), (3, vi u3), (5, vi w5), (6, vi w6)] [] σ τ Q) ?_ ?_ (fun f83 p84 n85 => ?_)
    · refine sm_pick [0, 1, 2, 3, 4] (l' := [(0, vr (some (gw g))), (1, vi u1), (2, vi u2), (3, vi u3), (5, vi w5)]) rfl ?_
      exact sm_leaf (fun h => hE188 _ h)
    · refine sm_b (l' := [(0, vr (some (gw g))), (1, vi u1), (2, vi u2), (3, vi u3), (5, vi w5), (6, vi w6)]) (st' := [vr (some (gw g))]) (pc' := 147) [(.aload_n 0, vi 0, 147)] (by decide +kernel) rfl rfl ?_
      refine sm_tg (k := 8) (x := vr (some (gT g 8))) G.2.1 q1426 rfl rfl (by decide +kernel) ?_
      refine sm_b (l' := [(0, vr (some (gw g))), (1, vi u1), (2, vi u2), (3, vi u3), (5, vi w5), (6, vi w6)]) (st' := [vr (some (gw g)), vr (some (gT g 8))]) (pc' := 151) [(.aload_n 0, vi 0, 151)] (by decide +kernel) rfl rfl ?_
      refine sm_tg (k := 10) (x := vr (some (gT g 10))) G.2.1 q1428 rfl rfl (by decide +kernel) ?_
      refine sm_b (l' := [(0, vr (some (gw g))), (1, vi u1), (2, vi u2), (3, vi u3), (5, vi w5), (6, vi w6)]) (st' := [vr (some (gw g)), vr (some (gT g 10)), vr (some (gT g 8))]) (pc' := 155) [(.aload_n 0, vi 0, 155)] (by decide +kernel) rfl rfl ?_
      refine sm_tg (k := 22) (x := vr (some (gT g 22))) G.2.1 q1440 rfl rfl (by decide +kernel) ?_
      refine sm_b (l' := [(0, vr (some (gw g))), (1, vi u1), (2, vi u2), (3, vi u3), (5, vi w5), (6, vi w6)]) (st' := [vi u3, vr (some (gT g 22)), vr (some (gT g 10)), vr (some (gT g 8))]) (pc' := 159) [(.iload_n 3, vi 0, 159)] (by decide +kernel) rfl rfl ?_
      refine sm_gd (fun h67 => ?_)
      refine sm_ial (k := 22) G.2.1 (by decide) rfl (ibt (k := 22) h67) h67 (by decide +kernel) ?_
      refine sm_gd (fun h68 => ?_)
      refine sm_ial (k := 10) G.2.1 (by decide) rfl (ibt (k := 10) h68) h68 (by decide +kernel) ?_
      refine sm_b (l' := [(0, vr (some (gw g))), (1, vi u1), (2, vi u2), (3, vi u3), (5, vi w5), (6, vi w6)]) (st' := [vi ((tA τ 10 (tA τ 22 u3.toNat).toNat) + w6), vr (some (gT g 8))]) (pc' := 164) [(.iload 6, vi 0, 163), (.iadd, vi 0, 164)] (by decide +kernel) rfl rfl ?_
      refine sm_gd (fun h69 => ?_)
      refine sm_ial (k := 8) G.2.1 (by decide) rfl (ibt (k := 8) h69) h69 (by decide +kernel) ?_
      refine sm_b (l' := [(0, vr (some (gw g))), (1, vi u1), (2, vi u2), (3, vi u3), (5, vi w5), (6, vi w6)]) (st' := [vr (some (gw g)), vi (tA τ 8 ((tA τ 10 (tA τ 22 u3.toNat).toNat) + w6).toNat)]) (pc' := 166) [(.aload_n 0, vi 0, 166)] (by decide +kernel) rfl rfl ?_
      refine sm_tg (k := 56) (x := vr (some (gT g 56))) G.2.1 q1474 rfl rfl (by decide +kernel) ?_
      refine sm_b (l' := [(0, vr (some (gw g))), (1, vi u1), (2, vi u2), (3, vi u3), (5, vi w5), (6, vi w6)]) (st' := [vi w6, vr (some (gT g 56)), vi (tA τ 8 ((tA τ 10 (tA τ 22 u3.toNat).toNat) + w6).toNat)]) (pc' := 171) [(.iload 6, vi 0, 171)] (by decide +kernel) rfl rfl ?_
      refine sm_gd (fun h70 => ?_)
      refine sm_ial (k := 56) G.2.1 (by decide) rfl (ibt (k := 56) h70) h70 (by decide +kernel) ?_
      refine sm_bind1 (fun (v75 : Int) => V g mX4_fieldNamed d 180 [(0, vr (some (gw g))), (1, vi u1), (2, vi u2), (3, vi u3), (6, vi w6)] [vi v75] σ τ Q) (fun v75 => ?_) (fun K76 j77 => ?_)
      · refine sm_b (l' := [(0, vr (some (gw g))), (1, vi u1), (2, vi u2), (3, vi u3), (6, vi (w6 + 1)), (5, vi v75)]) (st' := []) (pc' := 132) [(.istore 5, vi 0, 182), (.iinc 6 1, vi 1, 185), (.goto (-53), vi 0, 132)] (by decide +kernel) rfl rfl ?_
        refine sm_pick [0, 1, 2, 3, 5, 4] (l' := [(0, vr (some (gw g))), (1, vi u1), (2, vi u2), (3, vi u3), (5, vi v75), (6, vi (w6 + 1))]) rfl ?_
        exact ih v75 (w6 + 1)
      · refine sm_gd (fun h71 => ?_)
        refine sm_gd (fun h72 => ?_)
        refine sm_case (V g mX4_fieldNamed d 175 [(0, vr (some (gw g))), (1, vi u1), (2, vi u2), (3, vi u3), (5, vi w5), (6, vi w6)] [] σ τ Q) (V g mX4_fieldNamed d 179 [(0, vr (some (gw g))), (1, vi u1), (2, vi u2), (3, vi u3), (5, vi w5), (6, vi w6)] [] σ τ Q) ?_ ?_ (fun f79 p80 n81 => ?_)
        · refine sm_b (l' := [(0, vr (some (gw g))), (1, vi u1), (2, vi u2), (3, vi u3), (5, vi w5), (6, vi w6)]) (st' := [vi 1]) (pc' := 180) [(.iconst 1, vi 1, 176), (.goto 4, vi 0, 180)] (by decide +kernel) rfl rfl ?_
          refine sm_pick [0, 1, 2, 3, 5] (l' := [(0, vr (some (gw g))), (1, vi u1), (2, vi u2), (3, vi u3), (6, vi w6)]) rfl ?_
          exact sm_leaf (fun h => j77 _ h)
        · refine sm_b (l' := [(0, vr (some (gw g))), (1, vi u1), (2, vi u2), (3, vi u3), (5, vi w5), (6, vi w6)]) (st' := [vi 0]) (pc' := 180) [(.iconst 0, vi 0, 180)] (by decide +kernel) rfl rfl ?_
          refine sm_pick [0, 1, 2, 3, 5] (l' := [(0, vr (some (gw g))), (1, vi u1), (2, vi u2), (3, vi u3), (6, vi w6)]) rfl ?_
          exact sm_leaf (fun h => j77 _ h)
        refine sm_icmp_ne (off := 7) (tgt := 179) h71 h72 (by decide +kernel) (fun c82 => ?_) (fun c82 => ?_)
        · exact n81 c82
        · exact p80 c82
    refine sm_icmp_ge (off := 50) (tgt := 188) h56 h57 (by decide +kernel) (fun c86 => ?_) (fun c86 => ?_)
    · exact p84 (Or.inl c86)
    · have w58 : ¬ ((tI τ 57) ≤ w6) := c86
      refine sm_b (l' := [(0, vr (some (gw g))), (1, vi u1), (2, vi u2), (3, vi u3), (5, vi w5), (6, vi w6)]) (st' := [vi w5]) (pc' := 143) [(.iload 5, vi 0, 143)] (by decide +kernel) rfl rfl ?_
      refine sm_if_eq (off := 45) (tgt := 188) (h59 w58) (by decide +kernel) (fun c87 => ?_) (fun c87 => ?_)
      · exact p84 (Or.inr c87)
      · exact n85 (fun q => q.elim c86 c87)
set_option maxHeartbeats 4000000 in
theorem m_fieldNamed_L55_ok {g : GE} (G : GG g) {σ : ST} {Q : VQ} (d : Nat) (hd1 : 1 ≤ d) (u1 : Int) (u2 : Int) (u3 : Int) (u4 : Int) (τ : TT)  {K : Int → Prop} (hE97 : ∀ v96 : Int, K (v96) → V g mX4_fieldNamed d 97 [(0, vr (some (gw g))), (1, vi u1), (2, vi u2), (3, vi u3), (5, vi v96)] [] σ τ Q) : ∀ (n : Nat) (w5 : Int) (w6 : Int), Sm (V g mX4_fieldNamed d 55 [(0, vr (some (gw g))), (1, vi u1), (2, vi u2), (3, vi u3), (4, vi u4), (5, vi w5), (6, vi w6)] [] σ τ Q) (m_fieldNamed_L55 u1 u2 u3 u4 τ n w5 w6) K := by
  intro n
  induction n with
  | zero => intro w5 w6; exact sm_none
  | succ n ih =>
    intro w5 w6
    rw [m_fieldNamed_L55.eq_2]
    refine sm_b (l' := [(0, vr (some (gw g))), (1, vi u1), (2, vi u2), (3, vi u3), (4, vi u4), (5, vi w5), (6, vi w6)]) (st' := [vi u4, vi w6]) (pc' := 59) [(.iload 6, vi 0, 57), (.iload 4, vi 0, 59)] (by decide +kernel) rfl rfl ?_
    refine sm_gd (fun h97 => ?_)
    refine sm_gd (fun h98 => ?_)
    refine sm_gd (fun h100 => ?_)
    refine sm_case (V g mX4_fieldNamed d 97 [(0, vr (some (gw g))), (1, vi u1), (2, vi u2), (3, vi u3), (4, vi u4), (5, vi w5), (6, vi w6)] [] σ τ Q) (V g mX4_fieldNamed d 67 [(0, vr (some (gw g))), (1, vi u1), (2, vi u2), (3, vi u3), (4, vi u4), (5, vi w5), (6, vi w6)] [] σ τ Q) ?_ ?_ (fun f120 p121 n122 => ?_)
    · refine sm_pick [0, 1, 2, 3, 5] (l' := [(0, vr (some (gw g))), (1, vi u1), (2, vi u2), (3, vi u3), (5, vi w5)]) rfl ?_
      exact sm_leaf (fun h => hE97 _ h)
    · refine sm_b (l' := [(0, vr (some (gw g))), (1, vi u1), (2, vi u2), (3, vi u3), (4, vi u4), (5, vi w5), (6, vi w6)]) (st' := [vr (some (gw g))]) (pc' := 68) [(.aload_n 0, vi 0, 68)] (by decide +kernel) rfl rfl ?_
      refine sm_tg (k := 41) (x := vr (some (gT g 41))) G.2.1 q1459 rfl rfl (by decide +kernel) ?_
      refine sm_b (l' := [(0, vr (some (gw g))), (1, vi u1), (2, vi u2), (3, vi u3), (4, vi u4), (5, vi w5), (6, vi w6)]) (st' := [vi w6, vr (some (gT g 41))]) (pc' := 73) [(.iload 6, vi 0, 73)] (by decide +kernel) rfl rfl ?_
      refine sm_gd (fun h106 => ?_)
      refine sm_ial (k := 41) G.2.1 (by decide) rfl (ibt (k := 41) h106) h106 (by decide +kernel) ?_
      refine sm_b (l' := [(0, vr (some (gw g))), (1, vi u1), (2, vi u2), (3, vi u3), (4, vi u4), (5, vi w5), (6, vi w6)]) (st' := [vr (some (gw g)), vi (tA τ 41 w6.toNat)]) (pc' := 75) [(.aload_n 0, vi 0, 75)] (by decide +kernel) rfl rfl ?_
      refine sm_tg (k := 56) (x := vr (some (gT g 56))) G.2.1 q1474 rfl rfl (by decide +kernel) ?_
      refine sm_b (l' := [(0, vr (some (gw g))), (1, vi u1), (2, vi u2), (3, vi u3), (4, vi u4), (5, vi w5), (6, vi w6)]) (st' := [vi w6, vr (some (gT g 56)), vi (tA τ 41 w6.toNat)]) (pc' := 80) [(.iload 6, vi 0, 80)] (by decide +kernel) rfl rfl ?_
      refine sm_gd (fun h107 => ?_)
      refine sm_ial (k := 56) G.2.1 (by decide) rfl (ibt (k := 56) h107) h107 (by decide +kernel) ?_
      refine sm_bind1 (fun (v112 : Int) => V g mX4_fieldNamed d 89 [(0, vr (some (gw g))), (1, vi u1), (2, vi u2), (3, vi u3), (4, vi u4), (6, vi w6)] [vi v112] σ τ Q) (fun v112 => ?_) (fun K113 j114 => ?_)
      · refine sm_b (l' := [(0, vr (some (gw g))), (1, vi u1), (2, vi u2), (3, vi u3), (4, vi u4), (6, vi (w6 + 1)), (5, vi v112)]) (st' := []) (pc' := 55) [(.istore 5, vi 0, 91), (.iinc 6 1, vi 1, 94), (.goto (-39), vi 0, 55)] (by decide +kernel) rfl rfl ?_
        refine sm_pick [0, 1, 2, 3, 4, 6, 5] (l' := [(0, vr (some (gw g))), (1, vi u1), (2, vi u2), (3, vi u3), (4, vi u4), (5, vi v112), (6, vi (w6 + 1))]) rfl ?_
        exact ih v112 (w6 + 1)
      · refine sm_gd (fun h108 => ?_)
        refine sm_gd (fun h109 => ?_)
        refine sm_case (V g mX4_fieldNamed d 84 [(0, vr (some (gw g))), (1, vi u1), (2, vi u2), (3, vi u3), (4, vi u4), (5, vi w5), (6, vi w6)] [] σ τ Q) (V g mX4_fieldNamed d 88 [(0, vr (some (gw g))), (1, vi u1), (2, vi u2), (3, vi u3), (4, vi u4), (5, vi w5), (6, vi w6)] [] σ τ Q) ?_ ?_ (fun f116 p117 n118 => ?_)
        · refine sm_b (l' := [(0, vr (some (gw g))), (1, vi u1), (2, vi u2), (3, vi u3), (4, vi u4), (5, vi w5), (6, vi w6)]) (st' := [vi 1]) (pc' := 89) [(.iconst 1, vi 1, 85), (.goto 4, vi 0, 89)] (by decide +kernel) rfl rfl ?_
          refine sm_pick [0, 1, 2, 3, 4, 6] (l' := [(0, vr (some (gw g))), (1, vi u1), (2, vi u2), (3, vi u3), (4, vi u4), (6, vi w6)]) rfl ?_
          exact sm_leaf (fun h => j114 _ h)
        · refine sm_b (l' := [(0, vr (some (gw g))), (1, vi u1), (2, vi u2), (3, vi u3), (4, vi u4), (5, vi w5), (6, vi w6)]) (st' := [vi 0]) (pc' := 89) [(.iconst 0, vi 0, 89)] (by decide +kernel) rfl rfl ?_
          refine sm_pick [0, 1, 2, 3, 4, 6] (l' := [(0, vr (some (gw g))), (1, vi u1), (2, vi u2), (3, vi u3), (4, vi u4), (6, vi w6)]) rfl ?_
          exact sm_leaf (fun h => j114 _ h)
        refine sm_icmp_ne (off := 7) (tgt := 88) h108 h109 (by decide +kernel) (fun c119 => ?_) (fun c119 => ?_)
        · exact n118 c119
        · exact p117 c119
    refine sm_icmp_ge (off := 38) (tgt := 97) h97 h98 (by decide +kernel) (fun c123 => ?_) (fun c123 => ?_)
    · exact p121 (Or.inl c123)
    · have w99 : ¬ (u4 ≤ w6) := c123
      refine sm_b (l' := [(0, vr (some (gw g))), (1, vi u1), (2, vi u2), (3, vi u3), (4, vi u4), (5, vi w5), (6, vi w6)]) (st' := [vi w5]) (pc' := 64) [(.iload 5, vi 0, 64)] (by decide +kernel) rfl rfl ?_
      refine sm_if_eq (off := 33) (tgt := 97) (h100 w99) (by decide +kernel) (fun c124 => ?_) (fun c124 => ?_)
      · exact p121 (Or.inr c124)
      · exact n122 (fun q => q.elim c123 c124)
set_option maxHeartbeats 4000000 in
theorem m_fieldNamed_L4_ok {g : GE} (G : GG g) {σ : ST} {Q : VQ} (d : Nat) (hd1 : 1 ≤ d) (u1 : Int)  {K : Int × TT → Prop} (hRET : ∀ r : Int × TT, K (r) → Q.1 (some (vi r.1)) σ r.2) : ∀ (n : Nat) (w2 : Int) (w3 : Int) (τ : TT), Sm (V g mX4_fieldNamed d 4 [(0, vr (some (gw g))), (1, vi u1), (2, vi w2), (3, vi w3)] [] σ τ Q) (m_fieldNamed_L4 u1 n w2 w3 τ) K := by
  intro n
  induction n with
  | zero => intro w2 w3 τ; exact sm_none
  | succ n ih =>
    intro w2 w3 τ
    rw [m_fieldNamed_L4.eq_2]
    refine sm_b (l' := [(0, vr (some (gw g))), (1, vi u1), (2, vi w2), (3, vi w3)]) (st' := [vr (some (gw g)), vi w3]) (pc' := 6) [(.iload_n 3, vi 0, 5), (.aload_n 0, vi 0, 6)] (by decide +kernel) rfl rfl ?_
    refine sm_tg (k := 38) (x := vi (tI τ 38)) G.2.1 q1456 rfl rfl (by decide +kernel) ?_
    refine sm_gd (fun h1 => ?_)
    refine sm_gd (fun h2 => ?_)
    refine sm_case (V g mX4_fieldNamed d 201 [(0, vr (some (gw g))), (1, vi u1), (2, vi w2), (3, vi w3)] [] σ τ Q) (V g mX4_fieldNamed d 12 [(0, vr (some (gw g))), (1, vi u1), (2, vi w2), (3, vi w3)] [] σ τ Q) ?_ ?_ (fun f133 p134 n135 => ?_)
    · refine sm_b (l' := [(0, vr (some (gw g))), (1, vi u1), (2, vi w2), (3, vi w3)]) (st' := [vi w2]) (pc' := 202) [(.iload_n 2, vi 0, 202)] (by decide +kernel) rfl rfl ?_
      exact sm_iret rfl (by decide +kernel) (fun h => hRET _ h)
    · refine sm_b (l' := [(0, vr (some (gw g))), (1, vi u1), (2, vi w2), (3, vi w3)]) (st' := [vr (some (gw g))]) (pc' := 13) [(.aload_n 0, vi 0, 13)] (by decide +kernel) rfl rfl ?_
      refine sm_tg (k := 23) (x := vr (some (gT g 23))) G.2.1 q1441 rfl rfl (by decide +kernel) ?_
      refine sm_b (l' := [(0, vr (some (gw g))), (1, vi u1), (2, vi w2), (3, vi w3)]) (st' := [vi w3, vr (some (gT g 23))]) (pc' := 17) [(.iload_n 3, vi 0, 17)] (by decide +kernel) rfl rfl ?_
      refine sm_gd (fun h8 => ?_)
      refine sm_ial (k := 23) G.2.1 (by decide) rfl (ibt (k := 23) h8) h8 (by decide +kernel) ?_
      refine sm_b (l' := [(0, vr (some (gw g))), (1, vi u1), (2, vi w2), (3, vi w3)]) (st' := [vi u1, vi (tA τ 23 w3.toNat)]) (pc' := 19) [(.iload_n 1, vi 0, 19)] (by decide +kernel) rfl rfl ?_
      refine sm_bindS (fun (v13 : Int × TT) => V g mX4_fieldNamed d 195 [(0, vr (some (gw g))), (1, vi u1), (2, vi v13.1), (3, vi w3)] [] σ v13.2 Q) (fun v13 => ?_) (fun K14 o16 j15 => ?_)
      · refine sm_b (l' := [(0, vr (some (gw g))), (1, vi u1), (2, vi v13.1), (3, vi (w3 + 1))]) (st' := []) (pc' := 4) [(.iinc 3 1, vi 1, 198), (.goto (-194), vi 0, 4)] (by decide +kernel) rfl rfl ?_
        exact ih v13.1 (w3 + 1) v13.2
      · refine sm_gd (fun h9 => ?_)
        refine sm_gd (fun h10 => ?_)
        refine sm_case (V g mX4_fieldNamed d 25 [(0, vr (some (gw g))), (1, vi u1), (2, vi w2), (3, vi w3)] [] σ τ Q) (V g mX4_fieldNamed d 22 [(0, vr (some (gw g))), (1, vi u1), (2, vi w2), (3, vi w3)] [] σ τ Q) ?_ ?_ (fun f129 p130 n131 => ?_)
        · refine sm_b (l' := [(0, vr (some (gw g))), (1, vi u1), (2, vi w2), (3, vi w3)]) (st' := [vr (some (gw g)), vi w3, vr (some (gw g))]) (pc' := 28) [(.aload_n 0, vi 0, 26), (.iload_n 3, vi 0, 27), (.aload_n 0, vi 0, 28)] (by decide +kernel) rfl rfl ?_
          refine sm_tg (k := 41) (x := vr (some (gT g 41))) G.2.1 q1459 rfl rfl (by decide +kernel) ?_
          refine sm_cv (N := mX4_jsonName) (d' := d - 1) (fun r => (some (vi r.1))) (fun _ => σ) (fun r => r.2) [vi w3, vr (some (gT g 41))] [] rfl (by decide +kernel) q1740 q1742 qs73 (Or.inl ⟨rfl, q1743⟩) (show okN yX4_jsonName 2 = true by decide +kernel) (fun H hR => hR.rvw G.1 G.2.1) rfl rfl (by omega) rfl (fun Q' => m_jsonName_ok G (d - 1) (by omega) w3 41 (by decide) rfl τ Q') (fun y17 => ?_)
          refine sm_b (l' := [(0, vr (some (gw g))), (1, vi u1), (2, vi w2), (3, vi w3), (4, vi y17.1)]) (st' := [vr (some (gw g)), vi y17.1]) (pc' := 39) [(.istore 4, vi 0, 36), (.iload 4, vi 0, 38), (.aload_n 0, vi 0, 39)] (by decide +kernel) rfl rfl ?_
          refine sm_tg (k := 57) (x := vi (tI y17.2 57)) G.2.1 q1475 rfl rfl (by decide +kernel) ?_
          refine sm_bind1 (fun (v22 : Int) => V g mX4_fieldNamed d 50 [(0, vr (some (gw g))), (1, vi u1), (2, vi w2), (3, vi w3), (4, vi y17.1)] [vi v22] σ y17.2 Q) (fun v22 => ?_) (fun K23 j24 => ?_)
          · refine sm_b (l' := [(0, vr (some (gw g))), (1, vi u1), (2, vi w2), (3, vi w3), (4, vi y17.1), (5, vi v22), (6, vi 0)]) (st' := []) (pc' := 55) [(.istore 5, vi 0, 52), (.iconst 0, vi 0, 53), (.istore 6, vi 0, 55)] (by decide +kernel) rfl rfl ?_
            refine sm_bind1 (fun (v26 : Int) => V g mX4_fieldNamed d 97 [(0, vr (some (gw g))), (1, vi u1), (2, vi w2), (3, vi w3), (5, vi v26)] [] σ y17.2 Q) (fun v26 => ?_) (fun K27 j28 => ?_)
            · refine sm_b (l' := [(0, vr (some (gw g))), (1, vi u1), (2, vi w2), (3, vi w3), (5, vi v26)]) (st' := [vi v26]) (pc' := 99) [(.iload 5, vi 0, 99)] (by decide +kernel) rfl rfl ?_
              refine sm_gd (fun h30 => ?_)
              refine sm_case (V g mX4_fieldNamed d 104 [(0, vr (some (gw g))), (1, vi u1), (2, vi w2), (3, vi w3), (5, vi v26)] [] σ y17.2 Q) (V g mX4_fieldNamed d 102 [(0, vr (some (gw g))), (1, vi u1), (2, vi w2), (3, vi w3), (5, vi v26)] [] σ y17.2 Q) ?_ ?_ (fun f92 p93 n94 => ?_)
              · refine sm_b (l' := [(0, vr (some (gw g))), (1, vi u1), (2, vi w2), (3, vi w3), (5, vi v26)]) (st' := [vr (some (gw g))]) (pc' := 105) [(.aload_n 0, vi 0, 105)] (by decide +kernel) rfl rfl ?_
                refine sm_tg (k := 11) (x := vr (some (gT g 11))) G.2.1 q1429 rfl rfl (by decide +kernel) ?_
                refine sm_b (l' := [(0, vr (some (gw g))), (1, vi u1), (2, vi w2), (3, vi w3), (5, vi v26)]) (st' := [vr (some (gw g)), vr (some (gT g 11))]) (pc' := 109) [(.aload_n 0, vi 0, 109)] (by decide +kernel) rfl rfl ?_
                refine sm_tg (k := 22) (x := vr (some (gT g 22))) G.2.1 q1440 rfl rfl (by decide +kernel) ?_
                refine sm_b (l' := [(0, vr (some (gw g))), (1, vi u1), (2, vi w2), (3, vi w3), (5, vi v26)]) (st' := [vi w3, vr (some (gT g 22)), vr (some (gT g 11))]) (pc' := 113) [(.iload_n 3, vi 0, 113)] (by decide +kernel) rfl rfl ?_
                refine sm_ial (k := 22) G.2.1 (by decide) rfl (ibt (k := 22) h8) h8 (by decide +kernel) ?_
                refine sm_gd (fun h36 => ?_)
                refine sm_ial (k := 11) G.2.1 (by decide) rfl (ibt (k := 11) h36) h36 (by decide +kernel) ?_
                refine sm_b (l' := [(0, vr (some (gw g))), (1, vi u1), (2, vi w2), (3, vi w3), (5, vi v26)]) (st' := [vr (some (gw g)), vi (tA y17.2 11 (tA y17.2 22 w3.toNat).toNat)]) (pc' := 116) [(.aload_n 0, vi 0, 116)] (by decide +kernel) rfl rfl ?_
                refine sm_tg (k := 57) (x := vi (tI y17.2 57)) G.2.1 q1475 rfl rfl (by decide +kernel) ?_
                refine sm_bind1 (fun (v41 : Int) => V g mX4_fieldNamed d 127 [(0, vr (some (gw g))), (1, vi u1), (2, vi w2), (3, vi w3)] [vi v41] σ y17.2 Q) (fun v41 => ?_) (fun K42 j43 => ?_)
                · refine sm_b (l' := [(0, vr (some (gw g))), (1, vi u1), (2, vi w2), (3, vi w3), (5, vi v41), (6, vi 0)]) (st' := []) (pc' := 132) [(.istore 5, vi 0, 129), (.iconst 0, vi 0, 130), (.istore 6, vi 0, 132)] (by decide +kernel) rfl rfl ?_
                  refine sm_bind1 (fun (v45 : Int) => V g mX4_fieldNamed d 188 [(0, vr (some (gw g))), (1, vi u1), (2, vi w2), (3, vi w3), (5, vi v45)] [] σ y17.2 Q) (fun v45 => ?_) (fun K46 j47 => ?_)
                  · refine sm_b (l' := [(0, vr (some (gw g))), (1, vi u1), (2, vi w2), (3, vi w3), (5, vi v45)]) (st' := [vi v45]) (pc' := 190) [(.iload 5, vi 0, 190)] (by decide +kernel) rfl rfl ?_
                    refine sm_gd (fun h49 => ?_)
                    refine sm_case (V g mX4_fieldNamed d 195 [(0, vr (some (gw g))), (1, vi u1), (2, vi w2), (3, vi w3), (5, vi v45)] [] σ y17.2 Q) (V g mX4_fieldNamed d 193 [(0, vr (some (gw g))), (1, vi u1), (2, vi w2), (3, vi w3), (5, vi v45)] [] σ y17.2 Q) ?_ ?_ (fun f51 p52 n53 => ?_)
                    · refine sm_pick [0, 1, 2, 3] (l' := [(0, vr (some (gw g))), (1, vi u1), (2, vi w2), (3, vi w3)]) rfl ?_
                      exact sm_leaf (fun h => j15 _ h)
                    · refine sm_b (l' := [(0, vr (some (gw g))), (1, vi u1), (2, vi w3), (3, vi w3), (5, vi v45)]) (st' := []) (pc' := 195) [(.iload_n 3, vi 0, 194), (.istore_n 2, vi 0, 195)] (by decide +kernel) rfl rfl ?_
                      refine sm_pick [0, 1, 2, 3] (l' := [(0, vr (some (gw g))), (1, vi u1), (2, vi w3), (3, vi w3)]) rfl ?_
                      exact sm_leaf (fun h => j15 _ h)
                    refine sm_if_eq (off := 5) (tgt := 195) h49 (by decide +kernel) (fun c54 => ?_) (fun c54 => ?_)
                    · exact p52 c54
                    · exact n53 c54
                  · exact m_fieldNamed_L132_ok G d hd1 u1 w2 w3 y17.2  (fun _ h => j47 _ h) FU v41 0
                · refine sm_gd (fun h37 => ?_)
                  refine sm_gd (fun h38 => ?_)
                  refine sm_case (V g mX4_fieldNamed d 122 [(0, vr (some (gw g))), (1, vi u1), (2, vi w2), (3, vi w3), (5, vi v26)] [] σ y17.2 Q) (V g mX4_fieldNamed d 126 [(0, vr (some (gw g))), (1, vi u1), (2, vi w2), (3, vi w3), (5, vi v26)] [] σ y17.2 Q) ?_ ?_ (fun f88 p89 n90 => ?_)
                  · refine sm_b (l' := [(0, vr (some (gw g))), (1, vi u1), (2, vi w2), (3, vi w3), (5, vi v26)]) (st' := [vi 1]) (pc' := 127) [(.iconst 1, vi 1, 123), (.goto 4, vi 0, 127)] (by decide +kernel) rfl rfl ?_
                    refine sm_pick [0, 1, 2, 3] (l' := [(0, vr (some (gw g))), (1, vi u1), (2, vi w2), (3, vi w3)]) rfl ?_
                    exact sm_leaf (fun h => j43 _ h)
                  · refine sm_b (l' := [(0, vr (some (gw g))), (1, vi u1), (2, vi w2), (3, vi w3), (5, vi v26)]) (st' := [vi 0]) (pc' := 127) [(.iconst 0, vi 0, 127)] (by decide +kernel) rfl rfl ?_
                    refine sm_pick [0, 1, 2, 3] (l' := [(0, vr (some (gw g))), (1, vi u1), (2, vi w2), (3, vi w3)]) rfl ?_
                    exact sm_leaf (fun h => j43 _ h)
                  refine sm_icmp_ne (off := 7) (tgt := 126) h37 h38 (by decide +kernel) (fun c91 => ?_) (fun c91 => ?_)
                  · exact n90 c91
                  · exact p89 c91
              · refine sm_b (l' := [(0, vr (some (gw g))), (1, vi u1), (2, vi w2), (3, vi w3), (5, vi v26)]) (st' := [vi w3]) (pc' := 103) [(.iload_n 3, vi 0, 103)] (by decide +kernel) rfl rfl ?_
                exact sm_iret rfl (by decide +kernel) (fun h => hRET _ (o16 _ h))
              refine sm_if_eq (off := 5) (tgt := 104) h30 (by decide +kernel) (fun c95 => ?_) (fun c95 => ?_)
              · exact p93 c95
              · exact n94 c95
            · exact m_fieldNamed_L55_ok G d hd1 u1 w2 w3 y17.1 y17.2  (fun _ h => j28 _ h) FU v22 0
          · refine sm_gd (fun h18 => ?_)
            refine sm_gd (fun h19 => ?_)
            refine sm_case (V g mX4_fieldNamed d 45 [(0, vr (some (gw g))), (1, vi u1), (2, vi w2), (3, vi w3), (4, vi y17.1)] [] σ y17.2 Q) (V g mX4_fieldNamed d 49 [(0, vr (some (gw g))), (1, vi u1), (2, vi w2), (3, vi w3), (4, vi y17.1)] [] σ y17.2 Q) ?_ ?_ (fun f125 p126 n127 => ?_)
            · refine sm_b (l' := [(0, vr (some (gw g))), (1, vi u1), (2, vi w2), (3, vi w3), (4, vi y17.1)]) (st' := [vi 1]) (pc' := 50) [(.iconst 1, vi 1, 46), (.goto 4, vi 0, 50)] (by decide +kernel) rfl rfl ?_
              exact sm_leaf (fun h => j24 _ h)
            · refine sm_b (l' := [(0, vr (some (gw g))), (1, vi u1), (2, vi w2), (3, vi w3), (4, vi y17.1)]) (st' := [vi 0]) (pc' := 50) [(.iconst 0, vi 0, 50)] (by decide +kernel) rfl rfl ?_
              exact sm_leaf (fun h => j24 _ h)
            refine sm_icmp_ne (off := 7) (tgt := 49) h18 h19 (by decide +kernel) (fun c128 => ?_) (fun c128 => ?_)
            · exact n127 c128
            · exact p126 c128
        · refine sm_b (l' := [(0, vr (some (gw g))), (1, vi u1), (2, vi w2), (3, vi w3)]) (st' := []) (pc' := 195) [(.goto 173, vi 0, 195)] (by decide +kernel) rfl rfl ?_
          exact sm_leaf (fun h => j15 _ h)
        refine sm_icmp_eq (off := 6) (tgt := 25) h9 h10 (by decide +kernel) (fun c132 => ?_) (fun c132 => ?_)
        · exact p130 c132
        · exact n131 c132
    refine sm_icmp_ge (off := 192) (tgt := 201) h1 h2 (by decide +kernel) (fun c136 => ?_) (fun c136 => ?_)
    · exact p134 c136
    · exact n135 c136
set_option maxHeartbeats 4000000 in
theorem m_fieldNamed_ok {g : GE} (G : GG g) {σ : ST} (d : Nat) (hd1 : 1 ≤ d) (a1 : Int)  (τ : TT) (Q : VQ) : Sm (V g mX4_fieldNamed d 0 [(0, vr (some (gw g))), (1, vi a1)] [] σ τ Q) (m_fieldNamed a1 τ) (fun r => Q.1 (some (vi r.1)) σ r.2) := by
  unfold m_fieldNamed
  refine sm_top (fun K hRET => ?_)
  refine sm_b (l' := [(0, vr (some (gw g))), (1, vi a1), (2, vi ((-1))), (3, vi 0)]) (st' := []) (pc' := 4) [(.iconst (-1), vi (-1), 1), (.istore_n 2, vi 0, 2), (.iconst 0, vi 0, 3), (.istore_n 3, vi 0, 4)] (by decide +kernel) rfl rfl ?_
  exact m_fieldNamed_L4_ok G d hd1 a1  (fun r h => hRET _ h) FU ((-1)) 0 τ
def m_literal_L2 (u1 : Int) (u2 : Nat) (τ : TT) : Nat → Int → Option ((Int) ⊕ (Unit))
  | 0, _ => none
  | n + 1, w3 => gd (rg w3) (if (((slen u2 : Nat) : Int)) ≤ w3 then (some (Sum.inr (()))) else (Option.bind (m_look (u1 + w3) τ) fun y11 => gd (ib w3 (slen u2)) (gd (rg y11) (if y11 = (((sch u2 w3.toNat : Nat) : Int)) then (m_literal_L2 u1 u2 τ n (w3 + 1)) else (some (Sum.inl (((-1)))))))))
def m_literal (a1 : Int) (a2 : Nat) (τ : TT) : Option (Int) := Option.bind (m_literal_L2 a1 a2 τ FU 0) (Sum.elim some fun (v1 : Unit) => some ((a1 + (((slen a2 : Nat) : Int)))))
set_option maxHeartbeats 4000000 in
theorem m_literal_L2_ok {g : GE} (G : GG g) {σ : ST} {Q : VQ} (d : Nat) (hd1 : 6 ≤ d) (u1 : Int) (u2 : Nat) (τ : TT)  {K : (Int) ⊕ (Unit) → Prop} (hRET : ∀ r : Int, K (Sum.inl r) → Q.1 (some (vi r)) σ τ) (hE33 : ∀ v5 : Unit, K (Sum.inr v5) → V g mX4_literal d 33 [(1, vi u1), (2, vr (some (gK g u2)))] [] σ τ Q) : ∀ (n : Nat) (w3 : Int), Sm (V g mX4_literal d 2 [(0, vr (some (gw g))), (1, vi u1), (2, vr (some (gK g u2))), (3, vi w3)] [] σ τ Q) (m_literal_L2 u1 u2 τ n w3) K := by
  intro n
  induction n with
  | zero => intro w3; exact sm_none
  | succ n ih =>
    intro w3
    rw [m_literal_L2.eq_2]
    refine sm_b (l' := [(0, vr (some (gw g))), (1, vi u1), (2, vr (some (gK g u2))), (3, vi w3)]) (st' := [vr (some (gK g u2)), vi w3]) (pc' := 4) [(.iload_n 3, vi 0, 3), (.aload_n 2, vi 0, 4)] (by decide +kernel) rfl rfl ?_
    refine sm_slen (k := u2) G [vi w3] rfl (by decide +kernel) q1642 (by omega) rfl ?_
    refine sm_gd (fun h6 => ?_)
    refine sm_case (V g mX4_literal d 33 [(0, vr (some (gw g))), (1, vi u1), (2, vr (some (gK g u2))), (3, vi w3)] [] σ τ Q) (V g mX4_literal d 10 [(0, vr (some (gw g))), (1, vi u1), (2, vr (some (gK g u2))), (3, vi w3)] [] σ τ Q) ?_ ?_ (fun f20 p21 n22 => ?_)
    · refine sm_pick [1, 2] (l' := [(1, vi u1), (2, vr (some (gK g u2)))]) rfl ?_
      exact sm_leaf (fun h => hE33 _ h)
    · refine sm_b (l' := [(0, vr (some (gw g))), (1, vi u1), (2, vr (some (gK g u2))), (3, vi w3)]) (st' := [vi (u1 + w3), vr (some (gw g))]) (pc' := 14) [(.aload_n 0, vi 0, 11), (.iload_n 1, vi 0, 12), (.iload_n 3, vi 0, 13), (.iadd, vi 0, 14)] (by decide +kernel) rfl rfl ?_
      refine sm_cv (N := mX4_look) (d' := d - 1) (fun r => (some (vi r))) (fun _ => σ) (fun _ => τ) [vi (u1 + w3)] [] rfl (by decide +kernel) q1902 q1904 qs103 (Or.inl ⟨rfl, q1905⟩) (show okN yX4_look 1 = true by decide +kernel) (fun H hR => hR.rvw G.1 G.2.1) rfl rfl (by omega) rfl (fun Q' => m_look_ok G (d - 1) (by omega) (u1 + w3) τ Q') (fun y11 => ?_)
      refine sm_b (l' := [(0, vr (some (gw g))), (1, vi u1), (2, vr (some (gK g u2))), (3, vi w3)]) (st' := [vi w3, vr (some (gK g u2)), vi y11]) (pc' := 19) [(.aload_n 2, vi 0, 18), (.iload_n 3, vi 0, 19)] (by decide +kernel) rfl rfl ?_
      refine sm_gd (fun h12 => ?_)
      refine sm_scha (k := u2) G [vi y11] rfl (by decide +kernel) q1643 h12 (by omega) rfl ?_
      refine sm_gd (fun h13 => ?_)
      refine sm_case (V g mX4_literal d 27 [(0, vr (some (gw g))), (1, vi u1), (2, vr (some (gK g u2))), (3, vi w3)] [] σ τ Q) (V g mX4_literal d 25 [(0, vr (some (gw g))), (1, vi u1), (2, vr (some (gK g u2))), (3, vi w3)] [] σ τ Q) ?_ ?_ (fun f16 p17 n18 => ?_)
      · refine sm_b (l' := [(0, vr (some (gw g))), (1, vi u1), (2, vr (some (gK g u2))), (3, vi (w3 + 1))]) (st' := []) (pc' := 2) [(.iinc 3 1, vi 1, 30), (.goto (-28), vi 0, 2)] (by decide +kernel) rfl rfl ?_
        exact ih (w3 + 1)
      · refine sm_b (l' := [(0, vr (some (gw g))), (1, vi u1), (2, vr (some (gK g u2))), (3, vi w3)]) (st' := [vi ((-1))]) (pc' := 26) [(.iconst (-1), vi (-1), 26)] (by decide +kernel) rfl rfl ?_
        exact sm_iret rfl (by decide +kernel) (fun h => hRET _ h)
      refine sm_icmp_eq (off := 5) (tgt := 27) h13 (sch_rg _ _) (by decide +kernel) (fun c19 => ?_) (fun c19 => ?_)
      · exact p17 c19
      · exact n18 c19
    refine sm_icmp_ge (off := 26) (tgt := 33) h6 (slen_rg _) (by decide +kernel) (fun c23 => ?_) (fun c23 => ?_)
    · exact p21 c23
    · exact n22 c23
set_option maxHeartbeats 4000000 in
theorem m_literal_ok {g : GE} (G : GG g) {σ : ST} (d : Nat) (hd1 : 6 ≤ d) (a1 : Int) (a2 : Nat)  (τ : TT) (Q : VQ) : Sm (V g mX4_literal d 0 [(0, vr (some (gw g))), (1, vi a1), (2, vr (some (gK g a2)))] [] σ τ Q) (m_literal a1 a2 τ) (fun r => Q.1 (some (vi r)) σ τ) := by
  unfold m_literal
  refine sm_top (fun K hRET => ?_)
  refine sm_b (l' := [(0, vr (some (gw g))), (1, vi a1), (2, vr (some (gK g a2))), (3, vi 0)]) (st' := []) (pc' := 2) [(.iconst 0, vi 0, 1), (.istore_n 3, vi 0, 2)] (by decide +kernel) rfl rfl ?_
  refine sm_bindS (fun (v1 : Unit) => V g mX4_literal d 33 [(1, vi a1), (2, vr (some (gK g a2)))] [] σ τ Q) (fun v1 => ?_) (fun K2 o4 j3 => ?_)
  · refine sm_b (l' := [(1, vi a1), (2, vr (some (gK g a2)))]) (st' := [vr (some (gK g a2)), vi a1]) (pc' := 35) [(.iload_n 1, vi 0, 34), (.aload_n 2, vi 0, 35)] (by decide +kernel) rfl rfl ?_
    refine sm_slen (k := a2) G [vi a1] rfl (by decide +kernel) q1642 (by omega) rfl ?_
    refine sm_b (l' := [(1, vi a1), (2, vr (some (gK g a2)))]) (st' := [vi (a1 + (((slen a2 : Nat) : Int)))]) (pc' := 39) [(.iadd, vi 0, 39)] (by decide +kernel) rfl rfl ?_
    exact sm_iret rfl (by decide +kernel) (fun h => hRET _ h)
  · exact m_literal_L2_ok G d hd1 a1 a2 τ  (fun r h => hRET _ (o4 _ h)) (fun _ h => j3 _ h) FU 0
