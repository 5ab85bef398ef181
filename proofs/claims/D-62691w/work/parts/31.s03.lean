set_option maxRecDepth 100000
/-! the system: X5_message, X5_read, X9_init, X9_isTwice -/
def sr_message_L98 (bb : Nat × Nat) (rec : Option Nat → Option Nat → Int → ST → Option (Option Unit × ST)) (u0 : Option Nat) (u2 : Int) (u3 : Nat) : Nat → ST → Option ((Option Unit × ST) ⊕ (ST))
  | 0, _ => none
  | n + 1, σ => Option.bind u0 fun p74 => gd (sc σ p74 = 6) (Option.bind (sr_isSign p74 125 σ) fun y77 => gd (rg y77) (if y77 = 0 then (Option.bind (sr_isWord p74 30 σ) fun y82 => gd (rg y82) (if y82 = 0 then (Option.bind (sr_isWord p74 31 σ) fun y89 => gd (rg y89) (if y89 = 0 then (Option.bind (sr_isWord p74 32 σ) fun y96 => gd (rg y96) (if y96 = 0 then (Option.bind (sr_isWord p74 33 σ) fun y102 => gd (rg y102) (if y102 = 0 then (Option.bind (sr_field bb p74 (some u3) σ) (tB (fun z => Sum.inl ((none, z))) fun y107 σ108 => sr_message_L98 bb rec u0 u2 u3 n σ108)) else (Option.bind (sr_reserve bb p74 (some u3) σ) (tB (fun z => Sum.inl ((none, z))) fun y110 σ111 => sr_message_L98 bb rec u0 u2 u3 n σ111)))) else (Option.bind (sr_oneof bb p74 (some u3) σ) (tB (fun z => Sum.inl ((none, z))) fun y117 σ118 => sr_message_L98 bb rec u0 u2 u3 n σ118)))) else (gd (sc σ u3 = 7) (Option.bind (sr_enumeration bb p74 (sR σ 98 u3) σ) (tB (fun z => Sum.inl ((none, z))) fun y125 σ126 => sr_message_L98 bb rec u0 u2 u3 n σ126))))) else (gd (sc σ u3 = 7) (Option.bind (rec u0 (sR σ 98 u3) (u2 + 1) σ) (tB (fun z => Sum.inl ((none, z))) fun y133 σ134 => sr_message_L98 bb rec u0 u2 u3 n σ134))))) else (some (Sum.inr σ))))
def sr_messageb (bb : Nat × Nat) (rec : Option Nat → Option Nat → Int → ST → Option (Option Unit × ST)) (a1 : Option Nat) (a2 : Option Nat) (a3 : Int) (σ : ST) : Option (Option Unit × ST) := Option.bind a1 fun p1 => gd (sc σ p1 = 6) (Option.bind (sr_word bb p1 30 σ) (tB (fun z => (none, z)) fun y5 σ6 => Option.bind (gd (rg a3) (gd (¬ (6 < a3) → sc σ6 p1 = 6) (gd (¬ (6 < a3) → ¬ (sR σ6 86 p1) = none) (gd (¬ (6 < a3) → sc σ6 (ad (sR σ6 86 p1)) = 2) (gd (¬ (6 < a3) → ¬ (sR σ6 17 (ad (sR σ6 86 p1))) = none) (gd (¬ (6 < a3) → sc σ6 (ad (sR σ6 17 (ad (sR σ6 86 p1)))) = 16) (gd (¬ (6 < a3) → ok (l_size (ad (sR σ6 17 (ad (sR σ6 86 p1)))) σ6)) (gd (¬ (6 < a3) → rg (vv (l_size (ad (sR σ6 17 (ad (sR σ6 86 p1)))) σ6))) (if (6 < a3) ∨ (10 ≤ (vv (l_size (ad (sR σ6 17 (ad (sR σ6 86 p1)))) σ6))) then (some 0) else (some 1)))))))))) fun (v20 : Int) => gd (sc σ6 p1 = 6) (Option.bind (sr_must bb p1 v20 σ6) (tB (fun z => (none, z)) fun y26 σ27 => gd (rm bb σ27 8) (nm (nO σ27 7 8) fun σ29 => gd (sc σ29 p1 = 6) (Option.bind (sR σ29 86 p1) fun p31 => gd (sc σ29 p31 = 2) (Option.bind (sR σ29 17 p31) fun p34 => gd (sc σ29 p34 = 16) (Option.bind (l_size p34 σ29) fun y37 => Option.bind (sr_name bb p1 σ29) (tB (fun z => (none, z)) fun y39 σ40 => Option.bind (mt_init bb (sZ σ27) y37 y39 a2 σ40) fun y41 => gd (sc y41 p1 = 6) (Option.bind (sR y41 86 p1) fun p43 => gd (sc y41 p43 = 2) (Option.bind (sR y41 17 p43) fun p46 => gd (sc y41 p46 = 16) (Option.bind (l_add bb p46 (some (sZ σ27)) y41) fun y49 => Option.bind a2 fun p50 => gd (sc y49.2 p50 = 3) (Option.bind (sR y49.2 33 p50) fun p53 => gd (sc y49.2 p53 = 16) (Option.bind (l_add bb p53 (some (sZ σ27)) y49.2) fun y56 => gd (sc y56.2 p50 = 3) (gd (sc y56.2 (sZ σ27) = 7) (Option.bind (sR y56.2 35 p50) fun p59 => gd (sc y56.2 p59 = 16) (Option.bind (l_add bb p59 (sR y56.2 97 (sZ σ27)) y56.2) fun y62 => gd (sc y62.2 p1 = 6) (Option.bind (sr_sign bb p1 123 y62.2) (tB (fun z => (none, z)) fun y65 σ66 => Option.bind (sr_message_L98 bb rec a1 a3 (sZ σ27) FU σ66) (Sum.elim some fun (v67 : ST) => gd (sc v67 p1 = 6) (Option.bind (sr_next bb p1 v67) fun y72 => some ((some (), y72)))))))))))))))))))))))
set_option maxHeartbeats 4000000 in
theorem sr_message_L98_ok {g : GE} (G : GG g) {D : Nat} (rec : Option Nat → Option Nat → Int → ST → Option (Option Unit × ST)) (hrec : ∀ (d : Nat), D ≤ d → ∀ {τ : TT} (a1 : Option Nat) (a2 : Option Nat) (a3 : Int) (σ : ST) (Q' : VQ), Sm (V g mX5_message d 0 [(0, vr a1), (1, vr a2), (2, vi a3)] [] σ τ Q') (rec a1 a2 a3 σ) (fun r => tQ Q' τ (fun _ : Unit => none) r)) {τ : TT} {Q : VQ} (d : Nat) (hd1 : D + 1 ≤ d) (hd2 : 11 ≤ d) (u0 : Option Nat) (u2 : Int) (u3 : Nat)  {K : (Option Unit × ST) ⊕ (ST) → Prop} (hRET : ∀ r : Option Unit × ST, K (Sum.inl r) → tQ Q τ (fun _ : Unit => none) r) (hE192 : ∀ v73 : ST, K (Sum.inr v73) → V g mX5_message d 192 [(0, vr u0)] [] v73 τ Q) : ∀ (n : Nat) (σ : ST), Sm (V g mX5_message d 98 [(0, vr u0), (2, vi u2), (3, vr (some u3))] [] σ τ Q) (sr_message_L98 (gRm g) rec u0 u2 u3 n σ) K := by
  intro n
  induction n with
  | zero => intro σ; exact sm_none
  | succ n ih =>
    intro σ
    rw [sr_message_L98.eq_2]
    refine sm_b (l' := [(0, vr u0), (2, vi u2), (3, vr (some u3))]) (st' := [vi 125, vr u0]) (pc' := 101) [(.aload_n 0, vi 0, 99), (.bipush 125, vi 125, 101)] (by decide +kernel) rfl rfl ?_
    refine sm_de (fun p74 h75 => ?_)
    refine sm_st [vi 125, vr (some p74)] (by rw [h75] <;> rfl) ?_
    refine sm_gd (fun h76 => ?_)
    refine sm_cv (N := mX5_isSign) (d' := d - 1) (fun r => (some (vi r))) (fun _ => σ) (fun _ => τ) [vi 125] [] rfl (by decide +kernel) q509 q511 qs8 (Or.inl ⟨rfl, q512⟩) (show okN yX5_isSign 1 = true by decide +kernel) (fun H hR => hR.rv G.1 cd5 rfl h76) rfl rfl (by omega) rfl (fun Q' => sr_isSign_ok G (d - 1) (by omega) p74 125 σ Q') (fun y77 => ?_)
    refine sm_gd (fun h78 => ?_)
    refine sm_case (V g mX5_message d 107 [(0, vr u0), (2, vi u2), (3, vr (some u3))] [] σ τ Q) (V g mX5_message d 192 [(0, vr u0), (2, vi u2), (3, vr (some u3))] [] σ τ Q) ?_ ?_ (fun f139 p140 n141 => ?_)
    · refine sm_b (l' := [(0, vr u0), (2, vi u2), (3, vr (some u3))]) (st' := [vr u0]) (pc' := 108) [(.aload_n 0, vi 0, 108)] (by decide +kernel) rfl rfl ?_
      refine sm_str (k := 30) G rfl (by decide +kernel) ?_
      refine sm_st [vr (some (gK g 30)), vr (some p74)] (by rw [h75] <;> rfl) ?_
      refine sm_cv (N := mX5_isWord) (d' := d - 1) (fun r => (some (vi r))) (fun _ => σ) (fun _ => τ) [vr (some (gK g 30))] [] rfl (by decide +kernel) q385 q387 qs4 (Or.inl ⟨rfl, q388⟩) (show okN yX5_isWord 1 = true by decide +kernel) (fun H hR => hR.rv G.1 cd5 rfl h76) rfl rfl (by omega) rfl (fun Q' => sr_isWord_ok G (d - 1) (by omega) p74 30 σ Q') (fun y82 => ?_)
      refine sm_gd (fun h83 => ?_)
      refine sm_case (V g mX5_message d 130 [(0, vr u0), (2, vi u2), (3, vr (some u3))] [] σ τ Q) (V g mX5_message d 116 [(0, vr u0), (2, vi u2), (3, vr (some u3))] [] σ τ Q) ?_ ?_ (fun f135 p136 n137 => ?_)
      · refine sm_b (l' := [(0, vr u0), (2, vi u2), (3, vr (some u3))]) (st' := [vr u0]) (pc' := 131) [(.aload_n 0, vi 0, 131)] (by decide +kernel) rfl rfl ?_
        refine sm_str (k := 31) G rfl (by decide +kernel) ?_
        refine sm_st [vr (some (gK g 31)), vr (some p74)] (by rw [h75] <;> rfl) ?_
        refine sm_cv (N := mX5_isWord) (d' := d - 1) (fun r => (some (vi r))) (fun _ => σ) (fun _ => τ) [vr (some (gK g 31))] [] rfl (by decide +kernel) q385 q387 qs4 (Or.inl ⟨rfl, q388⟩) (show okN yX5_isWord 1 = true by decide +kernel) (fun H hR => hR.rv G.1 cd5 rfl h76) rfl rfl (by omega) rfl (fun Q' => sr_isWord_ok G (d - 1) (by omega) p74 31 σ Q') (fun y89 => ?_)
        refine sm_gd (fun h90 => ?_)
        refine sm_case (V g mX5_message d 150 [(0, vr u0), (2, vi u2), (3, vr (some u3))] [] σ τ Q) (V g mX5_message d 139 [(0, vr u0), (2, vi u2), (3, vr (some u3))] [] σ τ Q) ?_ ?_ (fun f127 p128 n129 => ?_)
        · refine sm_b (l' := [(0, vr u0), (2, vi u2), (3, vr (some u3))]) (st' := [vr u0]) (pc' := 151) [(.aload_n 0, vi 0, 151)] (by decide +kernel) rfl rfl ?_
          refine sm_str (k := 32) G rfl (by decide +kernel) ?_
          refine sm_st [vr (some (gK g 32)), vr (some p74)] (by rw [h75] <;> rfl) ?_
          refine sm_cv (N := mX5_isWord) (d' := d - 1) (fun r => (some (vi r))) (fun _ => σ) (fun _ => τ) [vr (some (gK g 32))] [] rfl (by decide +kernel) q385 q387 qs4 (Or.inl ⟨rfl, q388⟩) (show okN yX5_isWord 1 = true by decide +kernel) (fun H hR => hR.rv G.1 cd5 rfl h76) rfl rfl (by omega) rfl (fun Q' => sr_isWord_ok G (d - 1) (by omega) p74 32 σ Q') (fun y96 => ?_)
          refine sm_gd (fun h97 => ?_)
          refine sm_case (V g mX5_message d 167 [(0, vr u0), (2, vi u2), (3, vr (some u3))] [] σ τ Q) (V g mX5_message d 159 [(0, vr u0), (2, vi u2), (3, vr (some u3))] [] σ τ Q) ?_ ?_ (fun f119 p120 n121 => ?_)
          · refine sm_b (l' := [(0, vr u0), (2, vi u2), (3, vr (some u3))]) (st' := [vr u0]) (pc' := 168) [(.aload_n 0, vi 0, 168)] (by decide +kernel) rfl rfl ?_
            refine sm_str (k := 33) G rfl (by decide +kernel) ?_
            refine sm_st [vr (some (gK g 33)), vr (some p74)] (by rw [h75] <;> rfl) ?_
            refine sm_cv (N := mX5_isWord) (d' := d - 1) (fun r => (some (vi r))) (fun _ => σ) (fun _ => τ) [vr (some (gK g 33))] [] rfl (by decide +kernel) q385 q387 qs4 (Or.inl ⟨rfl, q388⟩) (show okN yX5_isWord 1 = true by decide +kernel) (fun H hR => hR.rv G.1 cd5 rfl h76) rfl rfl (by omega) rfl (fun Q' => sr_isWord_ok G (d - 1) (by omega) p74 33 σ Q') (fun y102 => ?_)
            refine sm_gd (fun h103 => ?_)
            refine sm_case (V g mX5_message d 184 [(0, vr u0), (2, vi u2), (3, vr (some u3))] [] σ τ Q) (V g mX5_message d 176 [(0, vr u0), (2, vi u2), (3, vr (some u3))] [] σ τ Q) ?_ ?_ (fun f112 p113 n114 => ?_)
            · refine sm_b (l' := [(0, vr u0), (2, vi u2), (3, vr (some u3))]) (st' := [vr (some u3), vr u0]) (pc' := 186) [(.aload_n 0, vi 0, 185), (.aload_n 3, vi 0, 186)] (by decide +kernel) rfl rfl ?_
              refine sm_st [vr (some u3), vr (some p74)] (by rw [h75] <;> rfl) ?_
              refine sm_cvT (N := mX5_field) (d' := d - 1) (fun _ : Unit => none) (fun z => Sum.inl ((none, z))) [vr (some u3)] [] rfl (by decide +kernel) q807 q809 qs18 (Or.inl ⟨rfl, q810⟩) (show okN yX5_field 1 = true by decide +kernel) (fun H hR => hR.rv G.1 cd5 rfl h76) rfl rfl (by omega) rfl (fun Q' => sr_field_ok G (d - 1) (by omega) p74 (some u3) σ Q') (fun z h => hRET _ h) (fun y107 σ108 => ?_)
              refine sm_b (l' := [(0, vr u0), (2, vi u2), (3, vr (some u3))]) (st' := []) (pc' := 98) [(.goto (-91), vi 0, 98)] (by decide +kernel) rfl rfl ?_
              exact ih σ108
            · refine sm_b (l' := [(0, vr u0), (2, vi u2), (3, vr (some u3))]) (st' := [vr (some u3), vr u0]) (pc' := 178) [(.aload_n 0, vi 0, 177), (.aload_n 3, vi 0, 178)] (by decide +kernel) rfl rfl ?_
              refine sm_st [vr (some u3), vr (some p74)] (by rw [h75] <;> rfl) ?_
              refine sm_cvT (N := mX5_reserve) (d' := d - 1) (fun _ : Unit => none) (fun z => Sum.inl ((none, z))) [vr (some u3)] [] rfl (by decide +kernel) q803 q805 qs17 (Or.inl ⟨rfl, q806⟩) (show okN yX5_reserve 1 = true by decide +kernel) (fun H hR => hR.rv G.1 cd5 rfl h76) rfl rfl (by omega) rfl (fun Q' => sr_reserve_ok G (d - 1) (by omega) p74 (some u3) σ Q') (fun z h => hRET _ h) (fun y110 σ111 => ?_)
              refine sm_b (l' := [(0, vr u0), (2, vi u2), (3, vr (some u3))]) (st' := []) (pc' := 98) [(.goto (-83), vi 0, 98)] (by decide +kernel) rfl rfl ?_
              exact ih σ111
            refine sm_if_eq (off := 11) (tgt := 184) h103 (by decide +kernel) (fun c115 => ?_) (fun c115 => ?_)
            · exact p113 c115
            · exact n114 c115
          · refine sm_b (l' := [(0, vr u0), (2, vi u2), (3, vr (some u3))]) (st' := [vr (some u3), vr u0]) (pc' := 161) [(.aload_n 0, vi 0, 160), (.aload_n 3, vi 0, 161)] (by decide +kernel) rfl rfl ?_
            refine sm_st [vr (some u3), vr (some p74)] (by rw [h75] <;> rfl) ?_
            refine sm_cvT (N := mX5_oneof) (d' := d - 1) (fun _ : Unit => none) (fun z => Sum.inl ((none, z))) [vr (some u3)] [] rfl (by decide +kernel) q689 q691 qs15 (Or.inl ⟨rfl, q692⟩) (show okN yX5_oneof 1 = true by decide +kernel) (fun H hR => hR.rv G.1 cd5 rfl h76) rfl rfl (by omega) rfl (fun Q' => sr_oneof_ok G (d - 1) (by omega) p74 (some u3) σ Q') (fun z h => hRET _ h) (fun y117 σ118 => ?_)
            refine sm_b (l' := [(0, vr u0), (2, vi u2), (3, vr (some u3))]) (st' := []) (pc' := 98) [(.goto (-66), vi 0, 98)] (by decide +kernel) rfl rfl ?_
            exact ih σ118
          refine sm_if_eq (off := 11) (tgt := 167) h97 (by decide +kernel) (fun c122 => ?_) (fun c122 => ?_)
          · exact p120 c122
          · exact n121 c122
        · refine sm_b (l' := [(0, vr u0), (2, vi u2), (3, vr (some u3))]) (st' := [vr (some u3), vr u0]) (pc' := 141) [(.aload_n 0, vi 0, 140), (.aload_n 3, vi 0, 141)] (by decide +kernel) rfl rfl ?_
          refine sm_gd (fun h123 => ?_)
          refine sm_gN (k := 2) (x := vr (sR σ 98 u3)) cd6 rfl h123 rfl q559 rfl (by decide +kernel) ?_
          refine sm_st [vr (sR σ 98 u3), vr (some p74)] (by rw [h75] <;> rfl) ?_
          refine sm_cvT (N := mX5_enumeration) (d' := d - 1) (fun _ : Unit => none) (fun z => Sum.inl ((none, z))) [vr (sR σ 98 u3)] [] rfl (by decide +kernel) q653 q655 qs13 (Or.inl ⟨rfl, q656⟩) (show okN yX5_enumeration 1 = true by decide +kernel) (fun H hR => hR.rv G.1 cd5 rfl h76) rfl rfl (by omega) rfl (fun Q' => sr_enumeration_ok G (d - 1) (by omega) p74 (sR σ 98 u3) σ Q') (fun z h => hRET _ h) (fun y125 σ126 => ?_)
          refine sm_b (l' := [(0, vr u0), (2, vi u2), (3, vr (some u3))]) (st' := []) (pc' := 98) [(.goto (-49), vi 0, 98)] (by decide +kernel) rfl rfl ?_
          exact ih σ126
        refine sm_if_eq (off := 14) (tgt := 150) h90 (by decide +kernel) (fun c130 => ?_) (fun c130 => ?_)
        · exact p128 c130
        · exact n129 c130
      · refine sm_b (l' := [(0, vr u0), (2, vi u2), (3, vr (some u3))]) (st' := [vr (some u3), vr u0]) (pc' := 118) [(.aload_n 0, vi 0, 117), (.aload_n 3, vi 0, 118)] (by decide +kernel) rfl rfl ?_
        refine sm_gd (fun h131 => ?_)
        refine sm_gN (k := 2) (x := vr (sR σ 98 u3)) cd6 rfl h131 rfl q559 rfl (by decide +kernel) ?_
        refine sm_b (l' := [(0, vr u0), (2, vi u2), (3, vr (some u3))]) (st' := [vi (u2 + 1), vr (sR σ 98 u3), vr u0]) (pc' := 124) [(.iload_n 2, vi 0, 122), (.iconst 1, vi 1, 123), (.iadd, vi 0, 124)] (by decide +kernel) rfl rfl ?_
        refine sm_csT (N := mX5_message) (d' := d - 1) (fun _ : Unit => none) (fun z => Sum.inl ((none, z))) [vr u0, vr (sR σ 98 u3), vi (u2 + 1)] [] rfl (by decide +kernel) q515 q516 q140 (Or.inl ⟨rfl, q517⟩) (show okN yX5_message 3 = true by decide +kernel) rfl rfl (by omega) rfl (fun Q' => hrec (d - 1) (by omega) u0 (sR σ 98 u3) (u2 + 1) σ Q') (fun z h => hRET _ h) (fun y133 σ134 => ?_)
        refine sm_b (l' := [(0, vr u0), (2, vi u2), (3, vr (some u3))]) (st' := []) (pc' := 98) [(.goto (-29), vi 0, 98)] (by decide +kernel) rfl rfl ?_
        exact ih σ134
      refine sm_if_eq (off := 17) (tgt := 130) h83 (by decide +kernel) (fun c138 => ?_) (fun c138 => ?_)
      · exact p136 c138
      · exact n137 c138
    · refine sm_pick [0] (l' := [(0, vr u0)]) rfl ?_
      exact sm_leaf (fun h => hE192 _ h)
    refine sm_if_ne (off := 88) (tgt := 192) h78 (by decide +kernel) (fun c142 => ?_) (fun c142 => ?_)
    · exact n141 c142
    · exact p140 c142
set_option maxHeartbeats 4000000 in
theorem sr_messageb_ok {g : GE} (G : GG g) {D : Nat} (rec : Option Nat → Option Nat → Int → ST → Option (Option Unit × ST)) (hrec : ∀ (d : Nat), D ≤ d → ∀ {τ : TT} (a1 : Option Nat) (a2 : Option Nat) (a3 : Int) (σ : ST) (Q' : VQ), Sm (V g mX5_message d 0 [(0, vr a1), (1, vr a2), (2, vi a3)] [] σ τ Q') (rec a1 a2 a3 σ) (fun r => tQ Q' τ (fun _ : Unit => none) r)) {τ : TT} (d : Nat) (hd1 : D + 1 ≤ d) (hd2 : 11 ≤ d) (a1 : Option Nat) (a2 : Option Nat) (a3 : Int)  (σ : ST) (Q : VQ) : Sm (V g mX5_message d 0 [(0, vr a1), (1, vr a2), (2, vi a3)] [] σ τ Q) (sr_messageb (gRm g) rec a1 a2 a3 σ) (fun r => tQ Q τ (fun _ : Unit => none) r) := by
  unfold sr_messageb
  refine sm_top (fun K hRET => ?_)
  refine sm_b (l' := [(0, vr a1), (1, vr a2), (2, vi a3)]) (st' := [vr a1]) (pc' := 1) [(.aload_n 0, vi 0, 1)] (by decide +kernel) rfl rfl ?_
  refine sm_str (k := 30) G rfl (by decide +kernel) ?_
  refine sm_de (fun p1 h2 => ?_)
  refine sm_st [vr (some (gK g 30)), vr (some p1)] (by rw [h2] <;> rfl) ?_
  refine sm_gd (fun h3 => ?_)
  refine sm_cvT (N := mX5_word) (d' := d - 1) (fun _ : Unit => none) (fun z => (none, z)) [vr (some (gK g 30))] [] rfl (by decide +kernel) q381 q383 qs3 (Or.inl ⟨rfl, q384⟩) (show okN yX5_word 1 = true by decide +kernel) (fun H hR => hR.rv G.1 cd5 rfl h3) rfl rfl (by omega) rfl (fun Q' => sr_word_ok G (d - 1) (by omega) p1 30 σ Q') (fun z h => hRET _ h) (fun y5 σ6 => ?_)
  refine sm_b (l' := [(0, vr a1), (1, vr a2), (2, vi a3)]) (st' := [vi 6, vi a3, vr a1]) (pc' := 10) [(.aload_n 0, vi 0, 7), (.iload_n 2, vi 0, 8), (.bipush 6, vi 6, 10)] (by decide +kernel) rfl rfl ?_
  refine sm_bind1 (fun (v20 : Int) => V g mX5_message d 33 [(0, vr a1), (1, vr a2), (2, vi a3)] [vi v20, vr a1] σ6 τ Q) (fun v20 => ?_) (fun K21 j22 => ?_)
  · refine sm_st [vi v20, vr (some p1)] (by rw [h2] <;> rfl) ?_
    refine sm_gd (fun h24 => ?_)
    refine sm_cvT (N := mX5_must) (d' := d - 1) (fun _ : Unit => none) (fun z => (none, z)) [vi v20] [] rfl (by decide +kernel) q437 q439 qs5 (Or.inl ⟨rfl, q440⟩) (show okN yX5_must 1 = true by decide +kernel) (fun H hR => hR.rv G.1 cd5 rfl h24) rfl rfl (by omega) rfl (fun Q' => sr_must_ok G (d - 1) (by omega) p1 v20 σ6 Q') (fun z h => hRET _ h) (fun y26 σ27 => ?_)
    refine sm_gd (fun h28 => ?_)
    refine sm_new cd6 rfl q522 q523 q149 (new_6 σ27) h28 (by decide +kernel) ?_
    refine sm_nms (fun σ29 => ?_)
    refine sm_b (l' := [(0, vr a1), (1, vr a2), (2, vi a3)]) (st' := [vr a1, vr (some (sZ σ27)), vr (some (sZ σ27))]) (pc' := 41) [(.dup, vi 0, 40), (.aload_n 0, vi 0, 41)] (by decide +kernel) rfl rfl ?_
    refine sm_st [vr (some p1), vr (some (sZ σ27)), vr (some (sZ σ27))] (by rw [h2] <;> rfl) ?_
    refine sm_gd (fun h30 => ?_)
    refine sm_g (k := 6) (x := vr (sR σ29 86 p1)) cd5 rfl h30 rfl q346 rfl (by decide +kernel) ?_
    refine sm_de (fun p31 h32 => ?_)
    refine sm_st [vr (some p31), vr (some (sZ σ27)), vr (some (sZ σ27))] (by rw [h32] <;> rfl) ?_
    refine sm_gd (fun h33 => ?_)
    refine sm_gN (k := 1) (x := vr (sR σ29 17 p31)) cd1 rfl h33 rfl q239 rfl (by decide +kernel) ?_
    refine sm_de (fun p34 h35 => ?_)
    refine sm_st [vr (some p34), vr (some (sZ σ27)), vr (some (sZ σ27))] (by rw [h35] <;> rfl) ?_
    refine sm_gd (fun h36 => ?_)
    refine sm_cv (N := mJ2_size) (d' := d - 1) (fun r => (some (vi r))) (fun _ => σ29) (fun _ => τ) [] [vr (some (sZ σ27)), vr (some (sZ σ27))] rfl (by decide +kernel) q518 q519 q520 (Or.inl ⟨rfl, q521⟩) (show okN yJ2_size 0 = true by decide +kernel) (fun H hR => hR.rvL G.1 h36) rfl rfl (by omega) rfl (fun Q' => l_size_ok G (d - 1) (by omega) p34 σ29 Q') (fun y37 => ?_)
    refine sm_b (l' := [(0, vr a1), (1, vr a2), (2, vi a3)]) (st' := [vr a1, vi y37, vr (some (sZ σ27)), vr (some (sZ σ27))]) (pc' := 51) [(.aload_n 0, vi 0, 51)] (by decide +kernel) rfl rfl ?_
    refine sm_st [vr (some p1), vi y37, vr (some (sZ σ27)), vr (some (sZ σ27))] (by rw [h2] <;> rfl) ?_
    refine sm_cvT (N := mX5_name) (d' := d - 1) (fun r : Option Nat => some (vr r)) (fun z => (none, z)) [] [vi y37, vr (some (sZ σ27)), vr (some (sZ σ27))] rfl (by decide +kernel) q524 q526 qs9 (Or.inl ⟨rfl, q527⟩) (show okN yX5_name 0 = true by decide +kernel) (fun H hR => hR.rv G.1 cd5 rfl h30) rfl rfl (by omega) rfl (fun Q' => sr_name_ok G (d - 1) (by omega) p1 σ29 Q') (fun z h => hRET _ h) (fun y39 σ40 => ?_)
    refine sm_b (l' := [(0, vr a1), (1, vr a2), (2, vi a3)]) (st' := [vr a2, vr y39, vi y37, vr (some (sZ σ27)), vr (some (sZ σ27))]) (pc' := 55) [(.aload_n 1, vi 0, 55)] (by decide +kernel) rfl rfl ?_
    refine sm_ci (N := mX6_init) (d' := d - 1) [vi y37, vr y39, vr a2] [vr (some (sZ σ27))] rfl (by decide +kernel) q542 q543 rfl q544 rfl rfl (show okN yX6_init 3 = true by decide +kernel) rfl rfl (by omega) rfl (fun Q' => mt_init_ok G (d - 1) (by omega) (sZ σ27) y37 y39 a2 σ40 Q') (fun y41 => ?_)
    refine sm_b (l' := [(0, vr a1), (1, vr a2), (2, vi a3), (3, vr (some (sZ σ27)))]) (st' := [vr a1]) (pc' := 60) [(.astore_n 3, vi 0, 59), (.aload_n 0, vi 0, 60)] (by decide +kernel) rfl rfl ?_
    refine sm_st [vr (some p1)] (by rw [h2] <;> rfl) ?_
    refine sm_gd (fun h42 => ?_)
    refine sm_g (k := 6) (x := vr (sR y41 86 p1)) cd5 rfl h42 rfl q346 rfl (by decide +kernel) ?_
    refine sm_de (fun p43 h44 => ?_)
    refine sm_st [vr (some p43)] (by rw [h44] <;> rfl) ?_
    refine sm_gd (fun h45 => ?_)
    refine sm_gN (k := 1) (x := vr (sR y41 17 p43)) cd1 rfl h45 rfl q239 rfl (by decide +kernel) ?_
    refine sm_b (l' := [(0, vr a1), (1, vr a2), (2, vi a3), (3, vr (some (sZ σ27)))]) (st' := [vr (some (sZ σ27)), vr (sR y41 17 p43)]) (pc' := 67) [(.aload_n 3, vi 0, 67)] (by decide +kernel) rfl rfl ?_
    refine sm_de (fun p46 h47 => ?_)
    refine sm_st [vr (some (sZ σ27)), vr (some p46)] (by rw [h47] <;> rfl) ?_
    refine sm_gd (fun h48 => ?_)
    refine sm_cv (N := mJ2_add) (d' := d - 1) (fun r => (some (vi r.1))) (fun r => r.2) (fun _ => τ) [vr (some (sZ σ27))] [] rfl (by decide +kernel) q592 q593 q594 (Or.inl ⟨rfl, q595⟩) (show okN yJ2_add 1 = true by decide +kernel) (fun H hR => hR.rvL G.1 h48) rfl rfl (by omega) rfl (fun Q' => l_add_ok G (d - 1) (by omega) p46 (some (sZ σ27)) y41 Q') (fun y49 => ?_)
    refine sm_b (l' := [(0, vr a1), (1, vr a2), (2, vi a3), (3, vr (some (sZ σ27)))]) (st' := [vr a2]) (pc' := 72) [(.pop, vi 0, 71), (.aload_n 1, vi 0, 72)] (by decide +kernel) rfl rfl ?_
    refine sm_de (fun p50 h51 => ?_)
    refine sm_st [vr (some p50)] (by rw [h51] <;> rfl) ?_
    refine sm_gd (fun h52 => ?_)
    refine sm_gN (k := 1) (x := vr (sR y49.2 33 p50)) cd2 rfl h52 rfl q216 rfl (by decide +kernel) ?_
    refine sm_b (l' := [(0, vr a1), (1, vr a2), (2, vi a3), (3, vr (some (sZ σ27)))]) (st' := [vr (some (sZ σ27)), vr (sR y49.2 33 p50)]) (pc' := 76) [(.aload_n 3, vi 0, 76)] (by decide +kernel) rfl rfl ?_
    refine sm_de (fun p53 h54 => ?_)
    refine sm_st [vr (some (sZ σ27)), vr (some p53)] (by rw [h54] <;> rfl) ?_
    refine sm_gd (fun h55 => ?_)
    refine sm_cv (N := mJ2_add) (d' := d - 1) (fun r => (some (vi r.1))) (fun r => r.2) (fun _ => τ) [vr (some (sZ σ27))] [] rfl (by decide +kernel) q592 q593 q594 (Or.inl ⟨rfl, q595⟩) (show okN yJ2_add 1 = true by decide +kernel) (fun H hR => hR.rvL G.1 h55) rfl rfl (by omega) rfl (fun Q' => l_add_ok G (d - 1) (by omega) p53 (some (sZ σ27)) y49.2 Q') (fun y56 => ?_)
    refine sm_b (l' := [(0, vr a1), (1, vr a2), (2, vi a3), (3, vr (some (sZ σ27)))]) (st' := [vr a2]) (pc' := 81) [(.pop, vi 0, 80), (.aload_n 1, vi 0, 81)] (by decide +kernel) rfl rfl ?_
    refine sm_st [vr (some p50)] (by rw [h51] <;> rfl) ?_
    refine sm_gd (fun h57 => ?_)
    refine sm_gN (k := 3) (x := vr (sR y56.2 35 p50)) cd2 rfl h57 rfl q221 rfl (by decide +kernel) ?_
    refine sm_b (l' := [(0, vr a1), (1, vr a2), (2, vi a3), (3, vr (some (sZ σ27)))]) (st' := [vr (some (sZ σ27)), vr (sR y56.2 35 p50)]) (pc' := 85) [(.aload_n 3, vi 0, 85)] (by decide +kernel) rfl rfl ?_
    refine sm_gd (fun h58 => ?_)
    refine sm_gN (k := 1) (x := vr (sR y56.2 97 (sZ σ27))) cd6 rfl h58 rfl q556 rfl (by decide +kernel) ?_
    refine sm_de (fun p59 h60 => ?_)
    refine sm_st [vr (sR y56.2 97 (sZ σ27)), vr (some p59)] (by rw [h60] <;> rfl) ?_
    refine sm_gd (fun h61 => ?_)
    refine sm_cv (N := mJ2_add) (d' := d - 1) (fun r => (some (vi r.1))) (fun r => r.2) (fun _ => τ) [vr (sR y56.2 97 (sZ σ27))] [] rfl (by decide +kernel) q592 q593 q594 (Or.inl ⟨rfl, q595⟩) (show okN yJ2_add 1 = true by decide +kernel) (fun H hR => hR.rvL G.1 h61) rfl rfl (by omega) rfl (fun Q' => l_add_ok G (d - 1) (by omega) p59 (sR y56.2 97 (sZ σ27)) y56.2 Q') (fun y62 => ?_)
    refine sm_b (l' := [(0, vr a1), (1, vr a2), (2, vi a3), (3, vr (some (sZ σ27)))]) (st' := [vi 123, vr a1]) (pc' := 95) [(.pop, vi 0, 92), (.aload_n 0, vi 0, 93), (.bipush 123, vi 123, 95)] (by decide +kernel) rfl rfl ?_
    refine sm_st [vi 123, vr (some p1)] (by rw [h2] <;> rfl) ?_
    refine sm_gd (fun h63 => ?_)
    refine sm_cvT (N := mX5_sign) (d' := d - 1) (fun _ : Unit => none) (fun z => (none, z)) [vi 123] [] rfl (by decide +kernel) q505 q507 qs7 (Or.inl ⟨rfl, q508⟩) (show okN yX5_sign 1 = true by decide +kernel) (fun H hR => hR.rv G.1 cd5 rfl h63) rfl rfl (by omega) rfl (fun Q' => sr_sign_ok G (d - 1) (by omega) p1 123 y62.2 Q') (fun z h => hRET _ h) (fun y65 σ66 => ?_)
    refine sm_bindS (fun (v67 : ST) => V g mX5_message d 192 [(0, vr a1)] [] v67 τ Q) (fun v67 => ?_) (fun K68 o70 j69 => ?_)
    · refine sm_b (l' := [(0, vr a1)]) (st' := [vr a1]) (pc' := 193) [(.aload_n 0, vi 0, 193)] (by decide +kernel) rfl rfl ?_
      refine sm_st [vr (some p1)] (by rw [h2] <;> rfl) ?_
      refine sm_gd (fun h71 => ?_)
      refine sm_cv (N := mX5_next) (d' := d - 1) (fun r => none) (fun r => r) (fun _ => τ) [] [] rfl (by decide +kernel) q366 q368 qs1 (Or.inl ⟨rfl, q369⟩) (show okN yX5_next 0 = true by decide +kernel) (fun H hR => hR.rv G.1 cd5 rfl h71) rfl rfl (by omega) rfl (fun Q' => sr_next_ok G (d - 1) (by omega) p1 v67 Q') (fun y72 => ?_)
      exact sm_vret rfl (by decide +kernel) (fun h => hRET _ h)
    · refine sm_pick [0, 2, 3] (l' := [(0, vr a1), (2, vi a3), (3, vr (some (sZ σ27)))]) rfl ?_
      exact sr_message_L98_ok G rec hrec d hd1 hd2 a1 a3 (sZ σ27)  (fun r h => hRET _ (o70 _ h)) (fun _ h => j69 _ h) FU σ66
  · refine sm_gd (fun h7 => ?_)
    refine sm_gd (fun h9 => ?_)
    refine sm_gd (fun h10 => ?_)
    refine sm_gd (fun h12 => ?_)
    refine sm_gd (fun h13 => ?_)
    refine sm_gd (fun h15 => ?_)
    refine sm_gd (fun h16 => ?_)
    refine sm_gd (fun h17 => ?_)
    refine sm_case (V g mX5_message d 32 [(0, vr a1), (1, vr a2), (2, vi a3)] [vr a1] σ6 τ Q) (V g mX5_message d 28 [(0, vr a1), (1, vr a2), (2, vi a3)] [vr a1] σ6 τ Q) ?_ ?_ (fun f143 p144 n145 => ?_)
    · refine sm_b (l' := [(0, vr a1), (1, vr a2), (2, vi a3)]) (st' := [vi 0, vr a1]) (pc' := 33) [(.iconst 0, vi 0, 33)] (by decide +kernel) rfl rfl ?_
      exact sm_leaf (fun h => j22 _ h)
    · refine sm_b (l' := [(0, vr a1), (1, vr a2), (2, vi a3)]) (st' := [vi 1, vr a1]) (pc' := 33) [(.iconst 1, vi 1, 29), (.goto 4, vi 0, 33)] (by decide +kernel) rfl rfl ?_
      exact sm_leaf (fun h => j22 _ h)
    refine sm_icmp_gt (off := 22) (tgt := 32) h7 (by decide) (by decide +kernel) (fun c146 => ?_) (fun c146 => ?_)
    · exact p144 (Or.inl c146)
    · have w8 : ¬ (6 < a3) := c146
      refine sm_b (l' := [(0, vr a1), (1, vr a2), (2, vi a3)]) (st' := [vr a1, vr a1]) (pc' := 14) [(.aload_n 0, vi 0, 14)] (by decide +kernel) rfl rfl ?_
      refine sm_st [vr (some p1), vr a1] (by rw [h2] <;> rfl) ?_
      refine sm_g (k := 6) (x := vr (sR σ6 86 p1)) cd5 rfl (h9 w8) rfl q346 rfl (by decide +kernel) ?_
      have q11 := (ad_some (h10 w8))
      refine sm_st [vr (some (ad (sR σ6 86 p1))), vr a1] (congrArg (fun z => [vr z, vr a1]) q11) ?_
      refine sm_gN (k := 1) (x := vr (sR σ6 17 (ad (sR σ6 86 p1)))) cd1 rfl (h12 w8) rfl q239 rfl (by decide +kernel) ?_
      have q14 := (ad_some (h13 w8))
      refine sm_st [vr (some (ad (sR σ6 17 (ad (sR σ6 86 p1))))), vr a1] (congrArg (fun z => [vr z, vr a1]) q14) ?_
      refine sm_cvp (N := mJ2_size) (d' := d - 1) (fun r => (some (vi r))) (some (vi (vv (l_size (ad (sR σ6 17 (ad (sR σ6 86 p1)))) σ6)))) (h16 w8) (fun y h => by rw [vv_some h]) [] [vr a1] rfl (by decide +kernel) q518 q519 q520 (Or.inl ⟨rfl, q521⟩) (show okN yJ2_size 0 = true by decide +kernel) (fun H hR => hR.rvL G.1 (h15 w8)) rfl rfl (by omega) rfl (fun Q' => l_size_ok G (d - 1) (by omega) (ad (sR σ6 17 (ad (sR σ6 86 p1)))) σ6 Q') ?_
      refine sm_b (l' := [(0, vr a1), (1, vr a2), (2, vi a3)]) (st' := [vi 10, vi (vv (l_size (ad (sR σ6 17 (ad (sR σ6 86 p1)))) σ6)), vr a1]) (pc' := 25) [(.bipush 10, vi 10, 25)] (by decide +kernel) rfl rfl ?_
      refine sm_icmp_ge (off := 7) (tgt := 32) (h17 w8) (by decide) (by decide +kernel) (fun c147 => ?_) (fun c147 => ?_)
      · exact p144 (Or.inr c147)
      · exact n145 (fun q => q.elim c146 c147)
def sr_message (bb : Nat × Nat) : Nat → Option Nat → Option Nat → Int → ST → Option (Option Unit × ST)
  | 0 => fun _ _ _ _ => none
  | n + 1 => fun a1 a2 a3 σ => sr_messageb bb (sr_message bb n) a1 a2 a3 σ
set_option maxHeartbeats 4000000 in
theorem sr_message_ok {g : GE} (G : GG g) (n : Nat) : ∀ (d : Nat), 11 + 1 * n ≤ d → ∀ {τ : TT} (a1 : Option Nat) (a2 : Option Nat) (a3 : Int) (σ : ST) (Q : VQ), Sm (V g mX5_message d 0 [(0, vr a1), (1, vr a2), (2, vi a3)] [] σ τ Q) (sr_message (gRm g) n a1 a2 a3 σ) (fun r => tQ Q τ (fun _ : Unit => none) r) := by
  induction n with
  | zero => intro d hd τ a1 a2 a3 σ Q; exact sm_none
  | succ n ih =>
    intro d hd τ a1 a2 a3 σ Q
    exact sr_messageb_ok G (D := 11 + 1 * n) (sr_message (gRm g) n) ih d (by omega) (by omega) a1 a2 a3 σ Q
def sr_read_L40 (bb : Nat × Nat) (u0 : Nat) : Nat → ST → Option ((Option (Option Nat) × ST) ⊕ (ST))
  | 0, _ => none
  | n + 1, σ => gd (sc σ u0 = 6) (gd (rg (sI σ 83 u0)) (if (sI σ 83 u0) = 0 then (some (Sum.inr σ)) else (Option.bind (sr_isWord u0 30 σ) fun y38 => gd (rg y38) (if y38 = 0 then (Option.bind (sr_isWord u0 31 σ) fun y47 => gd (rg y47) (if y47 = 0 then (Option.bind (s_fail bb σ) (tB (fun z => Sum.inl ((none, z))) fun y55 σ56 => sr_read_L40 bb u0 n σ56)) else (Option.bind (sR σ 86 u0) fun p57 => gd (sc σ p57 = 2) (Option.bind (sr_enumeration bb u0 (sR σ 16 p57) σ) (tB (fun z => Sum.inl ((none, z))) fun y61 σ62 => sr_read_L40 bb u0 n σ62))))) else (Option.bind (sR σ 86 u0) fun p67 => gd (sc σ p67 = 2) (Option.bind (sr_message bb 12 (some u0) (sR σ 16 p67) 1 σ) (tB (fun z => Sum.inl ((none, z))) fun y71 σ72 => sr_read_L40 bb u0 n σ72)))))))
def sr_read (bb : Nat × Nat) (a0 : Nat) (σ : ST) : Option (Option (Option Nat) × ST) := gd (sc σ a0 = 6) (Option.bind (sr_next bb a0 σ) fun y2 => gd (sc y2 a0 = 6) (Option.bind (sr_word bb a0 28 y2) (tB (fun z => (none, z)) fun y5 σ6 => gd (sc σ6 a0 = 6) (Option.bind (sr_sign bb a0 61 σ6) (tB (fun z => (none, z)) fun y9 σ10 => gd (sc σ10 a0 = 6) (Option.bind (sr_sign bb a0 34 σ10) (tB (fun z => (none, z)) fun y13 σ14 => gd (sc σ14 a0 = 6) (Option.bind (sr_word bb a0 29 σ14) (tB (fun z => (none, z)) fun y17 σ18 => gd (sc σ18 a0 = 6) (Option.bind (sr_sign bb a0 34 σ18) (tB (fun z => (none, z)) fun y21 σ22 => gd (sc σ22 a0 = 6) (Option.bind (sr_sign bb a0 59 σ22) (tB (fun z => (none, z)) fun y25 σ26 => Option.bind (sr_read_L40 bb a0 FU σ26) (Sum.elim some fun (v27 : ST) => gd (sc v27 a0 = 6) (some ((some (sR v27 86 a0), v27)))))))))))))))))
set_option maxHeartbeats 4000000 in
theorem sr_read_L40_ok {g : GE} (G : GG g) {τ : TT} {Q : VQ} (d : Nat) (hd1 : 24 ≤ d) (u0 : Nat)  {K : (Option (Option Nat) × ST) ⊕ (ST) → Prop} (hRET : ∀ r : Option (Option Nat) × ST, K (Sum.inl r) → tQ Q τ (fun r : Option Nat => some (vr r)) r) (hE100 : ∀ v32 : ST, K (Sum.inr v32) → V g mX5_read d 100 [(0, vr (some u0))] [] v32 τ Q) : ∀ (n : Nat) (σ : ST), Sm (V g mX5_read d 40 [(0, vr (some u0))] [] σ τ Q) (sr_read_L40 (gRm g) u0 n σ) K := by
  intro n
  induction n with
  | zero => intro σ; exact sm_none
  | succ n ih =>
    intro σ
    rw [sr_read_L40.eq_2]
    refine sm_b (l' := [(0, vr (some u0))]) (st' := [vr (some u0)]) (pc' := 41) [(.aload_n 0, vi 0, 41)] (by decide +kernel) rfl rfl ?_
    refine sm_gd (fun h33 => ?_)
    refine sm_g (k := 3) (x := vi (sI σ 83 u0)) cd5 rfl h33 rfl q343 rfl (by decide +kernel) ?_
    refine sm_gd (fun h34 => ?_)
    refine sm_case (V g mX5_read d 100 [(0, vr (some u0))] [] σ τ Q) (V g mX5_read d 47 [(0, vr (some u0))] [] σ τ Q) ?_ ?_ (fun f77 p78 n79 => ?_)
    · exact sm_leaf (fun h => hE100 _ h)
    · refine sm_b (l' := [(0, vr (some u0))]) (st' := [vr (some u0)]) (pc' := 48) [(.aload_n 0, vi 0, 48)] (by decide +kernel) rfl rfl ?_
      refine sm_str (k := 30) G rfl (by decide +kernel) ?_
      refine sm_cv (N := mX5_isWord) (d' := d - 1) (fun r => (some (vi r))) (fun _ => σ) (fun _ => τ) [vr (some (gK g 30))] [] rfl (by decide +kernel) q385 q387 qs4 (Or.inl ⟨rfl, q388⟩) (show okN yX5_isWord 1 = true by decide +kernel) (fun H hR => hR.rv G.1 cd5 rfl h33) rfl rfl (by omega) rfl (fun Q' => sr_isWord_ok G (d - 1) (by omega) u0 30 σ Q') (fun y38 => ?_)
      refine sm_gd (fun h39 => ?_)
      refine sm_case (V g mX5_read d 71 [(0, vr (some u0))] [] σ τ Q) (V g mX5_read d 56 [(0, vr (some u0))] [] σ τ Q) ?_ ?_ (fun f73 p74 n75 => ?_)
      · refine sm_b (l' := [(0, vr (some u0))]) (st' := [vr (some u0)]) (pc' := 72) [(.aload_n 0, vi 0, 72)] (by decide +kernel) rfl rfl ?_
        refine sm_str (k := 31) G rfl (by decide +kernel) ?_
        refine sm_cv (N := mX5_isWord) (d' := d - 1) (fun r => (some (vi r))) (fun _ => σ) (fun _ => τ) [vr (some (gK g 31))] [] rfl (by decide +kernel) q385 q387 qs4 (Or.inl ⟨rfl, q388⟩) (show okN yX5_isWord 1 = true by decide +kernel) (fun H hR => hR.rv G.1 cd5 rfl h33) rfl rfl (by omega) rfl (fun Q' => sr_isWord_ok G (d - 1) (by omega) u0 31 σ Q') (fun y47 => ?_)
        refine sm_gd (fun h48 => ?_)
        refine sm_case (V g mX5_read d 94 [(0, vr (some u0))] [] σ τ Q) (V g mX5_read d 80 [(0, vr (some u0))] [] σ τ Q) ?_ ?_ (fun f63 p64 n65 => ?_)
        · refine sm_csTE (N := mX5_fail) (d' := d - 1) (fun _ : Unit => none) (fun z => Sum.inl ((none, z))) [] [] rfl (by decide +kernel) q441 q442 q140 (Or.inl ⟨rfl, q443⟩) (show okN yX5_fail 0 = true by decide +kernel) rfl rfl (by omega) rfl (fun Q' => s_fail_ok G (d - 1) (by omega) σ Q') (fun z h => hRET _ h) (fun y55 σ56 => ?_)
          refine sm_b (l' := [(0, vr (some u0))]) (st' := []) (pc' := 40) [(.goto (-57), vi 0, 40)] (by decide +kernel) rfl rfl ?_
          exact ih σ56
        · refine sm_b (l' := [(0, vr (some u0))]) (st' := [vr (some u0), vr (some u0)]) (pc' := 82) [(.aload_n 0, vi 0, 81), (.aload_n 0, vi 0, 82)] (by decide +kernel) rfl rfl ?_
          refine sm_g (k := 6) (x := vr (sR σ 86 u0)) cd5 rfl h33 rfl q346 rfl (by decide +kernel) ?_
          refine sm_de (fun p57 h58 => ?_)
          refine sm_st [vr (some p57), vr (some u0)] (by rw [h58] <;> rfl) ?_
          refine sm_gd (fun h59 => ?_)
          refine sm_gN (k := 0) (x := vr (sR σ 16 p57)) cd1 rfl h59 rfl q235 rfl (by decide +kernel) ?_
          refine sm_cvT (N := mX5_enumeration) (d' := d - 1) (fun _ : Unit => none) (fun z => Sum.inl ((none, z))) [vr (sR σ 16 p57)] [] rfl (by decide +kernel) q653 q655 qs13 (Or.inl ⟨rfl, q656⟩) (show okN yX5_enumeration 1 = true by decide +kernel) (fun H hR => hR.rv G.1 cd5 rfl h33) rfl rfl (by omega) rfl (fun Q' => sr_enumeration_ok G (d - 1) (by omega) u0 (sR σ 16 p57) σ Q') (fun z h => hRET _ h) (fun y61 σ62 => ?_)
          refine sm_b (l' := [(0, vr (some u0))]) (st' := []) (pc' := 40) [(.goto (-51), vi 0, 40)] (by decide +kernel) rfl rfl ?_
          exact ih σ62
        refine sm_if_eq (off := 17) (tgt := 94) h48 (by decide +kernel) (fun c66 => ?_) (fun c66 => ?_)
        · exact p64 c66
        · exact n65 c66
      · refine sm_b (l' := [(0, vr (some u0))]) (st' := [vr (some u0), vr (some u0)]) (pc' := 58) [(.aload_n 0, vi 0, 57), (.aload_n 0, vi 0, 58)] (by decide +kernel) rfl rfl ?_
        refine sm_g (k := 6) (x := vr (sR σ 86 u0)) cd5 rfl h33 rfl q346 rfl (by decide +kernel) ?_
        refine sm_de (fun p67 h68 => ?_)
        refine sm_st [vr (some p67), vr (some u0)] (by rw [h68] <;> rfl) ?_
        refine sm_gd (fun h69 => ?_)
        refine sm_gN (k := 0) (x := vr (sR σ 16 p67)) cd1 rfl h69 rfl q235 rfl (by decide +kernel) ?_
        refine sm_b (l' := [(0, vr (some u0))]) (st' := [vi 1, vr (sR σ 16 p67), vr (some u0)]) (pc' := 65) [(.iconst 1, vi 1, 65)] (by decide +kernel) rfl rfl ?_
        refine sm_csT (N := mX5_message) (d' := d - 1) (fun _ : Unit => none) (fun z => Sum.inl ((none, z))) [vr (some u0), vr (sR σ 16 p67), vi 1] [] rfl (by decide +kernel) q515 q516 q140 (Or.inl ⟨rfl, q517⟩) (show okN yX5_message 3 = true by decide +kernel) rfl rfl (by omega) rfl (fun Q' => sr_message_ok G 12 (d - 1) (by omega) (some u0) (sR σ 16 p67) 1 σ Q') (fun z h => hRET _ h) (fun y71 σ72 => ?_)
        refine sm_b (l' := [(0, vr (some u0))]) (st' := []) (pc' := 40) [(.goto (-28), vi 0, 40)] (by decide +kernel) rfl rfl ?_
        exact ih σ72
      refine sm_if_eq (off := 18) (tgt := 71) h39 (by decide +kernel) (fun c76 => ?_) (fun c76 => ?_)
      · exact p74 c76
      · exact n75 c76
    refine sm_if_eq (off := 56) (tgt := 100) h34 (by decide +kernel) (fun c80 => ?_) (fun c80 => ?_)
    · exact p78 c80
    · exact n79 c80
set_option maxHeartbeats 4000000 in
theorem sr_read_ok {g : GE} (G : GG g) {τ : TT} (d : Nat) (hd1 : 24 ≤ d) (a0 : Nat)  (σ : ST) (Q : VQ) : Sm (V g mX5_read d 0 [(0, vr (some a0))] [] σ τ Q) (sr_read (gRm g) a0 σ) (fun r => tQ Q τ (fun r : Option Nat => some (vr r)) r) := by
  unfold sr_read
  refine sm_top (fun K hRET => ?_)
  refine sm_b (l' := [(0, vr (some a0))]) (st' := [vr (some a0)]) (pc' := 1) [(.aload_n 0, vi 0, 1)] (by decide +kernel) rfl rfl ?_
  refine sm_gd (fun h1 => ?_)
  refine sm_cv (N := mX5_next) (d' := d - 1) (fun r => none) (fun r => r) (fun _ => τ) [] [] rfl (by decide +kernel) q366 q368 qs1 (Or.inl ⟨rfl, q369⟩) (show okN yX5_next 0 = true by decide +kernel) (fun H hR => hR.rv G.1 cd5 rfl h1) rfl rfl (by omega) rfl (fun Q' => sr_next_ok G (d - 1) (by omega) a0 σ Q') (fun y2 => ?_)
  refine sm_b (l' := [(0, vr (some a0))]) (st' := [vr (some a0)]) (pc' := 5) [(.aload_n 0, vi 0, 5)] (by decide +kernel) rfl rfl ?_
  refine sm_str (k := 28) G rfl (by decide +kernel) ?_
  refine sm_gd (fun h3 => ?_)
  refine sm_cvT (N := mX5_word) (d' := d - 1) (fun _ : Unit => none) (fun z => (none, z)) [vr (some (gK g 28))] [] rfl (by decide +kernel) q381 q383 qs3 (Or.inl ⟨rfl, q384⟩) (show okN yX5_word 1 = true by decide +kernel) (fun H hR => hR.rv G.1 cd5 rfl h3) rfl rfl (by omega) rfl (fun Q' => sr_word_ok G (d - 1) (by omega) a0 28 y2 Q') (fun z h => hRET _ h) (fun y5 σ6 => ?_)
  refine sm_b (l' := [(0, vr (some a0))]) (st' := [vi 61, vr (some a0)]) (pc' := 13) [(.aload_n 0, vi 0, 11), (.bipush 61, vi 61, 13)] (by decide +kernel) rfl rfl ?_
  refine sm_gd (fun h7 => ?_)
  refine sm_cvT (N := mX5_sign) (d' := d - 1) (fun _ : Unit => none) (fun z => (none, z)) [vi 61] [] rfl (by decide +kernel) q505 q507 qs7 (Or.inl ⟨rfl, q508⟩) (show okN yX5_sign 1 = true by decide +kernel) (fun H hR => hR.rv G.1 cd5 rfl h7) rfl rfl (by omega) rfl (fun Q' => sr_sign_ok G (d - 1) (by omega) a0 61 σ6 Q') (fun z h => hRET _ h) (fun y9 σ10 => ?_)
  refine sm_b (l' := [(0, vr (some a0))]) (st' := [vi 34, vr (some a0)]) (pc' := 19) [(.aload_n 0, vi 0, 17), (.bipush 34, vi 34, 19)] (by decide +kernel) rfl rfl ?_
  refine sm_gd (fun h11 => ?_)
  refine sm_cvT (N := mX5_sign) (d' := d - 1) (fun _ : Unit => none) (fun z => (none, z)) [vi 34] [] rfl (by decide +kernel) q505 q507 qs7 (Or.inl ⟨rfl, q508⟩) (show okN yX5_sign 1 = true by decide +kernel) (fun H hR => hR.rv G.1 cd5 rfl h11) rfl rfl (by omega) rfl (fun Q' => sr_sign_ok G (d - 1) (by omega) a0 34 σ10 Q') (fun z h => hRET _ h) (fun y13 σ14 => ?_)
  refine sm_b (l' := [(0, vr (some a0))]) (st' := [vr (some a0)]) (pc' := 23) [(.aload_n 0, vi 0, 23)] (by decide +kernel) rfl rfl ?_
  refine sm_str (k := 29) G rfl (by decide +kernel) ?_
  refine sm_gd (fun h15 => ?_)
  refine sm_cvT (N := mX5_word) (d' := d - 1) (fun _ : Unit => none) (fun z => (none, z)) [vr (some (gK g 29))] [] rfl (by decide +kernel) q381 q383 qs3 (Or.inl ⟨rfl, q384⟩) (show okN yX5_word 1 = true by decide +kernel) (fun H hR => hR.rv G.1 cd5 rfl h15) rfl rfl (by omega) rfl (fun Q' => sr_word_ok G (d - 1) (by omega) a0 29 σ14 Q') (fun z h => hRET _ h) (fun y17 σ18 => ?_)
  refine sm_b (l' := [(0, vr (some a0))]) (st' := [vi 34, vr (some a0)]) (pc' := 31) [(.aload_n 0, vi 0, 29), (.bipush 34, vi 34, 31)] (by decide +kernel) rfl rfl ?_
  refine sm_gd (fun h19 => ?_)
  refine sm_cvT (N := mX5_sign) (d' := d - 1) (fun _ : Unit => none) (fun z => (none, z)) [vi 34] [] rfl (by decide +kernel) q505 q507 qs7 (Or.inl ⟨rfl, q508⟩) (show okN yX5_sign 1 = true by decide +kernel) (fun H hR => hR.rv G.1 cd5 rfl h19) rfl rfl (by omega) rfl (fun Q' => sr_sign_ok G (d - 1) (by omega) a0 34 σ18 Q') (fun z h => hRET _ h) (fun y21 σ22 => ?_)
  refine sm_b (l' := [(0, vr (some a0))]) (st' := [vi 59, vr (some a0)]) (pc' := 37) [(.aload_n 0, vi 0, 35), (.bipush 59, vi 59, 37)] (by decide +kernel) rfl rfl ?_
  refine sm_gd (fun h23 => ?_)
  refine sm_cvT (N := mX5_sign) (d' := d - 1) (fun _ : Unit => none) (fun z => (none, z)) [vi 59] [] rfl (by decide +kernel) q505 q507 qs7 (Or.inl ⟨rfl, q508⟩) (show okN yX5_sign 1 = true by decide +kernel) (fun H hR => hR.rv G.1 cd5 rfl h23) rfl rfl (by omega) rfl (fun Q' => sr_sign_ok G (d - 1) (by omega) a0 59 σ22 Q') (fun z h => hRET _ h) (fun y25 σ26 => ?_)
  refine sm_bindS (fun (v27 : ST) => V g mX5_read d 100 [(0, vr (some a0))] [] v27 τ Q) (fun v27 => ?_) (fun K28 o30 j29 => ?_)
  · refine sm_b (l' := [(0, vr (some a0))]) (st' := [vr (some a0)]) (pc' := 101) [(.aload_n 0, vi 0, 101)] (by decide +kernel) rfl rfl ?_
    refine sm_gd (fun h31 => ?_)
    refine sm_g (k := 6) (x := vr (sR v27 86 a0)) cd5 rfl h31 rfl q346 rfl (by decide +kernel) ?_
    exact sm_aret rfl rfl (by decide +kernel) (fun h => hRET _ h)
  · exact sr_read_L40_ok G d hd1 a0  (fun r h => hRET _ (o30 _ h)) (fun _ h => j29 _ h) FU σ26
def ck_init (bb : Nat × Nat) (a0 : Nat) (a1 : Option Nat) (σ : ST) : Option (ST) := gd (sc σ a0 = 10) (nm (pR σ 144 a0 a1) fun σ2 => some σ2)
set_option maxHeartbeats 4000000 in
theorem ck_init_ok {g : GE} (G : GG g) {τ : TT} (d : Nat) (hd1 : 1 ≤ d) (a0 : Nat) (a1 : Option Nat)  (σ : ST) (Q : VQ) : Sm (V g mX9_init d 0 [(0, vr (some a0)), (1, vr a1)] [] σ τ Q) (ck_init (gRm g) a0 a1 σ) (fun r => Q.1 none r τ) := by
  unfold ck_init
  refine sm_top (fun K hRET => ?_)
  refine sm_b (l' := [(0, vr (some a0)), (1, vr a1)]) (st' := [vr (some a0)]) (pc' := 1) [(.aload_n 0, vi 0, 1)] (by decide +kernel) rfl rfl ?_
  refine sm_obj q818 (by omega) rfl (by decide +kernel) ?_
  refine sm_b (l' := [(0, vr (some a0)), (1, vr a1)]) (st' := [vr a1, vr (some a0)]) (pc' := 6) [(.aload_n 0, vi 0, 5), (.aload_n 1, vi 0, 6)] (by decide +kernel) rfl rfl ?_
  refine sm_gd (fun h1 => ?_)
  refine sm_pF (k := 0) (x := vr a1) cd9 rfl h1 rfl q819 rfl rfl rfl (nar_r _ rfl) (fit_r _ rfl) rfl (at_pR σ 144 a0 a1) (fp_144 σ a0 a1) (by decide +kernel) ?_
  refine sm_nms (fun σ2 => ?_)
  exact sm_vret rfl (by decide +kernel) (fun h => hRET _ h)
def ck_isTwice_L14 (u0 : Option Nat) (u2 : Int) (σ : ST) : Nat → Int → Int → Option (Int)
  | 0, _, _ => none
  | n + 1, w1, w3 => gd (rg w3) (gd (rg u2) (if u2 ≤ w3 then (some w1) else (Option.bind (gd (rg w1) (gd (w1 = 0 → ¬ u0 = none) (gd (w1 = 0 → sc σ (ad u0) = 16) (gd (w1 = 0 → ok (l_get (ad u0) u2 σ)) (gd (w1 = 0 → ¬ (vo (l_get (ad u0) u2 σ)) = none) (gd (w1 = 0 → sc σ (ad (vo (l_get (ad u0) u2 σ))) = 4) (gd (w1 = 0 → ok (l_get (ad u0) w3 σ)) (gd (w1 = 0 → ¬ (vo (l_get (ad u0) w3 σ)) = none) (gd (w1 = 0 → sc σ (ad (vo (l_get (ad u0) w3 σ))) = 4) (gd (w1 = 0 → ok (r_same (ad (vo (l_get (ad u0) u2 σ))) (some (ad (vo (l_get (ad u0) w3 σ)))) σ)) (gd (w1 = 0 → rg (vv (r_same (ad (vo (l_get (ad u0) u2 σ))) (some (ad (vo (l_get (ad u0) w3 σ)))) σ))) (if (w1 = 0) ∧ ((vv (r_same (ad (vo (l_get (ad u0) u2 σ))) (some (ad (vo (l_get (ad u0) w3 σ)))) σ)) = 0) then (some 0) else (some 1))))))))))))) fun (v37 : Int) => ck_isTwice_L14 u0 u2 σ n v37 (w3 + 1))))
def ck_isTwice_L4 (u0 : Option Nat) (σ : ST) : Nat → Int → Int → Option (Int)
  | 0, _, _ => none
  | n + 1, w1, w2 => Option.bind u0 fun p1 => gd (sc σ p1 = 16) (Option.bind (l_size p1 σ) fun y4 => gd (rg w2) (gd (rg y4) (if y4 ≤ w2 then (gd (zb w1) (some w1)) else (Option.bind (ck_isTwice_L14 u0 w2 σ FU w1 0) fun (v10 : Int) => ck_isTwice_L4 u0 σ n v10 (w2 + 1)))))
def ck_isTwice (a1 : Option Nat) (σ : ST) : Option (Int) := ck_isTwice_L4 a1 σ FU 0 0
set_option maxHeartbeats 4000000 in
theorem ck_isTwice_L14_ok {g : GE} (G : GG g) {τ : TT} {Q : VQ} (d : Nat) (hd1 : 4 ≤ d) (u0 : Option Nat) (u2 : Int) (σ : ST)  {K : Int → Prop} (hE57 : ∀ v14 : Int, K (v14) → V g mX9_isTwice d 57 [(0, vr u0), (1, vi v14), (2, vi u2)] [] σ τ Q) : ∀ (n : Nat) (w1 : Int) (w3 : Int), Sm (V g mX9_isTwice d 14 [(0, vr u0), (1, vi w1), (2, vi u2), (3, vi w3)] [] σ τ Q) (ck_isTwice_L14 u0 u2 σ n w1 w3) K := by
  intro n
  induction n with
  | zero => intro w1 w3; exact sm_none
  | succ n ih =>
    intro w1 w3
    rw [ck_isTwice_L14.eq_2]
    refine sm_b (l' := [(0, vr u0), (1, vi w1), (2, vi u2), (3, vi w3)]) (st' := [vi u2, vi w3]) (pc' := 16) [(.iload_n 3, vi 0, 15), (.iload_n 2, vi 0, 16)] (by decide +kernel) rfl rfl ?_
    refine sm_gd (fun h15 => ?_)
    refine sm_gd (fun h16 => ?_)
    refine sm_case (V g mX9_isTwice d 57 [(0, vr u0), (1, vi w1), (2, vi u2), (3, vi w3)] [] σ τ Q) (V g mX9_isTwice d 19 [(0, vr u0), (1, vi w1), (2, vi u2), (3, vi w3)] [] σ τ Q) ?_ ?_ (fun f46 p47 n48 => ?_)
    · refine sm_pick [0, 1, 2] (l' := [(0, vr u0), (1, vi w1), (2, vi u2)]) rfl ?_
      exact sm_leaf (fun h => hE57 _ h)
    · refine sm_b (l' := [(0, vr u0), (1, vi w1), (2, vi u2), (3, vi w3)]) (st' := [vi w1]) (pc' := 20) [(.iload_n 1, vi 0, 20)] (by decide +kernel) rfl rfl ?_
      refine sm_bind1 (fun (v37 : Int) => V g mX9_isTwice d 50 [(0, vr u0), (2, vi u2), (3, vi w3)] [vi v37] σ τ Q) (fun v37 => ?_) (fun K38 j39 => ?_)
      · refine sm_b (l' := [(0, vr u0), (2, vi u2), (3, vi (w3 + 1)), (1, vi v37)]) (st' := []) (pc' := 14) [(.istore_n 1, vi 0, 51), (.iinc 3 1, vi 1, 54), (.goto (-40), vi 0, 14)] (by decide +kernel) rfl rfl ?_
        refine sm_pick [0, 3, 1, 2] (l' := [(0, vr u0), (1, vi v37), (2, vi u2), (3, vi (w3 + 1))]) rfl ?_
        exact ih v37 (w3 + 1)
      · refine sm_gd (fun h19 => ?_)
        refine sm_gd (fun h21 => ?_)
        refine sm_gd (fun h23 => ?_)
        refine sm_gd (fun h24 => ?_)
        refine sm_gd (fun h25 => ?_)
        refine sm_gd (fun h27 => ?_)
        refine sm_gd (fun h29 => ?_)
        refine sm_gd (fun h30 => ?_)
        refine sm_gd (fun h32 => ?_)
        refine sm_gd (fun h33 => ?_)
        refine sm_gd (fun h34 => ?_)
        refine sm_case (V g mX9_isTwice d 49 [(0, vr u0), (1, vi w1), (2, vi u2), (3, vi w3)] [] σ τ Q) (V g mX9_isTwice d 45 [(0, vr u0), (1, vi w1), (2, vi u2), (3, vi w3)] [] σ τ Q) ?_ ?_ (fun f41 p42 n43 => ?_)
        · refine sm_b (l' := [(0, vr u0), (1, vi w1), (2, vi u2), (3, vi w3)]) (st' := [vi 0]) (pc' := 50) [(.iconst 0, vi 0, 50)] (by decide +kernel) rfl rfl ?_
          refine sm_pick [0, 2, 3] (l' := [(0, vr u0), (2, vi u2), (3, vi w3)]) rfl ?_
          exact sm_leaf (fun h => j39 _ h)
        · refine sm_b (l' := [(0, vr u0), (1, vi w1), (2, vi u2), (3, vi w3)]) (st' := [vi 1]) (pc' := 50) [(.iconst 1, vi 1, 46), (.goto 4, vi 0, 50)] (by decide +kernel) rfl rfl ?_
          refine sm_pick [0, 2, 3] (l' := [(0, vr u0), (2, vi u2), (3, vi w3)]) rfl ?_
          exact sm_leaf (fun h => j39 _ h)
        refine sm_if_ne (off := 25) (tgt := 45) h19 (by decide +kernel) (fun c44 => ?_) (fun c44 => ?_)
        · exact n43 (fun q => c44 q.1)
        · have w20 : w1 = 0 := c44
          refine sm_b (l' := [(0, vr u0), (1, vi w1), (2, vi u2), (3, vi w3)]) (st' := [vi u2, vr u0]) (pc' := 25) [(.aload_n 0, vi 0, 24), (.iload_n 2, vi 0, 25)] (by decide +kernel) rfl rfl ?_
          have q22 := (ad_some (h21 w20))
          refine sm_st [vi u2, vr (some (ad u0))] (congrArg (fun z => [vi u2, vr z]) q22) ?_
          refine sm_cvp (N := mJ2_get) (d' := d - 1) (fun r => (some (vr r))) (some (vr (vo (l_get (ad u0) u2 σ)))) (h24 w20) (fun y h => by rw [vo_some h]) [vi u2] [] rfl (by decide +kernel) q835 q791 q792 (Or.inl ⟨rfl, q793⟩) (show okN yJ2_get 1 = true by decide +kernel) (fun H hR => hR.rvL G.1 (h23 w20)) rfl rfl (by omega) rfl (fun Q' => l_get_ok G (d - 1) (by omega) (ad u0) u2 σ Q') ?_
          have q26 := (ad_some (h25 w20))
          refine sm_st [vr (some (ad (vo (l_get (ad u0) u2 σ))))] (congrArg (fun z => [vr z]) q26) ?_
          refine sm_cast cd3 q836 (fun H hR => hR.rvR G.1 (h27 w20)) (by decide +kernel) ?_
          refine sm_b (l' := [(0, vr u0), (1, vi w1), (2, vi u2), (3, vi w3)]) (st' := [vi w3, vr u0, vr (some (ad (vo (l_get (ad u0) u2 σ))))]) (pc' := 33) [(.aload_n 0, vi 0, 32), (.iload_n 3, vi 0, 33)] (by decide +kernel) rfl rfl ?_
          have q28 := (ad_some (h21 w20))
          refine sm_st [vi w3, vr (some (ad u0)), vr (some (ad (vo (l_get (ad u0) u2 σ))))] (congrArg (fun z => [vi w3, vr z, vr (some (ad (vo (l_get (ad u0) u2 σ))))]) q28) ?_
          refine sm_cvp (N := mJ2_get) (d' := d - 1) (fun r => (some (vr r))) (some (vr (vo (l_get (ad u0) w3 σ)))) (h29 w20) (fun y h => by rw [vo_some h]) [vi w3] [vr (some (ad (vo (l_get (ad u0) u2 σ))))] rfl (by decide +kernel) q835 q791 q792 (Or.inl ⟨rfl, q793⟩) (show okN yJ2_get 1 = true by decide +kernel) (fun H hR => hR.rvL G.1 (h23 w20)) rfl rfl (by omega) rfl (fun Q' => l_get_ok G (d - 1) (by omega) (ad u0) w3 σ Q') ?_
          have q31 := (ad_some (h30 w20))
          refine sm_st [vr (some (ad (vo (l_get (ad u0) w3 σ)))), vr (some (ad (vo (l_get (ad u0) u2 σ))))] (congrArg (fun z => [vr z, vr (some (ad (vo (l_get (ad u0) u2 σ))))]) q31) ?_
          refine sm_cast cd3 q836 (fun H hR => hR.rvR G.1 (h32 w20)) (by decide +kernel) ?_
          refine sm_cvp (N := mX3_same) (d' := d - 1) (fun r => (some (vi r))) (some (vi (vv (r_same (ad (vo (l_get (ad u0) u2 σ))) (some (ad (vo (l_get (ad u0) w3 σ)))) σ)))) (h33 w20) (fun y h => by rw [vv_some h]) [vr (some (ad (vo (l_get (ad u0) w3 σ))))] [] rfl (by decide +kernel) q837 q838 q839 (Or.inl ⟨rfl, q840⟩) (show okN yX3_same 1 = true by decide +kernel) (fun H hR => hR.rvR G.1 (h27 w20)) rfl rfl (by omega) rfl (fun Q' => r_same_ok G (d - 1) (by omega) (ad (vo (l_get (ad u0) u2 σ))) (some (ad (vo (l_get (ad u0) w3 σ)))) σ Q') ?_
          refine sm_if_eq (off := 7) (tgt := 49) (h34 w20) (by decide +kernel) (fun c45 => ?_) (fun c45 => ?_)
          · exact p42 ⟨c44, c45⟩
          · exact n43 (fun q => c45 q.2)
    refine sm_icmp_ge (off := 41) (tgt := 57) h15 h16 (by decide +kernel) (fun c49 => ?_) (fun c49 => ?_)
    · exact p47 c49
    · exact n48 c49
set_option maxHeartbeats 4000000 in
theorem ck_isTwice_L4_ok {g : GE} (G : GG g) {τ : TT} {Q : VQ} (d : Nat) (hd1 : 4 ≤ d) (u0 : Option Nat) (σ : ST)  {K : Int → Prop} (hRET : ∀ r : Int, K (r) → Q.1 (some (vi r)) σ τ) : ∀ (n : Nat) (w1 : Int) (w2 : Int), Sm (V g mX9_isTwice d 4 [(0, vr u0), (1, vi w1), (2, vi w2)] [] σ τ Q) (ck_isTwice_L4 u0 σ n w1 w2) K := by
  intro n
  induction n with
  | zero => intro w1 w2; exact sm_none
  | succ n ih =>
    intro w1 w2
    rw [ck_isTwice_L4.eq_2]
    refine sm_b (l' := [(0, vr u0), (1, vi w1), (2, vi w2)]) (st' := [vr u0, vi w2]) (pc' := 6) [(.iload_n 2, vi 0, 5), (.aload_n 0, vi 0, 6)] (by decide +kernel) rfl rfl ?_
    refine sm_de (fun p1 h2 => ?_)
    refine sm_st [vr (some p1), vi w2] (by rw [h2] <;> rfl) ?_
    refine sm_gd (fun h3 => ?_)
    refine sm_cv (N := mJ2_size) (d' := d - 1) (fun r => (some (vi r))) (fun _ => σ) (fun _ => τ) [] [vi w2] rfl (by decide +kernel) q834 q519 q520 (Or.inl ⟨rfl, q521⟩) (show okN yJ2_size 0 = true by decide +kernel) (fun H hR => hR.rvL G.1 h3) rfl rfl (by omega) rfl (fun Q' => l_size_ok G (d - 1) (by omega) p1 σ Q') (fun y4 => ?_)
    refine sm_gd (fun h5 => ?_)
    refine sm_gd (fun h6 => ?_)
    refine sm_case (V g mX9_isTwice d 63 [(0, vr u0), (1, vi w1), (2, vi w2)] [] σ τ Q) (V g mX9_isTwice d 12 [(0, vr u0), (1, vi w1), (2, vi w2)] [] σ τ Q) ?_ ?_ (fun f50 p51 n52 => ?_)
    · refine sm_b (l' := [(0, vr u0), (1, vi w1), (2, vi w2)]) (st' := [vi w1]) (pc' := 64) [(.iload_n 1, vi 0, 64)] (by decide +kernel) rfl rfl ?_
      refine sm_gd (fun h9 => ?_)
      exact sm_zret rfl (by decide +kernel) h9 (fun h => hRET _ h)
    · refine sm_b (l' := [(0, vr u0), (1, vi w1), (2, vi w2), (3, vi 0)]) (st' := []) (pc' := 14) [(.iconst 0, vi 0, 13), (.istore_n 3, vi 0, 14)] (by decide +kernel) rfl rfl ?_
      refine sm_bind1 (fun (v10 : Int) => V g mX9_isTwice d 57 [(0, vr u0), (1, vi v10), (2, vi w2)] [] σ τ Q) (fun v10 => ?_) (fun K11 j12 => ?_)
      · refine sm_b (l' := [(0, vr u0), (1, vi v10), (2, vi (w2 + 1))]) (st' := []) (pc' := 4) [(.iinc 2 1, vi 1, 60), (.goto (-56), vi 0, 4)] (by decide +kernel) rfl rfl ?_
        exact ih v10 (w2 + 1)
      · exact ck_isTwice_L14_ok G d hd1 u0 w2 σ  (fun _ h => j12 _ h) FU w1 0
    refine sm_icmp_ge (off := 54) (tgt := 63) h5 h6 (by decide +kernel) (fun c53 => ?_) (fun c53 => ?_)
    · exact p51 c53
    · exact n52 c53
set_option maxHeartbeats 4000000 in
theorem ck_isTwice_ok {g : GE} (G : GG g) {τ : TT} (d : Nat) (hd1 : 4 ≤ d) (a1 : Option Nat)  (σ : ST) (Q : VQ) : Sm (V g mX9_isTwice d 0 [(0, vr a1)] [] σ τ Q) (ck_isTwice a1 σ) (fun r => Q.1 (some (vi r)) σ τ) := by
  unfold ck_isTwice
  refine sm_top (fun K hRET => ?_)
  refine sm_b (l' := [(0, vr a1), (1, vi 0), (2, vi 0)]) (st' := []) (pc' := 4) [(.iconst 0, vi 0, 1), (.istore_n 1, vi 0, 2), (.iconst 0, vi 0, 3), (.istore_n 2, vi 0, 4)] (by decide +kernel) rfl rfl ?_
  exact ck_isTwice_L4_ok G d hd1 a1 σ  (fun r h => hRET _ h) FU 0 0
