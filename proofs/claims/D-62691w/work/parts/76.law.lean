set_option maxRecDepth 100000
/-! THE LAW: its loop -/
abbrev mlaw : Mt := (x, code, 4, some .boolean, [])
/-- the script: an array of ints that was there before -/
def ScA (g : GE) (b L : Nat) (xs : Nat → Int) : Prop := b < gB g ∧ L ≤ 384 ∧ va_T .int b L (fun j => .int (Int32.ofInt (xs j))) (gA g) (gs g) (gs g).heap
def lawS (bb : Nat × Nat) (a0 : Nat) (xs : Nat → Int) (i : Int) (σ : ST) (τ : TT) : Option (Int × ST × TT) :=
  if iAnd (xs i.toNat) 15 = 0 then gd (sc σ a0 = 1) (Option.bind (ws_feed bb a0 (xs (i + 1).toNat) (xs (i + 2).toNat) (xs (i + 3).toNat) (xs (i + 4).toNat) (xs (i + 5).toNat) σ) fun y => Option.bind (m_feed (xs (i + 1).toNat) (xs (i + 2).toNat) (xs (i + 3).toNat) (xs (i + 4).toNat) (xs (i + 5).toNat) τ) fun z => gd (rg y.1 ∧ rg z.1) (some (if y.1 = z.1 then 1 else 0, y.2, z.2)))
  else if iAnd (xs i.toNat) 15 = 1 then gd (sc σ a0 = 1) (Option.bind (ws_end bb a0 (xs (i + 1).toNat) σ) fun y => Option.bind (m_end (xs (i + 1).toNat) τ) fun z => gd (rg y.1 ∧ rg z.1) (some (if y.1 = z.1 then 1 else 0, y.2, z.2)))
  else if iAnd (xs i.toNat) 15 = 2 then gd (sc σ a0 = 1) (Option.bind (ws_schema bb a0 σ) fun y => Option.bind (m_schema τ) fun z => gd (rg y.1 ∧ rg z.1) (some (if y.1 = z.1 then 1 else 0, y.2, z.2)))
  else if iAnd (xs i.toNat) 15 = 3 then gd (sc σ a0 = 1) (Option.bind (ws_count a0 (xs (i + 1).toNat) σ) fun y => Option.bind (m_count (xs (i + 1).toNat) τ) fun z => gd (rg y ∧ rg z.1) (some (if y = z.1 then 1 else 0, σ, z.2)))
  else if iAnd (xs i.toNat) 15 = 4 then gd (sc σ a0 = 1) (Option.bind (ws_field a0 (xs (i + 1).toNat) (xs (i + 2).toNat) σ) fun y => Option.bind (m_field (xs (i + 1).toNat) (xs (i + 2).toNat) τ) fun z => gd (rg y ∧ rg z.1) (some (if y = z.1 then 1 else 0, σ, z.2)))
  else if iAnd (xs i.toNat) 15 = 5 then gd (sc σ a0 = 1) (Option.bind (ws_letter a0 (xs (i + 1).toNat) (xs (i + 2).toNat) σ) fun y => Option.bind (m_letter (xs (i + 1).toNat) (xs (i + 2).toNat) τ) fun z => gd (rg y ∧ rg z.1) (some (if y = z.1 then 1 else 0, σ, z.2)))
  else if iAnd (xs i.toNat) 15 = 6 then gd (sc σ a0 = 1) (Option.bind (ws_toJson bb a0 (xs (i + 1).toNat) σ) fun y => Option.bind (m_toJson (xs (i + 1).toNat) τ) fun z => gd (rg y.1 ∧ rg z.1) (some (if y.1 = z.1 then 1 else 0, y.2, z.2)))
  else if iAnd (xs i.toNat) 15 = 7 then gd (sc σ a0 = 1) (Option.bind (ws_toWire bb a0 (xs (i + 1).toNat) σ) fun y => Option.bind (m_toWire (xs (i + 1).toNat) τ) fun z => gd (rg y.1 ∧ rg z.1) (some (if y.1 = z.1 then 1 else 0, y.2, z.2)))
  else if iAnd (xs i.toNat) 15 = 8 then gd (sc σ a0 = 1) (Option.bind (ws_turn bb a0 σ) fun y => Option.bind (m_turn τ) fun z => gd (rg y.1 ∧ rg z.1) (some (if y.1 = z.1 then 1 else 0, y.2, z.2)))
  else if iAnd (xs i.toNat) 15 = 9 then gd (sc σ a0 = 1) (Option.bind (ws_output a0 (xs (i + 1).toNat) σ) fun y => Option.bind (m_output (xs (i + 1).toNat) τ) fun z => gd (rg y ∧ rg z.1) (some (if y = z.1 then 1 else 0, σ, z.2)))
  else some (1, σ, τ)
def lawL (bb : Nat × Nat) (a0 : Nat) (xs : Nat → Int) (L : Nat) : Nat → Int → ST → TT → Option (Int × ST × TT)
  | 0, _, _, _ => none
  | n + 1, i, σ, τ => gd (0 ≤ i ∧ i ≤ 400) (if (L : Int) - 6 < i then some (1, σ, τ) else Option.bind (lawS bb a0 xs i σ τ) fun r => if r.1 = 0 then some r else lawL bb a0 xs L n (i + 6) r.2.1 r.2.2)
section Law
variable {g : GE} {M N : Mt} {d pc : Nat} {l : List (Nat × LV)} {st : List LV} {σ : ST} {τ : TT} {Q : VQ} {X Y : Type} {F : Option X} {K : X → Prop} {b L a0 : Nat} {xs : Nat → Int}
theorem sm_scr (S : ScA g b L xs) {i : Int} (hi : ib i L) (hd : d1 M.2.1 pc .iaload 1 = true) (kk : Sm (V g M d (pc + 1) l (vi (xs i.toNat) :: st) σ τ Q) F K) : Sm (V g M d pc l (vi i :: vr (some b) :: st) σ τ Q) F K :=
  fun hx H hR => U.ti (x := vi (xs i.toNat)) S.2.2 hR.2.2.2.2 ⟨by have := hi.1; omega, by have := hi.2; have := S.2.1; omega⟩ hi rfl hd (kk hx H hR)
theorem sm_scl (S : ScA g b L xs) (hd : d1 M.2.1 pc .arraylength 1 = true) (kk : Sm (V g M d (pc + 1) l (vi (L : Nat) :: st) σ τ Q) F K) : Sm (V g M d pc l (vr (some b) :: st) σ τ Q) F K :=
  fun hx H hR => U.tlen S.2.2 hR.2.2.2.2 hd (kk hx H hR)
set_option maxHeartbeats 4000000 in
theorem lawS_ok (G : GG g) (hS : ScA g b L xs) (hd : 100 ≤ d) {i : Int} (hi0 : 0 ≤ i) (hi1 : i + 6 ≤ (L : Int)) {K : Int × ST × TT → Prop} (kT : ∀ σ' τ', Sm (V g mlaw d 358 [(0, vr (some b)), (1, vr (some a0)), (2, vr (some (gw g))), (3, vi i)] [] σ' τ' Q) (some (1, σ', τ')) K) (kF : ∀ σ' τ', K (0, σ', τ') → Q.1 (some (vi 0)) σ' τ') : Sm (V g mlaw d 27 [(0, vr (some b)), (1, vr (some a0)), (2, vr (some (gw g))), (3, vi i)] [] σ τ Q) (lawS (gRm g) a0 xs i σ τ) K := by
  have hL := hS.2.1
  unfold lawS
  refine sm_b (l' := [(0, vr (some b)), (1, vr (some a0)), (2, vr (some (gw g))), (3, vi i)]) (st' := [vi i, vr (some b)]) (pc' := 29) [(.aload_n 0, vi 0, 28), (.iload_n 3, vi 0, 29)] (by decide +kernel) rfl rfl ?_
  refine sm_scr hS (by constructor <;> omega) (by decide +kernel) ?_
  refine sm_b (l' := [(0, vr (some b)), (1, vr (some a0)), (2, vr (some (gw g))), (3, vi i)]) (st' := [vi (iAnd (xs i.toNat) 15)]) (pc' := 33) [(.bipush 15, vi 15, 32), (.iand, vi 0, 33)] (by decide +kernel) rfl rfl ?_
  refine sm_if (fun c0 => ?_) (fun c0 => ?_)
  · refine sm_dflt (V g mlaw d 88 [(0, vr (some b)), (1, vr (some a0)), (2, vr (some (gw g))), (3, vi i)] [] σ τ Q) ?_ (fun f => sm_tcase (df := 325) (lo := 0) (hi := 9) (os := #[55, 118, 141, 154, 177, 210, 243, 266, 289, 302]) (n := 55) (k := 0) (off := 55) (tgt := 88) (by decide +kernel) c0 f)
    refine sm_gd (fun h0 => ?_)
    refine sm_b (l' := [(0, vr (some b)), (1, vr (some a0)), (2, vr (some (gw g))), (3, vi i)]) (st' := [vr (some a0)]) (pc' := 89) [(.aload_n 1, vi 0, 89)] (by decide +kernel) rfl rfl ?_
    refine sm_b (l' := [(0, vr (some b)), (1, vr (some a0)), (2, vr (some (gw g))), (3, vi i)]) (st' := [vi (i + 1), vr (some b), vr (some a0)]) (pc' := 93) [(.aload_n 0, vi 0, 90), (.iload_n 3, vi 0, 91), (.iconst 1, vi 1, 92), (.iadd, vi 0, 93)] (by decide +kernel) rfl rfl ?_
    refine sm_scr hS (by constructor <;> omega) (by decide +kernel) ?_
    refine sm_b (l' := [(0, vr (some b)), (1, vr (some a0)), (2, vr (some (gw g))), (3, vi i)]) (st' := [vi (i + 2), vr (some b), vi (xs (i + 1).toNat), vr (some a0)]) (pc' := 98) [(.aload_n 0, vi 0, 95), (.iload_n 3, vi 0, 96), (.iconst 2, vi 2, 97), (.iadd, vi 0, 98)] (by decide +kernel) rfl rfl ?_
    refine sm_scr hS (by constructor <;> omega) (by decide +kernel) ?_
    refine sm_b (l' := [(0, vr (some b)), (1, vr (some a0)), (2, vr (some (gw g))), (3, vi i)]) (st' := [vi (i + 3), vr (some b), vi (xs (i + 2).toNat), vi (xs (i + 1).toNat), vr (some a0)]) (pc' := 103) [(.aload_n 0, vi 0, 100), (.iload_n 3, vi 0, 101), (.iconst 3, vi 3, 102), (.iadd, vi 0, 103)] (by decide +kernel) rfl rfl ?_
    refine sm_scr hS (by constructor <;> omega) (by decide +kernel) ?_
    refine sm_b (l' := [(0, vr (some b)), (1, vr (some a0)), (2, vr (some (gw g))), (3, vi i)]) (st' := [vi (i + 4), vr (some b), vi (xs (i + 3).toNat), vi (xs (i + 2).toNat), vi (xs (i + 1).toNat), vr (some a0)]) (pc' := 108) [(.aload_n 0, vi 0, 105), (.iload_n 3, vi 0, 106), (.iconst 4, vi 4, 107), (.iadd, vi 0, 108)] (by decide +kernel) rfl rfl ?_
    refine sm_scr hS (by constructor <;> omega) (by decide +kernel) ?_
    refine sm_b (l' := [(0, vr (some b)), (1, vr (some a0)), (2, vr (some (gw g))), (3, vi i)]) (st' := [vi (i + 5), vr (some b), vi (xs (i + 4).toNat), vi (xs (i + 3).toNat), vi (xs (i + 2).toNat), vi (xs (i + 1).toNat), vr (some a0)]) (pc' := 113) [(.aload_n 0, vi 0, 110), (.iload_n 3, vi 0, 111), (.iconst 5, vi 5, 112), (.iadd, vi 0, 113)] (by decide +kernel) rfl rfl ?_
    refine sm_scr hS (by constructor <;> omega) (by decide +kernel) ?_
    refine sm_cv (N := mX0_feed) (d' := d - 1) (fun r => (some (vi r.1))) (fun r => r.2) (fun _ => τ) [vi (xs (i + 1).toNat), vi (xs (i + 2).toNat), vi (xs (i + 3).toNat), vi (xs (i + 4).toNat), vi (xs (i + 5).toNat)] [] rfl (by decide +kernel) q312 q313 q314 (Or.inl ⟨rfl, q315⟩) (show okN yX0_feed 5 = true by decide +kernel) (fun H hR => hR.rv G.1 cd0 rfl h0) rfl rfl (by omega) rfl (fun Q' => ws_feed_ok G (d - 1) (by omega) a0 (xs (i + 1).toNat) (xs (i + 2).toNat) (xs (i + 3).toNat) (xs (i + 4).toNat) (xs (i + 5).toNat) σ Q') (fun y => ?_)
    refine sm_b (l' := [(0, vr (some b)), (1, vr (some a0)), (2, vr (some (gw g))), (3, vi i)]) (st' := [vr (some (gw g)), vi y.1]) (pc' := 118) [(.aload_n 2, vi 0, 118)] (by decide +kernel) rfl rfl ?_
    refine sm_b (l' := [(0, vr (some b)), (1, vr (some a0)), (2, vr (some (gw g))), (3, vi i)]) (st' := [vi (i + 1), vr (some b), vr (some (gw g)), vi y.1]) (pc' := 122) [(.aload_n 0, vi 0, 119), (.iload_n 3, vi 0, 120), (.iconst 1, vi 1, 121), (.iadd, vi 0, 122)] (by decide +kernel) rfl rfl ?_
    refine sm_scr hS (by constructor <;> omega) (by decide +kernel) ?_
    refine sm_b (l' := [(0, vr (some b)), (1, vr (some a0)), (2, vr (some (gw g))), (3, vi i)]) (st' := [vi (i + 2), vr (some b), vi (xs (i + 1).toNat), vr (some (gw g)), vi y.1]) (pc' := 127) [(.aload_n 0, vi 0, 124), (.iload_n 3, vi 0, 125), (.iconst 2, vi 2, 126), (.iadd, vi 0, 127)] (by decide +kernel) rfl rfl ?_
    refine sm_scr hS (by constructor <;> omega) (by decide +kernel) ?_
    refine sm_b (l' := [(0, vr (some b)), (1, vr (some a0)), (2, vr (some (gw g))), (3, vi i)]) (st' := [vi (i + 3), vr (some b), vi (xs (i + 2).toNat), vi (xs (i + 1).toNat), vr (some (gw g)), vi y.1]) (pc' := 132) [(.aload_n 0, vi 0, 129), (.iload_n 3, vi 0, 130), (.iconst 3, vi 3, 131), (.iadd, vi 0, 132)] (by decide +kernel) rfl rfl ?_
    refine sm_scr hS (by constructor <;> omega) (by decide +kernel) ?_
    refine sm_b (l' := [(0, vr (some b)), (1, vr (some a0)), (2, vr (some (gw g))), (3, vi i)]) (st' := [vi (i + 4), vr (some b), vi (xs (i + 3).toNat), vi (xs (i + 2).toNat), vi (xs (i + 1).toNat), vr (some (gw g)), vi y.1]) (pc' := 137) [(.aload_n 0, vi 0, 134), (.iload_n 3, vi 0, 135), (.iconst 4, vi 4, 136), (.iadd, vi 0, 137)] (by decide +kernel) rfl rfl ?_
    refine sm_scr hS (by constructor <;> omega) (by decide +kernel) ?_
    refine sm_b (l' := [(0, vr (some b)), (1, vr (some a0)), (2, vr (some (gw g))), (3, vi i)]) (st' := [vi (i + 5), vr (some b), vi (xs (i + 4).toNat), vi (xs (i + 3).toNat), vi (xs (i + 2).toNat), vi (xs (i + 1).toNat), vr (some (gw g)), vi y.1]) (pc' := 142) [(.aload_n 0, vi 0, 139), (.iload_n 3, vi 0, 140), (.iconst 5, vi 5, 141), (.iadd, vi 0, 142)] (by decide +kernel) rfl rfl ?_
    refine sm_scr hS (by constructor <;> omega) (by decide +kernel) ?_
    refine sm_cv (N := mX4_feed) (d' := d - 1) (fun r => (some (vi r.1))) (fun _ => y.2) (fun r => r.2) [vi (xs (i + 1).toNat), vi (xs (i + 2).toNat), vi (xs (i + 3).toNat), vi (xs (i + 4).toNat), vi (xs (i + 5).toNat)] [vi y.1] rfl (by decide +kernel) q1603 q1604 q1605 (Or.inl ⟨rfl, q1606⟩) (show okN yX4_feed 5 = true by decide +kernel) (fun H hR => hR.rvw G.1 G.2.1) rfl rfl (by omega) rfl (fun Q' => m_feed_ok G (d - 1) (by omega) (xs (i + 1).toNat) (xs (i + 2).toNat) (xs (i + 3).toNat) (xs (i + 4).toNat) (xs (i + 5).toNat) τ Q') (fun z => ?_)
    refine sm_gd (fun hrg => ?_)
    refine sm_icmp_eq (off := 212) (tgt := 358) hrg.1 hrg.2 (by decide +kernel) (fun c => ?_) (fun c => ?_)
    · rw [if_pos c]
      exact kT _ _
    · rw [if_neg c]
      refine sm_b (l' := [(0, vr (some b)), (1, vr (some a0)), (2, vr (some (gw g))), (3, vi i)]) (st' := [vi 0]) (pc' := 150) [(.iconst 0, vi 0, 150)] (by decide +kernel) rfl rfl ?_
      exact sm_zret rfl (by decide +kernel) (Or.inl rfl) (fun h => kF _ _ h)
  refine sm_if (fun c1 => ?_) (fun c1 => ?_)
  · refine sm_dflt (V g mlaw d 151 [(0, vr (some b)), (1, vr (some a0)), (2, vr (some (gw g))), (3, vi i)] [] σ τ Q) ?_ (fun f => sm_tcase (df := 325) (lo := 0) (hi := 9) (os := #[55, 118, 141, 154, 177, 210, 243, 266, 289, 302]) (n := 55) (k := 1) (off := 118) (tgt := 151) (by decide +kernel) c1 f)
    refine sm_gd (fun h0 => ?_)
    refine sm_b (l' := [(0, vr (some b)), (1, vr (some a0)), (2, vr (some (gw g))), (3, vi i)]) (st' := [vr (some a0)]) (pc' := 152) [(.aload_n 1, vi 0, 152)] (by decide +kernel) rfl rfl ?_
    refine sm_b (l' := [(0, vr (some b)), (1, vr (some a0)), (2, vr (some (gw g))), (3, vi i)]) (st' := [vi (i + 1), vr (some b), vr (some a0)]) (pc' := 156) [(.aload_n 0, vi 0, 153), (.iload_n 3, vi 0, 154), (.iconst 1, vi 1, 155), (.iadd, vi 0, 156)] (by decide +kernel) rfl rfl ?_
    refine sm_scr hS (by constructor <;> omega) (by decide +kernel) ?_
    refine sm_cv (N := mX0_end) (d' := d - 1) (fun r => (some (vi r.1))) (fun r => r.2) (fun _ => τ) [vi (xs (i + 1).toNat)] [] rfl (by decide +kernel) q320 q321 q322 (Or.inl ⟨rfl, q323⟩) (show okN yX0_end 1 = true by decide +kernel) (fun H hR => hR.rv G.1 cd0 rfl h0) rfl rfl (by omega) rfl (fun Q' => ws_end_ok G (d - 1) (by omega) a0 (xs (i + 1).toNat) σ Q') (fun y => ?_)
    refine sm_b (l' := [(0, vr (some b)), (1, vr (some a0)), (2, vr (some (gw g))), (3, vi i)]) (st' := [vr (some (gw g)), vi y.1]) (pc' := 161) [(.aload_n 2, vi 0, 161)] (by decide +kernel) rfl rfl ?_
    refine sm_b (l' := [(0, vr (some b)), (1, vr (some a0)), (2, vr (some (gw g))), (3, vi i)]) (st' := [vi (i + 1), vr (some b), vr (some (gw g)), vi y.1]) (pc' := 165) [(.aload_n 0, vi 0, 162), (.iload_n 3, vi 0, 163), (.iconst 1, vi 1, 164), (.iadd, vi 0, 165)] (by decide +kernel) rfl rfl ?_
    refine sm_scr hS (by constructor <;> omega) (by decide +kernel) ?_
    refine sm_cv (N := mX4_end) (d' := d - 1) (fun r => (some (vi r.1))) (fun _ => y.2) (fun r => r.2) [vi (xs (i + 1).toNat)] [vi y.1] rfl (by decide +kernel) q1607 q1608 q1609 (Or.inl ⟨rfl, q1610⟩) (show okN yX4_end 1 = true by decide +kernel) (fun H hR => hR.rvw G.1 G.2.1) rfl rfl (by omega) rfl (fun Q' => m_end_ok G (d - 1) (by omega) (xs (i + 1).toNat) τ Q') (fun z => ?_)
    refine sm_gd (fun hrg => ?_)
    refine sm_icmp_eq (off := 189) (tgt := 358) hrg.1 hrg.2 (by decide +kernel) (fun c => ?_) (fun c => ?_)
    · rw [if_pos c]
      exact kT _ _
    · rw [if_neg c]
      refine sm_b (l' := [(0, vr (some b)), (1, vr (some a0)), (2, vr (some (gw g))), (3, vi i)]) (st' := [vi 0]) (pc' := 173) [(.iconst 0, vi 0, 173)] (by decide +kernel) rfl rfl ?_
      exact sm_zret rfl (by decide +kernel) (Or.inl rfl) (fun h => kF _ _ h)
  refine sm_if (fun c2 => ?_) (fun c2 => ?_)
  · refine sm_dflt (V g mlaw d 174 [(0, vr (some b)), (1, vr (some a0)), (2, vr (some (gw g))), (3, vi i)] [] σ τ Q) ?_ (fun f => sm_tcase (df := 325) (lo := 0) (hi := 9) (os := #[55, 118, 141, 154, 177, 210, 243, 266, 289, 302]) (n := 55) (k := 2) (off := 141) (tgt := 174) (by decide +kernel) c2 f)
    refine sm_gd (fun h0 => ?_)
    refine sm_b (l' := [(0, vr (some b)), (1, vr (some a0)), (2, vr (some (gw g))), (3, vi i)]) (st' := [vr (some a0)]) (pc' := 175) [(.aload_n 1, vi 0, 175)] (by decide +kernel) rfl rfl ?_
    refine sm_cv (N := mX0_schema) (d' := d - 1) (fun r => (some (vi r.1))) (fun r => r.2) (fun _ => τ) [] [] rfl (by decide +kernel) q327 q328 q329 (Or.inr q330) (show okN yX0_schema 0 = true by decide +kernel) (fun H hR => hR.rv G.1 cd0 rfl h0) rfl rfl (by omega) rfl (fun Q' => ws_schema_ok G (d - 1) (by omega) a0  σ Q') (fun y => ?_)
    refine sm_b (l' := [(0, vr (some b)), (1, vr (some a0)), (2, vr (some (gw g))), (3, vi i)]) (st' := [vr (some (gw g)), vi y.1]) (pc' := 179) [(.aload_n 2, vi 0, 179)] (by decide +kernel) rfl rfl ?_
    refine sm_cv (N := mX4_schema) (d' := d - 1) (fun r => (some (vi r.1))) (fun _ => y.2) (fun r => r.2) [] [vi y.1] rfl (by decide +kernel) q1611 q1612 q1613 (Or.inl ⟨rfl, q1614⟩) (show okN yX4_schema 0 = true by decide +kernel) (fun H hR => hR.rvw G.1 G.2.1) rfl rfl (by omega) rfl (fun Q' => m_schema_ok G (d - 1) (by omega)  τ Q') (fun z => ?_)
    refine sm_gd (fun hrg => ?_)
    refine sm_icmp_eq (off := 176) (tgt := 358) hrg.1 hrg.2 (by decide +kernel) (fun c => ?_) (fun c => ?_)
    · rw [if_pos c]
      exact kT _ _
    · rw [if_neg c]
      refine sm_b (l' := [(0, vr (some b)), (1, vr (some a0)), (2, vr (some (gw g))), (3, vi i)]) (st' := [vi 0]) (pc' := 186) [(.iconst 0, vi 0, 186)] (by decide +kernel) rfl rfl ?_
      exact sm_zret rfl (by decide +kernel) (Or.inl rfl) (fun h => kF _ _ h)
  refine sm_if (fun c3 => ?_) (fun c3 => ?_)
  · refine sm_dflt (V g mlaw d 187 [(0, vr (some b)), (1, vr (some a0)), (2, vr (some (gw g))), (3, vi i)] [] σ τ Q) ?_ (fun f => sm_tcase (df := 325) (lo := 0) (hi := 9) (os := #[55, 118, 141, 154, 177, 210, 243, 266, 289, 302]) (n := 55) (k := 3) (off := 154) (tgt := 187) (by decide +kernel) c3 f)
    refine sm_gd (fun h0 => ?_)
    refine sm_b (l' := [(0, vr (some b)), (1, vr (some a0)), (2, vr (some (gw g))), (3, vi i)]) (st' := [vr (some a0)]) (pc' := 188) [(.aload_n 1, vi 0, 188)] (by decide +kernel) rfl rfl ?_
    refine sm_b (l' := [(0, vr (some b)), (1, vr (some a0)), (2, vr (some (gw g))), (3, vi i)]) (st' := [vi (i + 1), vr (some b), vr (some a0)]) (pc' := 192) [(.aload_n 0, vi 0, 189), (.iload_n 3, vi 0, 190), (.iconst 1, vi 1, 191), (.iadd, vi 0, 192)] (by decide +kernel) rfl rfl ?_
    refine sm_scr hS (by constructor <;> omega) (by decide +kernel) ?_
    refine sm_cv (N := mX0_count) (d' := d - 1) (fun r => (some (vi r))) (fun _ => σ) (fun _ => τ) [vi (xs (i + 1).toNat)] [] rfl (by decide +kernel) q906 q907 q908 (Or.inl ⟨rfl, q909⟩) (show okN yX0_count 1 = true by decide +kernel) (fun H hR => hR.rv G.1 cd0 rfl h0) rfl rfl (by omega) rfl (fun Q' => ws_count_ok G (d - 1) (by omega) a0 (xs (i + 1).toNat) σ Q') (fun y => ?_)
    refine sm_b (l' := [(0, vr (some b)), (1, vr (some a0)), (2, vr (some (gw g))), (3, vi i)]) (st' := [vr (some (gw g)), vi y]) (pc' := 197) [(.aload_n 2, vi 0, 197)] (by decide +kernel) rfl rfl ?_
    refine sm_b (l' := [(0, vr (some b)), (1, vr (some a0)), (2, vr (some (gw g))), (3, vi i)]) (st' := [vi (i + 1), vr (some b), vr (some (gw g)), vi y]) (pc' := 201) [(.aload_n 0, vi 0, 198), (.iload_n 3, vi 0, 199), (.iconst 1, vi 1, 200), (.iadd, vi 0, 201)] (by decide +kernel) rfl rfl ?_
    refine sm_scr hS (by constructor <;> omega) (by decide +kernel) ?_
    refine sm_cv (N := mX4_count) (d' := d - 1) (fun r => (some (vi r.1))) (fun _ => σ) (fun r => r.2) [vi (xs (i + 1).toNat)] [vi y] rfl (by decide +kernel) q1744 q1745 q1746 (Or.inl ⟨rfl, q1747⟩) (show okN yX4_count 1 = true by decide +kernel) (fun H hR => hR.rvw G.1 G.2.1) rfl rfl (by omega) rfl (fun Q' => m_count_ok G (d - 1) (by omega) (xs (i + 1).toNat) τ Q') (fun z => ?_)
    refine sm_gd (fun hrg => ?_)
    refine sm_icmp_eq (off := 153) (tgt := 358) hrg.1 hrg.2 (by decide +kernel) (fun c => ?_) (fun c => ?_)
    · rw [if_pos c]
      exact kT _ _
    · rw [if_neg c]
      refine sm_b (l' := [(0, vr (some b)), (1, vr (some a0)), (2, vr (some (gw g))), (3, vi i)]) (st' := [vi 0]) (pc' := 209) [(.iconst 0, vi 0, 209)] (by decide +kernel) rfl rfl ?_
      exact sm_zret rfl (by decide +kernel) (Or.inl rfl) (fun h => kF _ _ h)
  refine sm_if (fun c4 => ?_) (fun c4 => ?_)
  · refine sm_dflt (V g mlaw d 210 [(0, vr (some b)), (1, vr (some a0)), (2, vr (some (gw g))), (3, vi i)] [] σ τ Q) ?_ (fun f => sm_tcase (df := 325) (lo := 0) (hi := 9) (os := #[55, 118, 141, 154, 177, 210, 243, 266, 289, 302]) (n := 55) (k := 4) (off := 177) (tgt := 210) (by decide +kernel) c4 f)
    refine sm_gd (fun h0 => ?_)
    refine sm_b (l' := [(0, vr (some b)), (1, vr (some a0)), (2, vr (some (gw g))), (3, vi i)]) (st' := [vr (some a0)]) (pc' := 211) [(.aload_n 1, vi 0, 211)] (by decide +kernel) rfl rfl ?_
    refine sm_b (l' := [(0, vr (some b)), (1, vr (some a0)), (2, vr (some (gw g))), (3, vi i)]) (st' := [vi (i + 1), vr (some b), vr (some a0)]) (pc' := 215) [(.aload_n 0, vi 0, 212), (.iload_n 3, vi 0, 213), (.iconst 1, vi 1, 214), (.iadd, vi 0, 215)] (by decide +kernel) rfl rfl ?_
    refine sm_scr hS (by constructor <;> omega) (by decide +kernel) ?_
    refine sm_b (l' := [(0, vr (some b)), (1, vr (some a0)), (2, vr (some (gw g))), (3, vi i)]) (st' := [vi (i + 2), vr (some b), vi (xs (i + 1).toNat), vr (some a0)]) (pc' := 220) [(.aload_n 0, vi 0, 217), (.iload_n 3, vi 0, 218), (.iconst 2, vi 2, 219), (.iadd, vi 0, 220)] (by decide +kernel) rfl rfl ?_
    refine sm_scr hS (by constructor <;> omega) (by decide +kernel) ?_
    refine sm_cv (N := mX0_field) (d' := d - 1) (fun r => (some (vi r))) (fun _ => σ) (fun _ => τ) [vi (xs (i + 1).toNat), vi (xs (i + 2).toNat)] [] rfl (by decide +kernel) q911 q912 q913 (Or.inl ⟨rfl, q914⟩) (show okN yX0_field 2 = true by decide +kernel) (fun H hR => hR.rv G.1 cd0 rfl h0) rfl rfl (by omega) rfl (fun Q' => ws_field_ok G (d - 1) (by omega) a0 (xs (i + 1).toNat) (xs (i + 2).toNat) σ Q') (fun y => ?_)
    refine sm_b (l' := [(0, vr (some b)), (1, vr (some a0)), (2, vr (some (gw g))), (3, vi i)]) (st' := [vr (some (gw g)), vi y]) (pc' := 225) [(.aload_n 2, vi 0, 225)] (by decide +kernel) rfl rfl ?_
    refine sm_b (l' := [(0, vr (some b)), (1, vr (some a0)), (2, vr (some (gw g))), (3, vi i)]) (st' := [vi (i + 1), vr (some b), vr (some (gw g)), vi y]) (pc' := 229) [(.aload_n 0, vi 0, 226), (.iload_n 3, vi 0, 227), (.iconst 1, vi 1, 228), (.iadd, vi 0, 229)] (by decide +kernel) rfl rfl ?_
    refine sm_scr hS (by constructor <;> omega) (by decide +kernel) ?_
    refine sm_b (l' := [(0, vr (some b)), (1, vr (some a0)), (2, vr (some (gw g))), (3, vi i)]) (st' := [vi (i + 2), vr (some b), vi (xs (i + 1).toNat), vr (some (gw g)), vi y]) (pc' := 234) [(.aload_n 0, vi 0, 231), (.iload_n 3, vi 0, 232), (.iconst 2, vi 2, 233), (.iadd, vi 0, 234)] (by decide +kernel) rfl rfl ?_
    refine sm_scr hS (by constructor <;> omega) (by decide +kernel) ?_
    refine sm_cv (N := mX4_field) (d' := d - 1) (fun r => (some (vi r.1))) (fun _ => σ) (fun r => r.2) [vi (xs (i + 1).toNat), vi (xs (i + 2).toNat)] [vi y] rfl (by decide +kernel) q1748 q1749 q1750 (Or.inl ⟨rfl, q1751⟩) (show okN yX4_field 2 = true by decide +kernel) (fun H hR => hR.rvw G.1 G.2.1) rfl rfl (by omega) rfl (fun Q' => m_field_ok G (d - 1) (by omega) (xs (i + 1).toNat) (xs (i + 2).toNat) τ Q') (fun z => ?_)
    refine sm_gd (fun hrg => ?_)
    refine sm_icmp_eq (off := 120) (tgt := 358) hrg.1 hrg.2 (by decide +kernel) (fun c => ?_) (fun c => ?_)
    · rw [if_pos c]
      exact kT _ _
    · rw [if_neg c]
      refine sm_b (l' := [(0, vr (some b)), (1, vr (some a0)), (2, vr (some (gw g))), (3, vi i)]) (st' := [vi 0]) (pc' := 242) [(.iconst 0, vi 0, 242)] (by decide +kernel) rfl rfl ?_
      exact sm_zret rfl (by decide +kernel) (Or.inl rfl) (fun h => kF _ _ h)
  refine sm_if (fun c5 => ?_) (fun c5 => ?_)
  · refine sm_dflt (V g mlaw d 243 [(0, vr (some b)), (1, vr (some a0)), (2, vr (some (gw g))), (3, vi i)] [] σ τ Q) ?_ (fun f => sm_tcase (df := 325) (lo := 0) (hi := 9) (os := #[55, 118, 141, 154, 177, 210, 243, 266, 289, 302]) (n := 55) (k := 5) (off := 210) (tgt := 243) (by decide +kernel) c5 f)
    refine sm_gd (fun h0 => ?_)
    refine sm_b (l' := [(0, vr (some b)), (1, vr (some a0)), (2, vr (some (gw g))), (3, vi i)]) (st' := [vr (some a0)]) (pc' := 244) [(.aload_n 1, vi 0, 244)] (by decide +kernel) rfl rfl ?_
    refine sm_b (l' := [(0, vr (some b)), (1, vr (some a0)), (2, vr (some (gw g))), (3, vi i)]) (st' := [vi (i + 1), vr (some b), vr (some a0)]) (pc' := 248) [(.aload_n 0, vi 0, 245), (.iload_n 3, vi 0, 246), (.iconst 1, vi 1, 247), (.iadd, vi 0, 248)] (by decide +kernel) rfl rfl ?_
    refine sm_scr hS (by constructor <;> omega) (by decide +kernel) ?_
    refine sm_b (l' := [(0, vr (some b)), (1, vr (some a0)), (2, vr (some (gw g))), (3, vi i)]) (st' := [vi (i + 2), vr (some b), vi (xs (i + 1).toNat), vr (some a0)]) (pc' := 253) [(.aload_n 0, vi 0, 250), (.iload_n 3, vi 0, 251), (.iconst 2, vi 2, 252), (.iadd, vi 0, 253)] (by decide +kernel) rfl rfl ?_
    refine sm_scr hS (by constructor <;> omega) (by decide +kernel) ?_
    refine sm_cv (N := mX0_letter) (d' := d - 1) (fun r => (some (vi r))) (fun _ => σ) (fun _ => τ) [vi (xs (i + 1).toNat), vi (xs (i + 2).toNat)] [] rfl (by decide +kernel) q921 q922 q923 (Or.inl ⟨rfl, q924⟩) (show okN yX0_letter 2 = true by decide +kernel) (fun H hR => hR.rv G.1 cd0 rfl h0) rfl rfl (by omega) rfl (fun Q' => ws_letter_ok G (d - 1) (by omega) a0 (xs (i + 1).toNat) (xs (i + 2).toNat) σ Q') (fun y => ?_)
    refine sm_b (l' := [(0, vr (some b)), (1, vr (some a0)), (2, vr (some (gw g))), (3, vi i)]) (st' := [vr (some (gw g)), vi y]) (pc' := 258) [(.aload_n 2, vi 0, 258)] (by decide +kernel) rfl rfl ?_
    refine sm_b (l' := [(0, vr (some b)), (1, vr (some a0)), (2, vr (some (gw g))), (3, vi i)]) (st' := [vi (i + 1), vr (some b), vr (some (gw g)), vi y]) (pc' := 262) [(.aload_n 0, vi 0, 259), (.iload_n 3, vi 0, 260), (.iconst 1, vi 1, 261), (.iadd, vi 0, 262)] (by decide +kernel) rfl rfl ?_
    refine sm_scr hS (by constructor <;> omega) (by decide +kernel) ?_
    refine sm_b (l' := [(0, vr (some b)), (1, vr (some a0)), (2, vr (some (gw g))), (3, vi i)]) (st' := [vi (i + 2), vr (some b), vi (xs (i + 1).toNat), vr (some (gw g)), vi y]) (pc' := 267) [(.aload_n 0, vi 0, 264), (.iload_n 3, vi 0, 265), (.iconst 2, vi 2, 266), (.iadd, vi 0, 267)] (by decide +kernel) rfl rfl ?_
    refine sm_scr hS (by constructor <;> omega) (by decide +kernel) ?_
    refine sm_cv (N := mX4_letter) (d' := d - 1) (fun r => (some (vi r.1))) (fun _ => σ) (fun r => r.2) [vi (xs (i + 1).toNat), vi (xs (i + 2).toNat)] [vi y] rfl (by decide +kernel) q1752 q1753 q1754 (Or.inl ⟨rfl, q1755⟩) (show okN yX4_letter 2 = true by decide +kernel) (fun H hR => hR.rvw G.1 G.2.1) rfl rfl (by omega) rfl (fun Q' => m_letter_ok G (d - 1) (by omega) (xs (i + 1).toNat) (xs (i + 2).toNat) τ Q') (fun z => ?_)
    refine sm_gd (fun hrg => ?_)
    refine sm_icmp_eq (off := 87) (tgt := 358) hrg.1 hrg.2 (by decide +kernel) (fun c => ?_) (fun c => ?_)
    · rw [if_pos c]
      exact kT _ _
    · rw [if_neg c]
      refine sm_b (l' := [(0, vr (some b)), (1, vr (some a0)), (2, vr (some (gw g))), (3, vi i)]) (st' := [vi 0]) (pc' := 275) [(.iconst 0, vi 0, 275)] (by decide +kernel) rfl rfl ?_
      exact sm_zret rfl (by decide +kernel) (Or.inl rfl) (fun h => kF _ _ h)
  refine sm_if (fun c6 => ?_) (fun c6 => ?_)
  · refine sm_dflt (V g mlaw d 276 [(0, vr (some b)), (1, vr (some a0)), (2, vr (some (gw g))), (3, vi i)] [] σ τ Q) ?_ (fun f => sm_tcase (df := 325) (lo := 0) (hi := 9) (os := #[55, 118, 141, 154, 177, 210, 243, 266, 289, 302]) (n := 55) (k := 6) (off := 243) (tgt := 276) (by decide +kernel) c6 f)
    refine sm_gd (fun h0 => ?_)
    refine sm_b (l' := [(0, vr (some b)), (1, vr (some a0)), (2, vr (some (gw g))), (3, vi i)]) (st' := [vr (some a0)]) (pc' := 277) [(.aload_n 1, vi 0, 277)] (by decide +kernel) rfl rfl ?_
    refine sm_b (l' := [(0, vr (some b)), (1, vr (some a0)), (2, vr (some (gw g))), (3, vi i)]) (st' := [vi (i + 1), vr (some b), vr (some a0)]) (pc' := 281) [(.aload_n 0, vi 0, 278), (.iload_n 3, vi 0, 279), (.iconst 1, vi 1, 280), (.iadd, vi 0, 281)] (by decide +kernel) rfl rfl ?_
    refine sm_scr hS (by constructor <;> omega) (by decide +kernel) ?_
    refine sm_cv (N := mX0_toJson) (d' := d - 1) (fun r => (some (vi r.1))) (fun r => r.2) (fun _ => τ) [vi (xs (i + 1).toNat)] [] rfl (by decide +kernel) q926 q927 q928 (Or.inl ⟨rfl, q929⟩) (show okN yX0_toJson 1 = true by decide +kernel) (fun H hR => hR.rv G.1 cd0 rfl h0) rfl rfl (by omega) rfl (fun Q' => ws_toJson_ok G (d - 1) (by omega) a0 (xs (i + 1).toNat) σ Q') (fun y => ?_)
    refine sm_b (l' := [(0, vr (some b)), (1, vr (some a0)), (2, vr (some (gw g))), (3, vi i)]) (st' := [vr (some (gw g)), vi y.1]) (pc' := 286) [(.aload_n 2, vi 0, 286)] (by decide +kernel) rfl rfl ?_
    refine sm_b (l' := [(0, vr (some b)), (1, vr (some a0)), (2, vr (some (gw g))), (3, vi i)]) (st' := [vi (i + 1), vr (some b), vr (some (gw g)), vi y.1]) (pc' := 290) [(.aload_n 0, vi 0, 287), (.iload_n 3, vi 0, 288), (.iconst 1, vi 1, 289), (.iadd, vi 0, 290)] (by decide +kernel) rfl rfl ?_
    refine sm_scr hS (by constructor <;> omega) (by decide +kernel) ?_
    refine sm_cv (N := mX4_toJson) (d' := d - 1) (fun r => (some (vi r.1))) (fun _ => y.2) (fun r => r.2) [vi (xs (i + 1).toNat)] [vi y.1] rfl (by decide +kernel) q1756 q1757 q1758 (Or.inl ⟨rfl, q1759⟩) (show okN yX4_toJson 1 = true by decide +kernel) (fun H hR => hR.rvw G.1 G.2.1) rfl rfl (by omega) rfl (fun Q' => m_toJson_ok G (d - 1) (by omega) (xs (i + 1).toNat) τ Q') (fun z => ?_)
    refine sm_gd (fun hrg => ?_)
    refine sm_icmp_eq (off := 64) (tgt := 358) hrg.1 hrg.2 (by decide +kernel) (fun c => ?_) (fun c => ?_)
    · rw [if_pos c]
      exact kT _ _
    · rw [if_neg c]
      refine sm_b (l' := [(0, vr (some b)), (1, vr (some a0)), (2, vr (some (gw g))), (3, vi i)]) (st' := [vi 0]) (pc' := 298) [(.iconst 0, vi 0, 298)] (by decide +kernel) rfl rfl ?_
      exact sm_zret rfl (by decide +kernel) (Or.inl rfl) (fun h => kF _ _ h)
  refine sm_if (fun c7 => ?_) (fun c7 => ?_)
  · refine sm_dflt (V g mlaw d 299 [(0, vr (some b)), (1, vr (some a0)), (2, vr (some (gw g))), (3, vi i)] [] σ τ Q) ?_ (fun f => sm_tcase (df := 325) (lo := 0) (hi := 9) (os := #[55, 118, 141, 154, 177, 210, 243, 266, 289, 302]) (n := 55) (k := 7) (off := 266) (tgt := 299) (by decide +kernel) c7 f)
    refine sm_gd (fun h0 => ?_)
    refine sm_b (l' := [(0, vr (some b)), (1, vr (some a0)), (2, vr (some (gw g))), (3, vi i)]) (st' := [vr (some a0)]) (pc' := 300) [(.aload_n 1, vi 0, 300)] (by decide +kernel) rfl rfl ?_
    refine sm_b (l' := [(0, vr (some b)), (1, vr (some a0)), (2, vr (some (gw g))), (3, vi i)]) (st' := [vi (i + 1), vr (some b), vr (some a0)]) (pc' := 304) [(.aload_n 0, vi 0, 301), (.iload_n 3, vi 0, 302), (.iconst 1, vi 1, 303), (.iadd, vi 0, 304)] (by decide +kernel) rfl rfl ?_
    refine sm_scr hS (by constructor <;> omega) (by decide +kernel) ?_
    refine sm_cv (N := mX0_toWire) (d' := d - 1) (fun r => (some (vi r.1))) (fun r => r.2) (fun _ => τ) [vi (xs (i + 1).toNat)] [] rfl (by decide +kernel) q1165 q1166 q1167 (Or.inl ⟨rfl, q1168⟩) (show okN yX0_toWire 1 = true by decide +kernel) (fun H hR => hR.rv G.1 cd0 rfl h0) rfl rfl (by omega) rfl (fun Q' => ws_toWire_ok G (d - 1) (by omega) a0 (xs (i + 1).toNat) σ Q') (fun y => ?_)
    refine sm_b (l' := [(0, vr (some b)), (1, vr (some a0)), (2, vr (some (gw g))), (3, vi i)]) (st' := [vr (some (gw g)), vi y.1]) (pc' := 309) [(.aload_n 2, vi 0, 309)] (by decide +kernel) rfl rfl ?_
    refine sm_b (l' := [(0, vr (some b)), (1, vr (some a0)), (2, vr (some (gw g))), (3, vi i)]) (st' := [vi (i + 1), vr (some b), vr (some (gw g)), vi y.1]) (pc' := 313) [(.aload_n 0, vi 0, 310), (.iload_n 3, vi 0, 311), (.iconst 1, vi 1, 312), (.iadd, vi 0, 313)] (by decide +kernel) rfl rfl ?_
    refine sm_scr hS (by constructor <;> omega) (by decide +kernel) ?_
    refine sm_cv (N := mX4_toWire) (d' := d - 1) (fun r => (some (vi r.1))) (fun _ => y.2) (fun r => r.2) [vi (xs (i + 1).toNat)] [vi y.1] rfl (by decide +kernel) q1890 q1891 q1892 (Or.inl ⟨rfl, q1893⟩) (show okN yX4_toWire 1 = true by decide +kernel) (fun H hR => hR.rvw G.1 G.2.1) rfl rfl (by omega) rfl (fun Q' => m_toWire_ok G (d - 1) (by omega) (xs (i + 1).toNat) τ Q') (fun z => ?_)
    refine sm_gd (fun hrg => ?_)
    refine sm_icmp_eq (off := 41) (tgt := 358) hrg.1 hrg.2 (by decide +kernel) (fun c => ?_) (fun c => ?_)
    · rw [if_pos c]
      exact kT _ _
    · rw [if_neg c]
      refine sm_b (l' := [(0, vr (some b)), (1, vr (some a0)), (2, vr (some (gw g))), (3, vi i)]) (st' := [vi 0]) (pc' := 321) [(.iconst 0, vi 0, 321)] (by decide +kernel) rfl rfl ?_
      exact sm_zret rfl (by decide +kernel) (Or.inl rfl) (fun h => kF _ _ h)
  refine sm_if (fun c8 => ?_) (fun c8 => ?_)
  · refine sm_dflt (V g mlaw d 322 [(0, vr (some b)), (1, vr (some a0)), (2, vr (some (gw g))), (3, vi i)] [] σ τ Q) ?_ (fun f => sm_tcase (df := 325) (lo := 0) (hi := 9) (os := #[55, 118, 141, 154, 177, 210, 243, 266, 289, 302]) (n := 55) (k := 8) (off := 289) (tgt := 322) (by decide +kernel) c8 f)
    refine sm_gd (fun h0 => ?_)
    refine sm_b (l' := [(0, vr (some b)), (1, vr (some a0)), (2, vr (some (gw g))), (3, vi i)]) (st' := [vr (some a0)]) (pc' := 323) [(.aload_n 1, vi 0, 323)] (by decide +kernel) rfl rfl ?_
    refine sm_cv (N := mX0_turn) (d' := d - 1) (fun r => (some (vi r.1))) (fun r => r.2) (fun _ => τ) [] [] rfl (by decide +kernel) q1404 q1405 q1406 (Or.inl ⟨rfl, q1407⟩) (show okN yX0_turn 0 = true by decide +kernel) (fun H hR => hR.rv G.1 cd0 rfl h0) rfl rfl (by omega) rfl (fun Q' => ws_turn_ok G (d - 1) (by omega) a0  σ Q') (fun y => ?_)
    refine sm_b (l' := [(0, vr (some b)), (1, vr (some a0)), (2, vr (some (gw g))), (3, vi i)]) (st' := [vr (some (gw g)), vi y.1]) (pc' := 327) [(.aload_n 2, vi 0, 327)] (by decide +kernel) rfl rfl ?_
    refine sm_cv (N := mX4_turn) (d' := d - 1) (fun r => (some (vi r.1))) (fun _ => y.2) (fun r => r.2) [] [vi y.1] rfl (by decide +kernel) q2023 q2024 q2025 (Or.inl ⟨rfl, q2026⟩) (show okN yX4_turn 0 = true by decide +kernel) (fun H hR => hR.rvw G.1 G.2.1) rfl rfl (by omega) rfl (fun Q' => m_turn_ok G (d - 1) (by omega)  τ Q') (fun z => ?_)
    refine sm_gd (fun hrg => ?_)
    refine sm_icmp_eq (off := 28) (tgt := 358) hrg.1 hrg.2 (by decide +kernel) (fun c => ?_) (fun c => ?_)
    · rw [if_pos c]
      exact kT _ _
    · rw [if_neg c]
      refine sm_b (l' := [(0, vr (some b)), (1, vr (some a0)), (2, vr (some (gw g))), (3, vi i)]) (st' := [vi 0]) (pc' := 334) [(.iconst 0, vi 0, 334)] (by decide +kernel) rfl rfl ?_
      exact sm_zret rfl (by decide +kernel) (Or.inl rfl) (fun h => kF _ _ h)
  refine sm_if (fun c9 => ?_) (fun c9 => ?_)
  · refine sm_dflt (V g mlaw d 335 [(0, vr (some b)), (1, vr (some a0)), (2, vr (some (gw g))), (3, vi i)] [] σ τ Q) ?_ (fun f => sm_tcase (df := 325) (lo := 0) (hi := 9) (os := #[55, 118, 141, 154, 177, 210, 243, 266, 289, 302]) (n := 55) (k := 9) (off := 302) (tgt := 335) (by decide +kernel) c9 f)
    refine sm_gd (fun h0 => ?_)
    refine sm_b (l' := [(0, vr (some b)), (1, vr (some a0)), (2, vr (some (gw g))), (3, vi i)]) (st' := [vr (some a0)]) (pc' := 336) [(.aload_n 1, vi 0, 336)] (by decide +kernel) rfl rfl ?_
    refine sm_b (l' := [(0, vr (some b)), (1, vr (some a0)), (2, vr (some (gw g))), (3, vi i)]) (st' := [vi (i + 1), vr (some b), vr (some a0)]) (pc' := 340) [(.aload_n 0, vi 0, 337), (.iload_n 3, vi 0, 338), (.iconst 1, vi 1, 339), (.iadd, vi 0, 340)] (by decide +kernel) rfl rfl ?_
    refine sm_scr hS (by constructor <;> omega) (by decide +kernel) ?_
    refine sm_cv (N := mX0_output) (d' := d - 1) (fun r => (some (vi r))) (fun _ => σ) (fun _ => τ) [vi (xs (i + 1).toNat)] [] rfl (by decide +kernel) q1408 q1409 q1410 (Or.inl ⟨rfl, q1411⟩) (show okN yX0_output 1 = true by decide +kernel) (fun H hR => hR.rv G.1 cd0 rfl h0) rfl rfl (by omega) rfl (fun Q' => ws_output_ok G (d - 1) (by omega) a0 (xs (i + 1).toNat) σ Q') (fun y => ?_)
    refine sm_b (l' := [(0, vr (some b)), (1, vr (some a0)), (2, vr (some (gw g))), (3, vi i)]) (st' := [vr (some (gw g)), vi y]) (pc' := 345) [(.aload_n 2, vi 0, 345)] (by decide +kernel) rfl rfl ?_
    refine sm_b (l' := [(0, vr (some b)), (1, vr (some a0)), (2, vr (some (gw g))), (3, vi i)]) (st' := [vi (i + 1), vr (some b), vr (some (gw g)), vi y]) (pc' := 349) [(.aload_n 0, vi 0, 346), (.iload_n 3, vi 0, 347), (.iconst 1, vi 1, 348), (.iadd, vi 0, 349)] (by decide +kernel) rfl rfl ?_
    refine sm_scr hS (by constructor <;> omega) (by decide +kernel) ?_
    refine sm_cv (N := mX4_output) (d' := d - 1) (fun r => (some (vi r.1))) (fun _ => σ) (fun r => r.2) [vi (xs (i + 1).toNat)] [vi y] rfl (by decide +kernel) q2027 q2028 q2029 (Or.inl ⟨rfl, q2030⟩) (show okN yX4_output 1 = true by decide +kernel) (fun H hR => hR.rvw G.1 G.2.1) rfl rfl (by omega) rfl (fun Q' => m_output_ok G (d - 1) (by omega) (xs (i + 1).toNat) τ Q') (fun z => ?_)
    refine sm_gd (fun hrg => ?_)
    refine sm_icmp_eq (off := 5) (tgt := 358) hrg.1 hrg.2 (by decide +kernel) (fun c => ?_) (fun c => ?_)
    · rw [if_pos c]
      exact kT _ _
    · rw [if_neg c]
      refine sm_b (l' := [(0, vr (some b)), (1, vr (some a0)), (2, vr (some (gw g))), (3, vi i)]) (st' := [vi 0]) (pc' := 357) [(.iconst 0, vi 0, 357)] (by decide +kernel) rfl rfl ?_
      exact sm_zret rfl (by decide +kernel) (Or.inl rfl) (fun h => kF _ _ h)
  · refine sm_dflt (V g mlaw d 358 [(0, vr (some b)), (1, vr (some a0)), (2, vr (some (gw g))), (3, vi i)] [] σ τ Q) ?_ (fun f => sm_tdef (df := 325) (lo := 0) (hi := 9) (os := #[55, 118, 141, 154, 177, 210, 243, 266, 289, 302]) (n := 55) (tgt := 358) (rg_in _) (by decide +kernel) (by omega) f)
    exact kT _ _
set_option maxHeartbeats 4000000 in
theorem lawL_ok (G : GG g) (hS : ScA g b L xs) (hd : 100 ≤ d) : ∀ (n : Nat) (i : Int) (σ : ST) (τ : TT), Sm (V g mlaw d 18 [(0, vr (some b)), (1, vr (some a0)), (2, vr (some (gw g))), (3, vi i)] [] σ τ Q) (lawL (gRm g) a0 xs L n i σ τ) (fun r => Q.1 (some (vi r.1)) r.2.1 r.2.2) := by
  have hL := hS.2.1
  intro n
  induction n with
  | zero => intro i σ τ; exact sm_none
  | succ n ih =>
    intro i σ τ
    rw [lawL.eq_2]
    refine sm_gd (fun hi => ?_)
    refine sm_b (l' := [(0, vr (some b)), (1, vr (some a0)), (2, vr (some (gw g))), (3, vi i)]) (st' := [vr (some b), vi i]) (pc' := 20) [(.iload_n 3, vi 0, 19), (.aload_n 0, vi 0, 20)] (by decide +kernel) rfl rfl ?_
    refine sm_scl hS (by decide +kernel) ?_
    refine sm_b (l' := [(0, vr (some b)), (1, vr (some a0)), (2, vr (some (gw g))), (3, vi i)]) (st' := [vi ((L : Int) - 6), vi i]) (pc' := 24) [(.bipush 6, vi 6, 23), (.isub, vi 0, 24)] (by decide +kernel) rfl rfl ?_
    refine sm_icmp_gt (off := 340) (tgt := 364) ⟨by omega, by omega⟩ ⟨by omega, by omega⟩ (by decide +kernel) (fun c => ?_) (fun c => ?_)
    · rw [if_pos c]
      refine sm_b (l' := [(0, vr (some b)), (1, vr (some a0)), (2, vr (some (gw g))), (3, vi i)]) (st' := [vi 1]) (pc' := 365) [(.iconst 1, vi 1, 365)] (by decide +kernel) rfl rfl ?_
      exact sm_zret rfl (by decide +kernel) (Or.inr rfl) (fun h => h)
    · rw [if_neg c]
      intro hx
      have hx2 := Ex_bind.mp hx
      refine lawS_ok (K := fun r => Ex (if r.1 = 0 then some r else lawL (gRm g) a0 xs L n (i + 6) r.2.1 r.2.2) (fun r => Q.1 (some (vi r.1)) r.2.1 r.2.2)) G hS hd hi.1 (by omega) (fun σ' τ' => ?_) (fun σ' τ' h => ?_) hx2
      · intro h
        have h2 := Ex_some.mp h
        rw [if_neg (by show ¬ (1 : Int) = 0; decide)] at h2
        have h3 := ih (i + 6) σ' τ' h2
        exact sm_b (K := fun _ : Unit => True) (F := some ()) (l' := [(0, vr (some b)), (1, vr (some a0)), (2, vr (some (gw g))), (3, vi (i + 6))]) (st' := []) (pc' := 18) [(.iinc 3 6, vi 6, 361), (.goto (-343), vi 0, 18)] (by decide +kernel) rfl rfl (fun _ => h3) (Ex_some.mpr trivial)
      · rw [if_pos rfl] at h
        exact (Ex_some (K := fun r : Int × ST × TT => Q.1 (some (vi r.1)) r.2.1 r.2.2)).mp h
end Law
