set_option maxRecDepth 100000
/-! toJson: the reference -/
section Tj
variable {S : SC} {I : Nat → Nat} {n d m base : Nat} {od : Nat → List Nat} {rec : Int → Int → Int → TT → Option TT}
theorem m_putPart_eq (hPM : PM S I n od d rec) (hm : m < S.1) {p e : Nat} (hp : p ≤ e) (he : e ≤ n) {τ : TT} {w : List UInt8} (hT : TSc τ S) (hI : TIn τ I n) (hO : OX τ w) (h45 : tI τ 45 = (base : Int)) (hb : base + 1 + 501 * d ≤ 8500) {T2 : TV d} (em : msgS S I d m p e (emp d) = some T2) : ∃ τ', m_putPart rec (m : Int) (p : Int) (e : Int) τ = some τ' ∧ TF KZ τ τ' ∧ OX τ' (w ++ js S od d m T2) := by
  have hn := hI.2.1
  unfold m_putPart
  rw [h45, nm_eq, gd_pos (by omega), nm_eq, Int.toNat_natCast]
  rw [show tI (uA τ 43 base (p : Int)) 45 = (base : Int) from h45, gd_pos (by omega), nm_eq, Int.toNat_natCast, nm_eq]
  obtain ⟨τ1, h1⟩ : ∃ τ1, τ1 = uI (uA (uA τ 43 base (p : Int)) 44 base (e : Int)) 45 (tI (uA (uA τ 43 base (p : Int)) 44 base (e : Int)) 45 + 1) := ⟨_, rfl⟩
  have f1 : TF KZ τ τ1 := by rw [h1]; exact (((TF.refl _ τ).uA (by decide) _ _).uA (by decide) _ _).uI (by decide) _
  have k45 : tI τ1 45 = ((base + [(p, e)].length : Nat) : Int) := by rw [h1]; show tI τ 45 + 1 = ((base + 1 : Nat) : Int); rw [h45]; omega
  have hA : PA τ1 base [(p, e)] := fun i hi => by
    simp only [List.length_cons, List.length_nil] at hi
    have : i = 0 := by omega
    subst this
    rw [h1, tA_uI, Nat.add_zero]
    refine ⟨?_, ?_⟩
    · rw [tA_uA, if_neg (fun w => absurd w.1 (by decide)), tA_uA, if_pos ⟨rfl, rfl⟩]; rfl
    · rw [tA_uA, if_pos ⟨rfl, rfl⟩]; rfl
  have hpr : prS S I d m [(p, e)] (emp d) = some T2 := by
    show ((msgS S I d m p e (emp d)).bind fun T' => some T') = _
    rw [em]; rfl
  obtain ⟨τ2, p1, p2, p3, p4, p5⟩ := hPM m base [(p, e)] T2 τ1 w hm hpr (List.cons_ne_nil _ _) hA (fun x hx => by rw [List.mem_singleton.mp hx]; exact ⟨hp, he⟩) (by show (e - p) + 0 ≤ 1000; omega) k45 (by simp only [List.length_cons, List.length_nil]; omega) (hT.z f1) (hI.z f1) (by
    refine hO.tr (l := [43, 44, 45]) ?_ (by decide) (by decide) (by decide)
    rw [h1]; exact (((TF.refl _ τ).uA (by decide) _ _).uA (by decide) _ _).uI (by decide) _)
  have p1' : rec (m : Int) (base : Int) ((base : Int) + 1) τ1 = some τ2 := by
    rw [show (base : Int) + 1 = ((base + [(p, e)].length : Nat) : Int) by show _ = ((base + 1 : Nat) : Int); omega]
    exact p1
  rw [← h1, p1', bind_some', nm_eq]
  exact ⟨_, rfl, (f1.tr p2 (fun _ q => q)).uI (by decide) _, p5.tr (l := [45]) ((TF.refl _ τ2).uI (by decide) _) (by decide) (by decide) (by decide)⟩
/-- the text, if it is not too long -/
def toJ4 (S : SC) (od : Nat → List Nat) (I : Nat → Nat) (n m : Nat) : Option (List UInt8) := (toJ S od I n m).bind fun w => if w.length ≤ 4000 then some w else none
theorem m_toJson_eq (hS : SW S) (hN : SN S) (hO : OD S od) {τ : TT} (hT : TSc τ S) (hI : TIn τ I n) {a1 : Int} (ha : rg a1) : ∃ r τ', m_toJson a1 τ = some (r, τ') ∧ TF (0 :: KZ) τ τ' ∧ tI τ' 0 = 0 ∧ (match (if 0 ≤ a1 ∧ a1 < (S.1 : Int) then toJ4 S od I n a1.toNat else none) with | some w => r = (w.length : Int) ∧ OW τ' w | none => r = -1 ∧ OW τ' []) := by
  have hM := hS.2.2.1
  have hn := hI.2.1
  obtain ⟨τ3, h3⟩ : ∃ τ3, τ3 = uI (uI (uI τ 0 0) 6 0) 7 0 := ⟨_, rfl⟩
  have f3 : TF (0 :: KZ) τ τ3 := by rw [h3]; exact (((TF.refl _ τ).uI (by decide) _).uI (by decide) _).uI (by decide) _
  have hT3 : TSc τ3 S := hT.tr f3 (by decide)
  have hI3 : TIn τ3 I n := hI.tr f3 (by decide) (by decide)
  have z3 : tI τ3 0 = 0 := by rw [h3]; rfl
  have s3 : tI τ3 6 = 0 := by rw [h3]; rfl
  have e3 : tI τ3 7 = 0 := by rw [h3]; rfl
  have O0 : ∀ τx : TT, tI τx 6 = 0 → OW τx [] := fun τx hx => ⟨Nat.zero_le _, hx, fun k hk => absurd hk (Nat.not_lt_zero _)⟩
  have t35 := hT3.1
  have t5 := hI3.1
  unfold m_toJson
  rw [nm_eq, nm_eq, nm_eq, ← h3, gd_pos ha, t35, t5, gd_pos (by omega)]
  by_cases c : 0 ≤ a1 ∧ a1 < (S.1 : Int)
  · rw [if_pos c, if_neg (by omega)]
    obtain ⟨m, rfl⟩ : ∃ m : Nat, a1 = (m : Int) := ⟨a1.toNat, by omega⟩
    rw [Int.toNat_natCast]
    have hm : m < S.1 := by omega
    obtain ⟨τ4, f4, e4⟩ := m_isMessage_eq (I := I) (n := n) hS 8 12 1 (by omega) (by omega) (by omega) m 0 n (emp 8) τ3 hm (Nat.zero_le _) (Nat.le_refl _) hT3 hI3
    have e4' : m_isMessage 12 (m : Int) 0 (n : Int) 1 τ3 = _ := e4
    have f4z : TF (0 :: KZ) τ τ4 := f3.tr f4 (by decide)
    have z4 : tI τ4 0 = 0 := by rw [(f4 0 (by decide)).1]; exact z3
    have s4 : tI τ4 6 = 0 := by rw [(f4 6 (by decide)).1]; exact s3
    have x4 : tI τ4 7 = 0 := by rw [(f4 7 (by decide)).1]; exact e3
    rw [e4', bind_some']
    unfold toJ4 toJ
    cases em : msgS S I 8 m 0 n (emp 8) with
    | none =>
      refine ⟨-1, τ4, ?_, f4z, z4, rfl, O0 _ s4⟩
      show gd (rg 0) (if (0 : Int) = 0 then some (-1, τ4) else _) = _
      rw [gd_pos (by omega), if_pos rfl]
    | some T =>
      show ∃ r τ', gd (rg 1) (if (1 : Int) = 0 then some (-1, τ4) else (nm (uI τ4 45 0) fun τ11 => Option.bind (m_putPart (m_putMessage 12) (m : Int) 0 (tI τ11 5) τ11) fun y12 => gd (rg (tI y12 7)) (if (tI y12 7) = 0 then (some ((tI y12 6, y12))) else (nm (uI y12 6 0) fun τ16 => some (((-1), τ16)))))) = some (r, τ') ∧ TF (0 :: KZ) τ τ' ∧ tI τ' 0 = 0 ∧ (match (if (js S od 8 m T).length ≤ 4000 then some (js S od 8 m T) else none) with | some w => r = (w.length : Int) ∧ OW τ' w | none => r = -1 ∧ OW τ' [])
      rw [gd_pos (by omega), if_neg (by omega), nm_eq]
      have f5 : TF [45] τ4 (uI τ4 45 0) := (TF.refl _ τ4).uI (by decide) _
      have hT5 : TSc (uI τ4 45 0) S := (hT.tr f4z (by decide)).tr f5 (by decide)
      have hI5 : TIn (uI τ4 45 0) I n := (hI.tr f4z (by decide) (by decide)).tr f5 (by decide) (by decide)
      have hO5 : OX (uI τ4 45 0) [] := Or.inl ⟨Nat.zero_le _, O0 _ s4, x4⟩
      obtain ⟨τ6, p1, p2, p3⟩ := m_putPart_eq (base := 0) (m_putMessage_eq hS hN hO 8 12 (by omega)) hm (Nat.zero_le _) (Nat.le_refl _) hT5 hI5 hO5 (by rw [tI_uI, if_pos rfl]; rfl) (by omega) em
      have p1' : m_putPart (m_putMessage 12) (m : Int) 0 (n : Int) (uI τ4 45 0) = some τ6 := p1
      have t55 : tI (uI τ4 45 0) 5 = (n : Int) := hI5.1
      rw [t55, p1', bind_some']
      have f6 : TF (0 :: KZ) τ τ6 := (f4z.tr f5 (by decide)).tr p2 (by decide)
      have z6 : tI τ6 0 = 0 := by rw [(p2 0 (by decide)).1]; exact z4
      rw [List.nil_append] at p3
      rcases p3 with ⟨w1, w2, w3⟩ | ⟨w1, w2, w3⟩
      · rw [w3, gd_pos (by omega), if_pos rfl, if_pos w1]
        exact ⟨_, τ6, rfl, f6, z6, w2.2.1, w2⟩
      · rw [w3, gd_pos (by omega), if_neg (by omega), nm_eq, if_neg (by omega)]
        exact ⟨-1, _, rfl, f6.uI (by decide) _, z6, rfl, O0 _ (by rw [tI_uI, if_pos rfl])⟩
  · rw [if_neg c, if_pos (by omega)]
    exact ⟨-1, τ3, rfl, f3, z3, rfl, O0 _ s3⟩
end Tj
