set_option maxRecDepth 100000
/-! THE START: the law's walk -/
def fs0 : List Value := [.int 0, .null, .null, .null, .int 0, .int 0, .int 0, .int 0, .null, .null, .null, .null, .int 0, .int 0, .int 0, .null, .null, .null, .null, .null, .null, .null, .null, .null, .null, .null, .null, .null, .null, .null, .null, .null, .null, .null, .null, .int 0, .int 0, .int 0, .int 0, .int 0, .int 0, .null, .null, .null, .null, .int 0, .int 0, .long 0, .int 0, .int 0, .int 0, .int 0, .int 0, .int 0, .int 0, .long 0, .null, .int 0, .int 0, .long 0, .int 0]
def st0 (Z z0 z1 : Nat) : ST := (fun _ => 0, fun _ _ => 0, fun _ _ => 0, fun _ _ => none, fun _ => [], fun _ => [], fun _ => 0, fun _ _ => 0, fun _ _ => 0, fun _ _ => none, fun i => if i = 0 then z0 else z1, Z, 0, 0)
def T00 : Nat → Nat := fun k => if k = 1000 then 973681 else if k = 1001 then 6175061 else 0
def T11 (w : Nat) : Nat → Nat := fun k => if k = 1000 then 973681 else if k = 1001 then 6175061 else w + 1 + tix k
/-- what all calls together may cost -/
def RoomOK : Prop := ∃ Φ : Nat → AbS → Nat → Nat → Prop, (∀ t A s c, t ≤ 64 → Φ t A s c → s ≤ 6143143 ∧ c ≤ 973635) ∧ (∀ t A A' s c ds dc, t < 64 → WFA A → WFA A' → Φ t A s c → STEP A A' ds dc → Φ (t + 1) A' (s + ds) (c + dc)) ∧ ∀ I, Φ 0 (S0, fun _ => [], 0, I, 0, [], 0, 0) 0 0
section Ct
variable {p : Program} {l : Launch} {e : Env} {s : State} {D : va_G} {cA : Nat → ClassId} {K : Nat → Nat}
theorem fs0_ok : ∀ j, j < 61 → defaultValue (tyX4 j) = vp_V fs0 j := by
  intro j hj
  rcases j with _ | _ | _ | _ | _ | _ | _ | _ | _ | _ | _ | _ | _ | _ | _ | _ | _ | _ | _ | _ | _ | _ | _ | _ | _ | _ | _ | _ | _ | _ | _ | _ | _ | _ | _ | _ | _ | _ | _ | _ | _ | _ | _ | _ | _ | _ | _ | _ | _ | _ | _ | _ | _ | _ | _ | _ | _ | _ | _ | _ | _ | j
  · rfl
  · rfl
  · rfl
  · rfl
  · rfl
  · rfl
  · rfl
  · rfl
  · rfl
  · rfl
  · rfl
  · rfl
  · rfl
  · rfl
  · rfl
  · rfl
  · rfl
  · rfl
  · rfl
  · rfl
  · rfl
  · rfl
  · rfl
  · rfl
  · rfl
  · rfl
  · rfl
  · rfl
  · rfl
  · rfl
  · rfl
  · rfl
  · rfl
  · rfl
  · rfl
  · rfl
  · rfl
  · rfl
  · rfl
  · rfl
  · rfl
  · rfl
  · rfl
  · rfl
  · rfl
  · rfl
  · rfl
  · rfl
  · rfl
  · rfl
  · rfl
  · rfl
  · rfl
  · rfl
  · rfl
  · rfl
  · rfl
  · rfl
  · rfl
  · rfl
  · rfl
  · omega
theorem f_0 (w : Nat) : tfs w 0 fs0 = [.int 0, .null, .null, .null, .int 0, .int 0, .int 0, .int 0, .null, .null, .null, .null, .int 0, .int 0, .int 0, .null, .null, .null, .null, .null, .null, .null, .null, .null, .null, .null, .null, .null, .null, .null, .null, .null, .null, .null, .null, .int 0, .int 0, .int 0, .int 0, .int 0, .int 0, .null, .null, .null, .null, .int 0, .int 0, .long 0, .int 0, .int 0, .int 0, .int 0, .int 0, .int 0, .int 0, .long 0, .null, .int 0, .int 0, .long 0, .int 0] := rfl
theorem f_1 (w : Nat) : tfs w 1 fs0 = [.int 0, .ref (w + 1 + 0), .null, .null, .int 0, .int 0, .int 0, .int 0, .null, .null, .null, .null, .int 0, .int 0, .int 0, .null, .null, .null, .null, .null, .null, .null, .null, .null, .null, .null, .null, .null, .null, .null, .null, .null, .null, .null, .null, .int 0, .int 0, .int 0, .int 0, .int 0, .int 0, .null, .null, .null, .null, .int 0, .int 0, .long 0, .int 0, .int 0, .int 0, .int 0, .int 0, .int 0, .int 0, .long 0, .null, .int 0, .int 0, .long 0, .int 0] := by
  show (tfs w 0 fs0).set 1 (.ref (w + 1 + 0)) = _
  rw [f_0]; rfl
theorem f_2 (w : Nat) : tfs w 2 fs0 = [.int 0, .ref (w + 1 + 0), .ref (w + 1 + 1), .null, .int 0, .int 0, .int 0, .int 0, .null, .null, .null, .null, .int 0, .int 0, .int 0, .null, .null, .null, .null, .null, .null, .null, .null, .null, .null, .null, .null, .null, .null, .null, .null, .null, .null, .null, .null, .int 0, .int 0, .int 0, .int 0, .int 0, .int 0, .null, .null, .null, .null, .int 0, .int 0, .long 0, .int 0, .int 0, .int 0, .int 0, .int 0, .int 0, .int 0, .long 0, .null, .int 0, .int 0, .long 0, .int 0] := by
  show (tfs w 1 fs0).set 2 (.ref (w + 1 + 1)) = _
  rw [f_1]; rfl
theorem f_3 (w : Nat) : tfs w 3 fs0 = [.int 0, .ref (w + 1 + 0), .ref (w + 1 + 1), .ref (w + 1 + 2), .int 0, .int 0, .int 0, .int 0, .null, .null, .null, .null, .int 0, .int 0, .int 0, .null, .null, .null, .null, .null, .null, .null, .null, .null, .null, .null, .null, .null, .null, .null, .null, .null, .null, .null, .null, .int 0, .int 0, .int 0, .int 0, .int 0, .int 0, .null, .null, .null, .null, .int 0, .int 0, .long 0, .int 0, .int 0, .int 0, .int 0, .int 0, .int 0, .int 0, .long 0, .null, .int 0, .int 0, .long 0, .int 0] := by
  show (tfs w 2 fs0).set 3 (.ref (w + 1 + 2)) = _
  rw [f_2]; rfl
theorem f_4 (w : Nat) : tfs w 4 fs0 = [.int 0, .ref (w + 1 + 0), .ref (w + 1 + 1), .ref (w + 1 + 2), .int 0, .int 0, .int 0, .int 0, .ref (w + 1 + 3), .null, .null, .null, .int 0, .int 0, .int 0, .null, .null, .null, .null, .null, .null, .null, .null, .null, .null, .null, .null, .null, .null, .null, .null, .null, .null, .null, .null, .int 0, .int 0, .int 0, .int 0, .int 0, .int 0, .null, .null, .null, .null, .int 0, .int 0, .long 0, .int 0, .int 0, .int 0, .int 0, .int 0, .int 0, .int 0, .long 0, .null, .int 0, .int 0, .long 0, .int 0] := by
  show (tfs w 3 fs0).set 8 (.ref (w + 1 + 3)) = _
  rw [f_3]; rfl
theorem f_5 (w : Nat) : tfs w 5 fs0 = [.int 0, .ref (w + 1 + 0), .ref (w + 1 + 1), .ref (w + 1 + 2), .int 0, .int 0, .int 0, .int 0, .ref (w + 1 + 3), .ref (w + 1 + 4), .null, .null, .int 0, .int 0, .int 0, .null, .null, .null, .null, .null, .null, .null, .null, .null, .null, .null, .null, .null, .null, .null, .null, .null, .null, .null, .null, .int 0, .int 0, .int 0, .int 0, .int 0, .int 0, .null, .null, .null, .null, .int 0, .int 0, .long 0, .int 0, .int 0, .int 0, .int 0, .int 0, .int 0, .int 0, .long 0, .null, .int 0, .int 0, .long 0, .int 0] := by
  show (tfs w 4 fs0).set 9 (.ref (w + 1 + 4)) = _
  rw [f_4]; rfl
theorem f_6 (w : Nat) : tfs w 6 fs0 = [.int 0, .ref (w + 1 + 0), .ref (w + 1 + 1), .ref (w + 1 + 2), .int 0, .int 0, .int 0, .int 0, .ref (w + 1 + 3), .ref (w + 1 + 4), .ref (w + 1 + 5), .null, .int 0, .int 0, .int 0, .null, .null, .null, .null, .null, .null, .null, .null, .null, .null, .null, .null, .null, .null, .null, .null, .null, .null, .null, .null, .int 0, .int 0, .int 0, .int 0, .int 0, .int 0, .null, .null, .null, .null, .int 0, .int 0, .long 0, .int 0, .int 0, .int 0, .int 0, .int 0, .int 0, .int 0, .long 0, .null, .int 0, .int 0, .long 0, .int 0] := by
  show (tfs w 5 fs0).set 10 (.ref (w + 1 + 5)) = _
  rw [f_5]; rfl
theorem f_7 (w : Nat) : tfs w 7 fs0 = [.int 0, .ref (w + 1 + 0), .ref (w + 1 + 1), .ref (w + 1 + 2), .int 0, .int 0, .int 0, .int 0, .ref (w + 1 + 3), .ref (w + 1 + 4), .ref (w + 1 + 5), .ref (w + 1 + 6), .int 0, .int 0, .int 0, .null, .null, .null, .null, .null, .null, .null, .null, .null, .null, .null, .null, .null, .null, .null, .null, .null, .null, .null, .null, .int 0, .int 0, .int 0, .int 0, .int 0, .int 0, .null, .null, .null, .null, .int 0, .int 0, .long 0, .int 0, .int 0, .int 0, .int 0, .int 0, .int 0, .int 0, .long 0, .null, .int 0, .int 0, .long 0, .int 0] := by
  show (tfs w 6 fs0).set 11 (.ref (w + 1 + 6)) = _
  rw [f_6]; rfl
theorem f_8 (w : Nat) : tfs w 8 fs0 = [.int 0, .ref (w + 1 + 0), .ref (w + 1 + 1), .ref (w + 1 + 2), .int 0, .int 0, .int 0, .int 0, .ref (w + 1 + 3), .ref (w + 1 + 4), .ref (w + 1 + 5), .ref (w + 1 + 6), .int 0, .int 0, .int 0, .ref (w + 1 + 7), .null, .null, .null, .null, .null, .null, .null, .null, .null, .null, .null, .null, .null, .null, .null, .null, .null, .null, .null, .int 0, .int 0, .int 0, .int 0, .int 0, .int 0, .null, .null, .null, .null, .int 0, .int 0, .long 0, .int 0, .int 0, .int 0, .int 0, .int 0, .int 0, .int 0, .long 0, .null, .int 0, .int 0, .long 0, .int 0] := by
  show (tfs w 7 fs0).set 15 (.ref (w + 1 + 7)) = _
  rw [f_7]; rfl
theorem f_9 (w : Nat) : tfs w 9 fs0 = [.int 0, .ref (w + 1 + 0), .ref (w + 1 + 1), .ref (w + 1 + 2), .int 0, .int 0, .int 0, .int 0, .ref (w + 1 + 3), .ref (w + 1 + 4), .ref (w + 1 + 5), .ref (w + 1 + 6), .int 0, .int 0, .int 0, .ref (w + 1 + 7), .ref (w + 1 + 8), .null, .null, .null, .null, .null, .null, .null, .null, .null, .null, .null, .null, .null, .null, .null, .null, .null, .null, .int 0, .int 0, .int 0, .int 0, .int 0, .int 0, .null, .null, .null, .null, .int 0, .int 0, .long 0, .int 0, .int 0, .int 0, .int 0, .int 0, .int 0, .int 0, .long 0, .null, .int 0, .int 0, .long 0, .int 0] := by
  show (tfs w 8 fs0).set 16 (.ref (w + 1 + 8)) = _
  rw [f_8]; rfl
theorem f_10 (w : Nat) : tfs w 10 fs0 = [.int 0, .ref (w + 1 + 0), .ref (w + 1 + 1), .ref (w + 1 + 2), .int 0, .int 0, .int 0, .int 0, .ref (w + 1 + 3), .ref (w + 1 + 4), .ref (w + 1 + 5), .ref (w + 1 + 6), .int 0, .int 0, .int 0, .ref (w + 1 + 7), .ref (w + 1 + 8), .ref (w + 1 + 9), .null, .null, .null, .null, .null, .null, .null, .null, .null, .null, .null, .null, .null, .null, .null, .null, .null, .int 0, .int 0, .int 0, .int 0, .int 0, .int 0, .null, .null, .null, .null, .int 0, .int 0, .long 0, .int 0, .int 0, .int 0, .int 0, .int 0, .int 0, .int 0, .long 0, .null, .int 0, .int 0, .long 0, .int 0] := by
  show (tfs w 9 fs0).set 17 (.ref (w + 1 + 9)) = _
  rw [f_9]; rfl
theorem f_11 (w : Nat) : tfs w 11 fs0 = [.int 0, .ref (w + 1 + 0), .ref (w + 1 + 1), .ref (w + 1 + 2), .int 0, .int 0, .int 0, .int 0, .ref (w + 1 + 3), .ref (w + 1 + 4), .ref (w + 1 + 5), .ref (w + 1 + 6), .int 0, .int 0, .int 0, .ref (w + 1 + 7), .ref (w + 1 + 8), .ref (w + 1 + 9), .ref (w + 1 + 10), .null, .null, .null, .null, .null, .null, .null, .null, .null, .null, .null, .null, .null, .null, .null, .null, .int 0, .int 0, .int 0, .int 0, .int 0, .int 0, .null, .null, .null, .null, .int 0, .int 0, .long 0, .int 0, .int 0, .int 0, .int 0, .int 0, .int 0, .int 0, .long 0, .null, .int 0, .int 0, .long 0, .int 0] := by
  show (tfs w 10 fs0).set 18 (.ref (w + 1 + 10)) = _
  rw [f_10]; rfl
theorem f_12 (w : Nat) : tfs w 12 fs0 = [.int 0, .ref (w + 1 + 0), .ref (w + 1 + 1), .ref (w + 1 + 2), .int 0, .int 0, .int 0, .int 0, .ref (w + 1 + 3), .ref (w + 1 + 4), .ref (w + 1 + 5), .ref (w + 1 + 6), .int 0, .int 0, .int 0, .ref (w + 1 + 7), .ref (w + 1 + 8), .ref (w + 1 + 9), .ref (w + 1 + 10), .ref (w + 1 + 11), .null, .null, .null, .null, .null, .null, .null, .null, .null, .null, .null, .null, .null, .null, .null, .int 0, .int 0, .int 0, .int 0, .int 0, .int 0, .null, .null, .null, .null, .int 0, .int 0, .long 0, .int 0, .int 0, .int 0, .int 0, .int 0, .int 0, .int 0, .long 0, .null, .int 0, .int 0, .long 0, .int 0] := by
  show (tfs w 11 fs0).set 19 (.ref (w + 1 + 11)) = _
  rw [f_11]; rfl
theorem f_13 (w : Nat) : tfs w 13 fs0 = [.int 0, .ref (w + 1 + 0), .ref (w + 1 + 1), .ref (w + 1 + 2), .int 0, .int 0, .int 0, .int 0, .ref (w + 1 + 3), .ref (w + 1 + 4), .ref (w + 1 + 5), .ref (w + 1 + 6), .int 0, .int 0, .int 0, .ref (w + 1 + 7), .ref (w + 1 + 8), .ref (w + 1 + 9), .ref (w + 1 + 10), .ref (w + 1 + 11), .ref (w + 1 + 12), .null, .null, .null, .null, .null, .null, .null, .null, .null, .null, .null, .null, .null, .null, .int 0, .int 0, .int 0, .int 0, .int 0, .int 0, .null, .null, .null, .null, .int 0, .int 0, .long 0, .int 0, .int 0, .int 0, .int 0, .int 0, .int 0, .int 0, .long 0, .null, .int 0, .int 0, .long 0, .int 0] := by
  show (tfs w 12 fs0).set 20 (.ref (w + 1 + 12)) = _
  rw [f_12]; rfl
theorem f_14 (w : Nat) : tfs w 14 fs0 = [.int 0, .ref (w + 1 + 0), .ref (w + 1 + 1), .ref (w + 1 + 2), .int 0, .int 0, .int 0, .int 0, .ref (w + 1 + 3), .ref (w + 1 + 4), .ref (w + 1 + 5), .ref (w + 1 + 6), .int 0, .int 0, .int 0, .ref (w + 1 + 7), .ref (w + 1 + 8), .ref (w + 1 + 9), .ref (w + 1 + 10), .ref (w + 1 + 11), .ref (w + 1 + 12), .ref (w + 1 + 13), .null, .null, .null, .null, .null, .null, .null, .null, .null, .null, .null, .null, .null, .int 0, .int 0, .int 0, .int 0, .int 0, .int 0, .null, .null, .null, .null, .int 0, .int 0, .long 0, .int 0, .int 0, .int 0, .int 0, .int 0, .int 0, .int 0, .long 0, .null, .int 0, .int 0, .long 0, .int 0] := by
  show (tfs w 13 fs0).set 21 (.ref (w + 1 + 13)) = _
  rw [f_13]; rfl
theorem f_15 (w : Nat) : tfs w 15 fs0 = [.int 0, .ref (w + 1 + 0), .ref (w + 1 + 1), .ref (w + 1 + 2), .int 0, .int 0, .int 0, .int 0, .ref (w + 1 + 3), .ref (w + 1 + 4), .ref (w + 1 + 5), .ref (w + 1 + 6), .int 0, .int 0, .int 0, .ref (w + 1 + 7), .ref (w + 1 + 8), .ref (w + 1 + 9), .ref (w + 1 + 10), .ref (w + 1 + 11), .ref (w + 1 + 12), .ref (w + 1 + 13), .ref (w + 1 + 14), .null, .null, .null, .null, .null, .null, .null, .null, .null, .null, .null, .null, .int 0, .int 0, .int 0, .int 0, .int 0, .int 0, .null, .null, .null, .null, .int 0, .int 0, .long 0, .int 0, .int 0, .int 0, .int 0, .int 0, .int 0, .int 0, .long 0, .null, .int 0, .int 0, .long 0, .int 0] := by
  show (tfs w 14 fs0).set 22 (.ref (w + 1 + 14)) = _
  rw [f_14]; rfl
theorem f_16 (w : Nat) : tfs w 16 fs0 = [.int 0, .ref (w + 1 + 0), .ref (w + 1 + 1), .ref (w + 1 + 2), .int 0, .int 0, .int 0, .int 0, .ref (w + 1 + 3), .ref (w + 1 + 4), .ref (w + 1 + 5), .ref (w + 1 + 6), .int 0, .int 0, .int 0, .ref (w + 1 + 7), .ref (w + 1 + 8), .ref (w + 1 + 9), .ref (w + 1 + 10), .ref (w + 1 + 11), .ref (w + 1 + 12), .ref (w + 1 + 13), .ref (w + 1 + 14), .ref (w + 1 + 15), .null, .null, .null, .null, .null, .null, .null, .null, .null, .null, .null, .int 0, .int 0, .int 0, .int 0, .int 0, .int 0, .null, .null, .null, .null, .int 0, .int 0, .long 0, .int 0, .int 0, .int 0, .int 0, .int 0, .int 0, .int 0, .long 0, .null, .int 0, .int 0, .long 0, .int 0] := by
  show (tfs w 15 fs0).set 23 (.ref (w + 1 + 15)) = _
  rw [f_15]; rfl
theorem f_17 (w : Nat) : tfs w 17 fs0 = [.int 0, .ref (w + 1 + 0), .ref (w + 1 + 1), .ref (w + 1 + 2), .int 0, .int 0, .int 0, .int 0, .ref (w + 1 + 3), .ref (w + 1 + 4), .ref (w + 1 + 5), .ref (w + 1 + 6), .int 0, .int 0, .int 0, .ref (w + 1 + 7), .ref (w + 1 + 8), .ref (w + 1 + 9), .ref (w + 1 + 10), .ref (w + 1 + 11), .ref (w + 1 + 12), .ref (w + 1 + 13), .ref (w + 1 + 14), .ref (w + 1 + 15), .ref (w + 1 + 16), .null, .null, .null, .null, .null, .null, .null, .null, .null, .null, .int 0, .int 0, .int 0, .int 0, .int 0, .int 0, .null, .null, .null, .null, .int 0, .int 0, .long 0, .int 0, .int 0, .int 0, .int 0, .int 0, .int 0, .int 0, .long 0, .null, .int 0, .int 0, .long 0, .int 0] := by
  show (tfs w 16 fs0).set 24 (.ref (w + 1 + 16)) = _
  rw [f_16]; rfl
theorem f_18 (w : Nat) : tfs w 18 fs0 = [.int 0, .ref (w + 1 + 0), .ref (w + 1 + 1), .ref (w + 1 + 2), .int 0, .int 0, .int 0, .int 0, .ref (w + 1 + 3), .ref (w + 1 + 4), .ref (w + 1 + 5), .ref (w + 1 + 6), .int 0, .int 0, .int 0, .ref (w + 1 + 7), .ref (w + 1 + 8), .ref (w + 1 + 9), .ref (w + 1 + 10), .ref (w + 1 + 11), .ref (w + 1 + 12), .ref (w + 1 + 13), .ref (w + 1 + 14), .ref (w + 1 + 15), .ref (w + 1 + 16), .ref (w + 1 + 17), .null, .null, .null, .null, .null, .null, .null, .null, .null, .int 0, .int 0, .int 0, .int 0, .int 0, .int 0, .null, .null, .null, .null, .int 0, .int 0, .long 0, .int 0, .int 0, .int 0, .int 0, .int 0, .int 0, .int 0, .long 0, .null, .int 0, .int 0, .long 0, .int 0] := by
  show (tfs w 17 fs0).set 25 (.ref (w + 1 + 17)) = _
  rw [f_17]; rfl
theorem f_19 (w : Nat) : tfs w 19 fs0 = [.int 0, .ref (w + 1 + 0), .ref (w + 1 + 1), .ref (w + 1 + 2), .int 0, .int 0, .int 0, .int 0, .ref (w + 1 + 3), .ref (w + 1 + 4), .ref (w + 1 + 5), .ref (w + 1 + 6), .int 0, .int 0, .int 0, .ref (w + 1 + 7), .ref (w + 1 + 8), .ref (w + 1 + 9), .ref (w + 1 + 10), .ref (w + 1 + 11), .ref (w + 1 + 12), .ref (w + 1 + 13), .ref (w + 1 + 14), .ref (w + 1 + 15), .ref (w + 1 + 16), .ref (w + 1 + 17), .ref (w + 1 + 18), .null, .null, .null, .null, .null, .null, .null, .null, .int 0, .int 0, .int 0, .int 0, .int 0, .int 0, .null, .null, .null, .null, .int 0, .int 0, .long 0, .int 0, .int 0, .int 0, .int 0, .int 0, .int 0, .int 0, .long 0, .null, .int 0, .int 0, .long 0, .int 0] := by
  show (tfs w 18 fs0).set 26 (.ref (w + 1 + 18)) = _
  rw [f_18]; rfl
theorem f_20 (w : Nat) : tfs w 20 fs0 = [.int 0, .ref (w + 1 + 0), .ref (w + 1 + 1), .ref (w + 1 + 2), .int 0, .int 0, .int 0, .int 0, .ref (w + 1 + 3), .ref (w + 1 + 4), .ref (w + 1 + 5), .ref (w + 1 + 6), .int 0, .int 0, .int 0, .ref (w + 1 + 7), .ref (w + 1 + 8), .ref (w + 1 + 9), .ref (w + 1 + 10), .ref (w + 1 + 11), .ref (w + 1 + 12), .ref (w + 1 + 13), .ref (w + 1 + 14), .ref (w + 1 + 15), .ref (w + 1 + 16), .ref (w + 1 + 17), .ref (w + 1 + 18), .ref (w + 1 + 19), .null, .null, .null, .null, .null, .null, .null, .int 0, .int 0, .int 0, .int 0, .int 0, .int 0, .null, .null, .null, .null, .int 0, .int 0, .long 0, .int 0, .int 0, .int 0, .int 0, .int 0, .int 0, .int 0, .long 0, .null, .int 0, .int 0, .long 0, .int 0] := by
  show (tfs w 19 fs0).set 27 (.ref (w + 1 + 19)) = _
  rw [f_19]; rfl
theorem f_21 (w : Nat) : tfs w 21 fs0 = [.int 0, .ref (w + 1 + 0), .ref (w + 1 + 1), .ref (w + 1 + 2), .int 0, .int 0, .int 0, .int 0, .ref (w + 1 + 3), .ref (w + 1 + 4), .ref (w + 1 + 5), .ref (w + 1 + 6), .int 0, .int 0, .int 0, .ref (w + 1 + 7), .ref (w + 1 + 8), .ref (w + 1 + 9), .ref (w + 1 + 10), .ref (w + 1 + 11), .ref (w + 1 + 12), .ref (w + 1 + 13), .ref (w + 1 + 14), .ref (w + 1 + 15), .ref (w + 1 + 16), .ref (w + 1 + 17), .ref (w + 1 + 18), .ref (w + 1 + 19), .ref (w + 1 + 20), .null, .null, .null, .null, .null, .null, .int 0, .int 0, .int 0, .int 0, .int 0, .int 0, .null, .null, .null, .null, .int 0, .int 0, .long 0, .int 0, .int 0, .int 0, .int 0, .int 0, .int 0, .int 0, .long 0, .null, .int 0, .int 0, .long 0, .int 0] := by
  show (tfs w 20 fs0).set 28 (.ref (w + 1 + 20)) = _
  rw [f_20]; rfl
theorem f_22 (w : Nat) : tfs w 22 fs0 = [.int 0, .ref (w + 1 + 0), .ref (w + 1 + 1), .ref (w + 1 + 2), .int 0, .int 0, .int 0, .int 0, .ref (w + 1 + 3), .ref (w + 1 + 4), .ref (w + 1 + 5), .ref (w + 1 + 6), .int 0, .int 0, .int 0, .ref (w + 1 + 7), .ref (w + 1 + 8), .ref (w + 1 + 9), .ref (w + 1 + 10), .ref (w + 1 + 11), .ref (w + 1 + 12), .ref (w + 1 + 13), .ref (w + 1 + 14), .ref (w + 1 + 15), .ref (w + 1 + 16), .ref (w + 1 + 17), .ref (w + 1 + 18), .ref (w + 1 + 19), .ref (w + 1 + 20), .ref (w + 1 + 21), .null, .null, .null, .null, .null, .int 0, .int 0, .int 0, .int 0, .int 0, .int 0, .null, .null, .null, .null, .int 0, .int 0, .long 0, .int 0, .int 0, .int 0, .int 0, .int 0, .int 0, .int 0, .long 0, .null, .int 0, .int 0, .long 0, .int 0] := by
  show (tfs w 21 fs0).set 29 (.ref (w + 1 + 21)) = _
  rw [f_21]; rfl
theorem f_23 (w : Nat) : tfs w 23 fs0 = [.int 0, .ref (w + 1 + 0), .ref (w + 1 + 1), .ref (w + 1 + 2), .int 0, .int 0, .int 0, .int 0, .ref (w + 1 + 3), .ref (w + 1 + 4), .ref (w + 1 + 5), .ref (w + 1 + 6), .int 0, .int 0, .int 0, .ref (w + 1 + 7), .ref (w + 1 + 8), .ref (w + 1 + 9), .ref (w + 1 + 10), .ref (w + 1 + 11), .ref (w + 1 + 12), .ref (w + 1 + 13), .ref (w + 1 + 14), .ref (w + 1 + 15), .ref (w + 1 + 16), .ref (w + 1 + 17), .ref (w + 1 + 18), .ref (w + 1 + 19), .ref (w + 1 + 20), .ref (w + 1 + 21), .ref (w + 1 + 22), .null, .null, .null, .null, .int 0, .int 0, .int 0, .int 0, .int 0, .int 0, .null, .null, .null, .null, .int 0, .int 0, .long 0, .int 0, .int 0, .int 0, .int 0, .int 0, .int 0, .int 0, .long 0, .null, .int 0, .int 0, .long 0, .int 0] := by
  show (tfs w 22 fs0).set 30 (.ref (w + 1 + 22)) = _
  rw [f_22]; rfl
theorem f_24 (w : Nat) : tfs w 24 fs0 = [.int 0, .ref (w + 1 + 0), .ref (w + 1 + 1), .ref (w + 1 + 2), .int 0, .int 0, .int 0, .int 0, .ref (w + 1 + 3), .ref (w + 1 + 4), .ref (w + 1 + 5), .ref (w + 1 + 6), .int 0, .int 0, .int 0, .ref (w + 1 + 7), .ref (w + 1 + 8), .ref (w + 1 + 9), .ref (w + 1 + 10), .ref (w + 1 + 11), .ref (w + 1 + 12), .ref (w + 1 + 13), .ref (w + 1 + 14), .ref (w + 1 + 15), .ref (w + 1 + 16), .ref (w + 1 + 17), .ref (w + 1 + 18), .ref (w + 1 + 19), .ref (w + 1 + 20), .ref (w + 1 + 21), .ref (w + 1 + 22), .ref (w + 1 + 23), .null, .null, .null, .int 0, .int 0, .int 0, .int 0, .int 0, .int 0, .null, .null, .null, .null, .int 0, .int 0, .long 0, .int 0, .int 0, .int 0, .int 0, .int 0, .int 0, .int 0, .long 0, .null, .int 0, .int 0, .long 0, .int 0] := by
  show (tfs w 23 fs0).set 31 (.ref (w + 1 + 23)) = _
  rw [f_23]; rfl
theorem f_25 (w : Nat) : tfs w 25 fs0 = [.int 0, .ref (w + 1 + 0), .ref (w + 1 + 1), .ref (w + 1 + 2), .int 0, .int 0, .int 0, .int 0, .ref (w + 1 + 3), .ref (w + 1 + 4), .ref (w + 1 + 5), .ref (w + 1 + 6), .int 0, .int 0, .int 0, .ref (w + 1 + 7), .ref (w + 1 + 8), .ref (w + 1 + 9), .ref (w + 1 + 10), .ref (w + 1 + 11), .ref (w + 1 + 12), .ref (w + 1 + 13), .ref (w + 1 + 14), .ref (w + 1 + 15), .ref (w + 1 + 16), .ref (w + 1 + 17), .ref (w + 1 + 18), .ref (w + 1 + 19), .ref (w + 1 + 20), .ref (w + 1 + 21), .ref (w + 1 + 22), .ref (w + 1 + 23), .ref (w + 1 + 24), .null, .null, .int 0, .int 0, .int 0, .int 0, .int 0, .int 0, .null, .null, .null, .null, .int 0, .int 0, .long 0, .int 0, .int 0, .int 0, .int 0, .int 0, .int 0, .int 0, .long 0, .null, .int 0, .int 0, .long 0, .int 0] := by
  show (tfs w 24 fs0).set 32 (.ref (w + 1 + 24)) = _
  rw [f_24]; rfl
theorem f_26 (w : Nat) : tfs w 26 fs0 = [.int 0, .ref (w + 1 + 0), .ref (w + 1 + 1), .ref (w + 1 + 2), .int 0, .int 0, .int 0, .int 0, .ref (w + 1 + 3), .ref (w + 1 + 4), .ref (w + 1 + 5), .ref (w + 1 + 6), .int 0, .int 0, .int 0, .ref (w + 1 + 7), .ref (w + 1 + 8), .ref (w + 1 + 9), .ref (w + 1 + 10), .ref (w + 1 + 11), .ref (w + 1 + 12), .ref (w + 1 + 13), .ref (w + 1 + 14), .ref (w + 1 + 15), .ref (w + 1 + 16), .ref (w + 1 + 17), .ref (w + 1 + 18), .ref (w + 1 + 19), .ref (w + 1 + 20), .ref (w + 1 + 21), .ref (w + 1 + 22), .ref (w + 1 + 23), .ref (w + 1 + 24), .ref (w + 1 + 25), .null, .int 0, .int 0, .int 0, .int 0, .int 0, .int 0, .null, .null, .null, .null, .int 0, .int 0, .long 0, .int 0, .int 0, .int 0, .int 0, .int 0, .int 0, .int 0, .long 0, .null, .int 0, .int 0, .long 0, .int 0] := by
  show (tfs w 25 fs0).set 33 (.ref (w + 1 + 25)) = _
  rw [f_25]; rfl
theorem f_27 (w : Nat) : tfs w 27 fs0 = [.int 0, .ref (w + 1 + 0), .ref (w + 1 + 1), .ref (w + 1 + 2), .int 0, .int 0, .int 0, .int 0, .ref (w + 1 + 3), .ref (w + 1 + 4), .ref (w + 1 + 5), .ref (w + 1 + 6), .int 0, .int 0, .int 0, .ref (w + 1 + 7), .ref (w + 1 + 8), .ref (w + 1 + 9), .ref (w + 1 + 10), .ref (w + 1 + 11), .ref (w + 1 + 12), .ref (w + 1 + 13), .ref (w + 1 + 14), .ref (w + 1 + 15), .ref (w + 1 + 16), .ref (w + 1 + 17), .ref (w + 1 + 18), .ref (w + 1 + 19), .ref (w + 1 + 20), .ref (w + 1 + 21), .ref (w + 1 + 22), .ref (w + 1 + 23), .ref (w + 1 + 24), .ref (w + 1 + 25), .ref (w + 1 + 26), .int 0, .int 0, .int 0, .int 0, .int 0, .int 0, .null, .null, .null, .null, .int 0, .int 0, .long 0, .int 0, .int 0, .int 0, .int 0, .int 0, .int 0, .int 0, .long 0, .null, .int 0, .int 0, .long 0, .int 0] := by
  show (tfs w 26 fs0).set 34 (.ref (w + 1 + 26)) = _
  rw [f_26]; rfl
theorem f_28 (w : Nat) : tfs w 28 fs0 = [.int 0, .ref (w + 1 + 0), .ref (w + 1 + 1), .ref (w + 1 + 2), .int 0, .int 0, .int 0, .int 0, .ref (w + 1 + 3), .ref (w + 1 + 4), .ref (w + 1 + 5), .ref (w + 1 + 6), .int 0, .int 0, .int 0, .ref (w + 1 + 7), .ref (w + 1 + 8), .ref (w + 1 + 9), .ref (w + 1 + 10), .ref (w + 1 + 11), .ref (w + 1 + 12), .ref (w + 1 + 13), .ref (w + 1 + 14), .ref (w + 1 + 15), .ref (w + 1 + 16), .ref (w + 1 + 17), .ref (w + 1 + 18), .ref (w + 1 + 19), .ref (w + 1 + 20), .ref (w + 1 + 21), .ref (w + 1 + 22), .ref (w + 1 + 23), .ref (w + 1 + 24), .ref (w + 1 + 25), .ref (w + 1 + 26), .int 0, .int 0, .int 0, .int 0, .int 0, .int 0, .ref (w + 1 + 27), .null, .null, .null, .int 0, .int 0, .long 0, .int 0, .int 0, .int 0, .int 0, .int 0, .int 0, .int 0, .long 0, .null, .int 0, .int 0, .long 0, .int 0] := by
  show (tfs w 27 fs0).set 41 (.ref (w + 1 + 27)) = _
  rw [f_27]; rfl
theorem f_29 (w : Nat) : tfs w 29 fs0 = [.int 0, .ref (w + 1 + 0), .ref (w + 1 + 1), .ref (w + 1 + 2), .int 0, .int 0, .int 0, .int 0, .ref (w + 1 + 3), .ref (w + 1 + 4), .ref (w + 1 + 5), .ref (w + 1 + 6), .int 0, .int 0, .int 0, .ref (w + 1 + 7), .ref (w + 1 + 8), .ref (w + 1 + 9), .ref (w + 1 + 10), .ref (w + 1 + 11), .ref (w + 1 + 12), .ref (w + 1 + 13), .ref (w + 1 + 14), .ref (w + 1 + 15), .ref (w + 1 + 16), .ref (w + 1 + 17), .ref (w + 1 + 18), .ref (w + 1 + 19), .ref (w + 1 + 20), .ref (w + 1 + 21), .ref (w + 1 + 22), .ref (w + 1 + 23), .ref (w + 1 + 24), .ref (w + 1 + 25), .ref (w + 1 + 26), .int 0, .int 0, .int 0, .int 0, .int 0, .int 0, .ref (w + 1 + 27), .ref (w + 1 + 28), .null, .null, .int 0, .int 0, .long 0, .int 0, .int 0, .int 0, .int 0, .int 0, .int 0, .int 0, .long 0, .null, .int 0, .int 0, .long 0, .int 0] := by
  show (tfs w 28 fs0).set 42 (.ref (w + 1 + 28)) = _
  rw [f_28]; rfl
theorem f_30 (w : Nat) : tfs w 30 fs0 = [.int 0, .ref (w + 1 + 0), .ref (w + 1 + 1), .ref (w + 1 + 2), .int 0, .int 0, .int 0, .int 0, .ref (w + 1 + 3), .ref (w + 1 + 4), .ref (w + 1 + 5), .ref (w + 1 + 6), .int 0, .int 0, .int 0, .ref (w + 1 + 7), .ref (w + 1 + 8), .ref (w + 1 + 9), .ref (w + 1 + 10), .ref (w + 1 + 11), .ref (w + 1 + 12), .ref (w + 1 + 13), .ref (w + 1 + 14), .ref (w + 1 + 15), .ref (w + 1 + 16), .ref (w + 1 + 17), .ref (w + 1 + 18), .ref (w + 1 + 19), .ref (w + 1 + 20), .ref (w + 1 + 21), .ref (w + 1 + 22), .ref (w + 1 + 23), .ref (w + 1 + 24), .ref (w + 1 + 25), .ref (w + 1 + 26), .int 0, .int 0, .int 0, .int 0, .int 0, .int 0, .ref (w + 1 + 27), .ref (w + 1 + 28), .ref (w + 1 + 29), .null, .int 0, .int 0, .long 0, .int 0, .int 0, .int 0, .int 0, .int 0, .int 0, .int 0, .long 0, .null, .int 0, .int 0, .long 0, .int 0] := by
  show (tfs w 29 fs0).set 43 (.ref (w + 1 + 29)) = _
  rw [f_29]; rfl
theorem f_31 (w : Nat) : tfs w 31 fs0 = [.int 0, .ref (w + 1 + 0), .ref (w + 1 + 1), .ref (w + 1 + 2), .int 0, .int 0, .int 0, .int 0, .ref (w + 1 + 3), .ref (w + 1 + 4), .ref (w + 1 + 5), .ref (w + 1 + 6), .int 0, .int 0, .int 0, .ref (w + 1 + 7), .ref (w + 1 + 8), .ref (w + 1 + 9), .ref (w + 1 + 10), .ref (w + 1 + 11), .ref (w + 1 + 12), .ref (w + 1 + 13), .ref (w + 1 + 14), .ref (w + 1 + 15), .ref (w + 1 + 16), .ref (w + 1 + 17), .ref (w + 1 + 18), .ref (w + 1 + 19), .ref (w + 1 + 20), .ref (w + 1 + 21), .ref (w + 1 + 22), .ref (w + 1 + 23), .ref (w + 1 + 24), .ref (w + 1 + 25), .ref (w + 1 + 26), .int 0, .int 0, .int 0, .int 0, .int 0, .int 0, .ref (w + 1 + 27), .ref (w + 1 + 28), .ref (w + 1 + 29), .ref (w + 1 + 30), .int 0, .int 0, .long 0, .int 0, .int 0, .int 0, .int 0, .int 0, .int 0, .int 0, .long 0, .null, .int 0, .int 0, .long 0, .int 0] := by
  show (tfs w 30 fs0).set 44 (.ref (w + 1 + 30)) = _
  rw [f_30]; rfl
theorem f_32 (w : Nat) : tfs w 32 fs0 = [.int 0, .ref (w + 1 + 0), .ref (w + 1 + 1), .ref (w + 1 + 2), .int 0, .int 0, .int 0, .int 0, .ref (w + 1 + 3), .ref (w + 1 + 4), .ref (w + 1 + 5), .ref (w + 1 + 6), .int 0, .int 0, .int 0, .ref (w + 1 + 7), .ref (w + 1 + 8), .ref (w + 1 + 9), .ref (w + 1 + 10), .ref (w + 1 + 11), .ref (w + 1 + 12), .ref (w + 1 + 13), .ref (w + 1 + 14), .ref (w + 1 + 15), .ref (w + 1 + 16), .ref (w + 1 + 17), .ref (w + 1 + 18), .ref (w + 1 + 19), .ref (w + 1 + 20), .ref (w + 1 + 21), .ref (w + 1 + 22), .ref (w + 1 + 23), .ref (w + 1 + 24), .ref (w + 1 + 25), .ref (w + 1 + 26), .int 0, .int 0, .int 0, .int 0, .int 0, .int 0, .ref (w + 1 + 27), .ref (w + 1 + 28), .ref (w + 1 + 29), .ref (w + 1 + 30), .int 0, .int 0, .long 0, .int 0, .int 0, .int 0, .int 0, .int 0, .int 0, .int 0, .long 0, .ref (w + 1 + 31), .int 0, .int 0, .long 0, .int 0] := by
  show (tfs w 31 fs0).set 56 (.ref (w + 1 + 31)) = _
  rw [f_31]; rfl
theorem fs0_tfl (w : Nat) : tfs w 32 fs0 = tfl (p, l, e, s, D, cA, K, w, T11 w) t0 := (f_32 w).trans rfl
theorem law_go {b L : Nat} {xs : Nat → Int} {z0 z1 : Nat} (hroom : RoomOK) (hgf : GF (p, l, e, s, D, cA, K, 0, T00)) (hGG : ∀ w, w ≠ 0 → GG (p, l, e, s, D, cA, K, w, T11 w)) (hS : ScA (p, l, e, s, D, cA, K, 0, T00) b L xs) (hx : ∀ j, rg (xs j)) (hZ : Zs (p, l, e, s, D, cA, K, 0, T00) (st0 s.heap.size z0 z1)) :
    U (p, l, e, s, D, cA, K, 0, T00) mlaw 120 0 [(0, vr (some b))] [] s.heap 973681 6175061 (lQ (p, l, e, s, D, cA, K, 0, T00) Qf) := by
  obtain ⟨Φ, hB, hS', h0⟩ := hroom
  obtain ⟨g, eg⟩ : ∃ g : GE, g = (p, l, e, s, D, cA, K, 0, T00) := ⟨_, rfl⟩
  obtain ⟨σ0, e0⟩ : ∃ X, X = st0 s.heap.size z0 z1 := ⟨_, rfl⟩
  have zZ : sZ σ0 = s.heap.size := by rw [e0]; rfl
  have zS : sS σ0 = 0 ∧ sC σ0 = 0 := by rw [e0]; exact ⟨rfl, rfl⟩
  have R0 : Rep g σ0 t0 s.heap := by
    rw [eg, e0]
    exact ⟨⟨id, fun a ha => absurd rfl ha, fun q => absurd rfl q⟩, rfl, Nat.le_refl _, hZ, fun q _ => rfl⟩
  have hRm : gRm g = (973681, 6175061) := by rw [eg]; rfl
  have c0 : sc (nO σ0 1 7) (sZ σ0) = 1 := by rw [sc_nO_, if_pos rfl]
  obtain ⟨σ1, le1, W1, q1⟩ := ws_init_eq (σ := nO σ0 1 7) (a0 := sZ σ0) c0 (Nat.lt_succ_self _)
  have W1 : WsI (sZ σ0) (nO σ0 1 7) σ1 := W1
  have n1 : sS σ1 = 2040 := by have := W1.2.2.2.2.2.2.2.2.2.2.1; rw [this]; show sS σ0 + 7 + 2033 = 2040; omega
  have n2 : sC σ1 = 13 := by have := W1.2.2.2.2.2.2.2.2.2.2.2; rw [this]; show sC σ0 + 1 + 12 = 13; omega
  have n3 : sZ σ1 = s.heap.size + 13 := by have := W1.2.2.2.2.2.2.2.2.2.1; rw [this]; show sZ σ0 + 1 + 12 = _; omega
  have eI : ws_init (gRm g) (sZ σ0) (nO σ0 1 7) = some σ1 := q1 (gRm g) (by rw [hRm]; exact ⟨by show sC σ1 ≤ 973681; omega, by show sS σ1 ≤ 6175061; omega⟩)
  have r0 : rm (gRm g) σ0 7 := by rw [hRm]; exact ⟨by show sC σ0 + 1 ≤ 973681; omega, by show sS σ0 + 7 ≤ 6175061; omega⟩
  have G0 : GF g := by rw [eg]; exact hgf
  have v0 : Sm (V g mlaw 120 0 [(0, vr (some b))] [] σ0 t0 Qf) ((ws_init (gRm g) (sZ σ0) (nO σ0 1 7)).bind some) (fun y => V g mlaw 120 8 [(0, vr (some b)), (1, vr (some (sZ σ0)))] [] y t0 Qf) := by
    refine sm_new cd0 rfl q166 q167 q131 (new_0 σ0) r0 (by decide +kernel) ?_
    refine sm_b (l' := [(0, vr (some b))]) (st' := [vr (some (sZ σ0)), vr (some (sZ σ0))]) (pc' := 4) [(.dup, vi 0, 4)] (by decide +kernel) rfl rfl ?_
    refine sm_ci (N := mX0_init) (d' := 119) [] [vr (some (sZ σ0))] rfl (by decide +kernel) q168 q169 rfl q170 rfl rfl (show okN yX0_init 0 = true by decide +kernel) rfl rfl (by omega) rfl (fun Q' => ws_init_ok0 G0 119 (by omega) (sZ σ0) (nO σ0 1 7) Q') (fun y => ?_)
    refine sm_b (l' := [(0, vr (some b)), (1, vr (some (sZ σ0)))]) (st' := []) (pc' := 8) [(.astore_n 1, vi 0, 8)] (by decide +kernel) rfl rfl ?_
    intro hx
    obtain ⟨y', e1, h1⟩ := hx
    cases e1
    exact h1
  have k8 : V g mlaw 120 8 [(0, vr (some b)), (1, vr (some (sZ σ0)))] [] σ1 t0 Qf := by
    intro H1 hR1
    have hz : H1.size = sZ σ1 := hR1.2.1
    have rc1 : rC g σ1 = 973668 := by rw [eg]; show 973681 - sC σ1 = _; omega
    have rs1 : rS g σ1 = 6173021 := by rw [eg]; show 6175061 - sS σ1 = _; omega
    rw [rc1, rs1]
    have hts : tsl 32 = 29817 := by decide +kernel
    refine U.new (ci := 4) cd4 q1412 q1413 q138 (fs := fs0) fs0_ok (by omega) (by omega) (by decide +kernel) (fun H2 a1 a2 a3 => ?_)
    refine U.b (l' := [(0, vr (some b)), (1, vr (some (sZ σ0)))]) (st' := [vr (some H1.size), vr (some H1.size)]) (pc' := 12) (is := [(.dup, vi 0, 12)]) (by decide +kernel) rfl rfl ?_
    refine U.ci (N := mX4_init) (d' := 119) [] [vr (some H1.size)] rfl (by decide +kernel) q1414 q1415 rfl q1416 rfl rfl (show okN yX4_init 0 = true by decide +kernel) rfl rfl (by omega) rfl ?_
    refine U.minit (fs := fs0) (H0 := H1) ⟨by rw [a2], a1, a3, fun i hi => absurd hi (Nat.not_lt_zero _)⟩ (by rw [eg, hz]; show s.heap.size ≤ sZ σ1; omega) rfl (by omega) (by omega) (by omega) (fun H3 hT => ?_)
    refine U.b (l' := [(0, vr (some b)), (1, vr (some (sZ σ0))), (2, vr (some H1.size)), (3, vi 0)]) (st' := []) (pc' := 18) (is := [(.astore_n 2, vi 0, 16), (.iconst 0, vi 0, 17), (.istore_n 3, vi 0, 18)]) (by decide +kernel) rfl rfl ?_
    rw [hts]
    have w0 : H1.size ≠ 0 := by omega
    have hR3 : Rep (p, l, e, s, D, cA, K, H1.size, T11 H1.size) (gz σ1) t0 H3 := by
      rw [eg] at hR1 hT
      exact rep_new hR1 rfl hT (fs0_tfl _) (fun k hk => by
        unfold T11
        have : k < 57 := Classical.byContradiction (fun c => hk (tln_big c))
        rw [if_neg (by omega), if_neg (by omega)])
    have i2 : sI (nO σ0 1 7) 2 (sZ σ0) = 0 := by rw [sI_nO_, if_pos rfl]
    have i3 : sI (nO σ0 1 7) 3 (sZ σ0) = 0 := by rw [sI_nO_, if_pos rfl]
    have ai := init_AI W1 (Nat.lt_succ_self _) i2 i3
    have gs : sS (gz σ1) = 31918 := by show sS σ1 + 29878 = _; omega
    have gc : sC (gz σ1) = 46 := by show sC σ1 + 33 = _; omega
    obtain ⟨σ', τ', b1, b2, b3, b4, q⟩ := lawL_eq (a0 := sZ σ0) (Φ := Φ) (BS := 6143143) (BC := 973635) (s0 := 31918) (c0 := 46) (L := L) hB hS' hx hS.2.1 65 0 _ 0 0 (gz σ1) t0 ai (h0 _) (by omega) (by omega) (by omega) (by omega)
    have eL : lawL (gRm (p, l, e, s, D, cA, K, H1.size, T11 H1.size)) (sZ σ0) xs L 65 0 (gz σ1) t0 = some (1, σ', τ') := q _ ⟨by show sC σ' ≤ 973681; omega, by show sS σ' ≤ 6175061; omega⟩
    have hS1 : ScA (p, l, e, s, D, cA, K, H1.size, T11 H1.size) b L xs := hS
    have vv : V (p, l, e, s, D, cA, K, H1.size, T11 H1.size) mlaw 120 18 [(0, vr (some b)), (1, vr (some (sZ σ0))), (2, vr (some H1.size)), (3, vi 0)] [] (gz σ1) t0 Qf := lawL_ok (hGG H1.size w0) hS1 (by omega) 65 0 (gz σ1) t0 ⟨_, eL, rfl⟩
    have uu := V.at (g := (p, l, e, s, D, cA, K, H1.size, T11 H1.size)) (rc := 973668 - 1 - 32) (rs := 6173021 - 61 - 29817) (by show 973681 - sC (gz σ1) = _; omega) (by show 6175061 - sS (gz σ1) = _; omega) vv hR3
    rw [eg]
    refine (U.mono uu (Q2 := lQ (p, l, e, s, D, cA, K, 0, T00) Qf) ?_ ?_)
    · intro v H' rc' rs' hq
      obtain ⟨σ2, τ2, u1, u2, u3, u4⟩ := hq
      exact ⟨σ2, τ2, rep_old u1, u2, u3, u4⟩
    · intro v H' rc' rs' hq
      obtain ⟨σ2, τ2, u1, u2, u3, u4⟩ := hq
      exact u4.elim
  have fin := v0 (by rw [eI]; exact ⟨σ1, rfl, k8⟩) s.heap R0
  have rc0 : rC g σ0 = 973681 := by rw [eg]; show 973681 - sC σ0 = _; omega
  have rs0 : rS g σ0 = 6175061 := by rw [eg]; show 6175061 - sS σ0 = _; omega
  rw [rc0, rs0, eg] at fin
  exact fin
end Ct
