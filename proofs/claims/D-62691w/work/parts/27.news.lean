set_option maxRecDepth 100000
/-! a new object's fields -/
theorem new_0 (σ : ST) : ∀ j, j < 7 → defaultValue (tyX0 j) = vp_V (fl (nO σ 1 7) 0 (sZ σ)) j := by
  have e : fl (nO σ 1 7) 0 (sZ σ) = [.null, .null, .int 0, .int 0, .null, .null, .null] := by
    simp [fl, nO, sI, sJ, sR, sZ, up, va_rf]
  rw [e]
  intro j hj
  rcases j with _ | _ | _ | _ | _ | _ | _ | j
  · rfl
  · rfl
  · rfl
  · rfl
  · rfl
  · rfl
  · rfl
  · omega
theorem new_1 (σ : ST) : ∀ j, j < 7 → defaultValue (tyX1 j) = vp_V (fl (nO σ 2 7) 1 (sZ σ)) j := by
  have e : fl (nO σ 2 7) 1 (sZ σ) = [.null, .null, .null, .null, .int 0, .int 0, .int 0] := by
    simp [fl, nO, sI, sJ, sR, sZ, up, va_rf]
  rw [e]
  intro j hj
  rcases j with _ | _ | _ | _ | _ | _ | _ | j
  · rfl
  · rfl
  · rfl
  · rfl
  · rfl
  · rfl
  · rfl
  · omega
theorem new_2 (σ : ST) : ∀ j, j < 4 → defaultValue (tyX2 j) = vp_V (fl (nO σ 3 4) 2 (sZ σ)) j := by
  have e : fl (nO σ 3 4) 2 (sZ σ) = [.null, .null, .null, .null] := by
    simp [fl, nO, sI, sJ, sR, sZ, up, va_rf]
  rw [e]
  intro j hj
  rcases j with _ | _ | _ | _ | j
  · rfl
  · rfl
  · rfl
  · rfl
  · omega
theorem new_5 (σ : ST) : ∀ j, j < 7 → defaultValue (tyX5 j) = vp_V (fl (nO σ 6 7) 5 (sZ σ)) j := by
  have e : fl (nO σ 6 7) 5 (sZ σ) = [.null, .int 0, .int 0, .int 0, .int 0, .int 0, .null] := by
    simp [fl, nO, sI, sJ, sR, sZ, up, va_rf]
  rw [e]
  intro j hj
  rcases j with _ | _ | _ | _ | _ | _ | _ | j
  · rfl
  · rfl
  · rfl
  · rfl
  · rfl
  · rfl
  · rfl
  · omega
theorem new_6 (σ : ST) : ∀ j, j < 8 → defaultValue (tyX6 j) = vp_V (fl (nO σ 7 8) 6 (sZ σ)) j := by
  have e : fl (nO σ 7 8) 6 (sZ σ) = [.int 0, .null, .null, .null, .null, .null, .int 0, .null] := by
    simp [fl, nO, sI, sJ, sR, sZ, up, va_rf]
  rw [e]
  intro j hj
  rcases j with _ | _ | _ | _ | _ | _ | _ | _ | j
  · rfl
  · rfl
  · rfl
  · rfl
  · rfl
  · rfl
  · rfl
  · rfl
  · omega
theorem new_7 (σ : ST) : ∀ j, j < 4 → defaultValue (tyX7 j) = vp_V (fl (nO σ 8 4) 7 (sZ σ)) j := by
  have e : fl (nO σ 8 4) 7 (sZ σ) = [.int 0, .null, .null, .null] := by
    simp [fl, nO, sI, sJ, sR, sZ, up, va_rf]
  rw [e]
  intro j hj
  rcases j with _ | _ | _ | _ | j
  · rfl
  · rfl
  · rfl
  · rfl
  · omega
theorem new_8 (σ : ST) : ∀ j, j < 12 → defaultValue (tyX8 j) = vp_V (fl (nO σ 9 12) 8 (sZ σ)) j := by
  have e : fl (nO σ 9 12) 8 (sZ σ) = [.null, .null, .null, .int 0, .int 0, .int 0, .int 0, .int 0, .int 0, .null, .null, .null] := by
    simp [fl, nO, sI, sJ, sR, sZ, up, va_rf]
  rw [e]
  intro j hj
  rcases j with _ | _ | _ | _ | _ | _ | _ | _ | _ | _ | _ | _ | j
  · rfl
  · rfl
  · rfl
  · rfl
  · rfl
  · rfl
  · rfl
  · rfl
  · rfl
  · rfl
  · rfl
  · rfl
  · omega
theorem new_9 (σ : ST) : ∀ j, j < 1 → defaultValue (tyX9 j) = vp_V (fl (nO σ 10 1) 9 (sZ σ)) j := by
  have e : fl (nO σ 10 1) 9 (sZ σ) = [.null] := by
    simp [fl, nO, sI, sJ, sR, sZ, up, va_rf]
  rw [e]
  intro j hj
  rcases j with _ | j
  · rfl
  · omega
theorem new_10 (σ : ST) : ∀ j, j < 4 → defaultValue (tyX10 j) = vp_V (fl (nO σ 11 4) 10 (sZ σ)) j := by
  have e : fl (nO σ 11 4) 10 (sZ σ) = [.null, .null, .null, .null] := by
    simp [fl, nO, sI, sJ, sR, sZ, up, va_rf]
  rw [e]
  intro j hj
  rcases j with _ | _ | _ | _ | j
  · rfl
  · rfl
  · rfl
  · rfl
  · omega
theorem new_11 (σ : ST) : ∀ j, j < 2 → defaultValue (tyX11 j) = vp_V (fl (nO σ 12 2) 11 (sZ σ)) j := by
  have e : fl (nO σ 12 2) 11 (sZ σ) = [.null, .int 0] := by
    simp [fl, nO, sI, sJ, sR, sZ, up, va_rf]
  rw [e]
  intro j hj
  rcases j with _ | _ | j
  · rfl
  · rfl
  · omega
theorem new_12 (σ : ST) : ∀ j, j < 5 → defaultValue (tyX12 j) = vp_V (fl (nO σ 13 5) 12 (sZ σ)) j := by
  have e : fl (nO σ 13 5) 12 (sZ σ) = [.null, .long 0, .null, .null, .null] := by
    simp [fl, nO, sI, sJ, sR, sZ, up, va_rf]
  rw [e]
  intro j hj
  rcases j with _ | _ | _ | _ | _ | j
  · rfl
  · rfl
  · rfl
  · rfl
  · rfl
  · omega
theorem new_13 (σ : ST) : ∀ j, j < 5 → defaultValue (tyX14 j) = vp_V (fl (nO σ 14 5) 13 (sZ σ)) j := by
  have e : fl (nO σ 14 5) 13 (sZ σ) = [.null, .int 0, .int 0, .null, .null] := by
    simp [fl, nO, sI, sJ, sR, sZ, up, va_rf]
  rw [e]
  intro j hj
  rcases j with _ | _ | _ | _ | _ | j
  · rfl
  · rfl
  · rfl
  · rfl
  · rfl
  · omega
theorem new_14 (σ : ST) : ∀ j, j < 3 → defaultValue (tyX15 j) = vp_V (fl (nO σ 15 3) 14 (sZ σ)) j := by
  have e : fl (nO σ 15 3) 14 (sZ σ) = [.int 0, .int 0, .long 0] := by
    simp [fl, nO, sI, sJ, sR, sZ, up, va_rf]
  rw [e]
  intro j hj
  rcases j with _ | _ | _ | j
  · rfl
  · rfl
  · rfl
  · omega
