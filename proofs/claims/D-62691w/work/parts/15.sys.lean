set_option maxRecDepth 100000
/-! changes of the system's state -/
/-- an int field, a long field, a reference field of an object gets a value -/
def pI (σ : ST) (k a : Nat) (v : Int) : ST := (sc σ, up (sI σ) k (up (sI σ k) a v), sJ σ, sR σ, sW σ, sA σ, sN σ, sB σ, sE σ, sF σ, sH σ, sZ σ, sC σ, sS σ)
def pJ (σ : ST) (k a : Nat) (v : Int64) : ST := (sc σ, sI σ, up (sJ σ) k (up (sJ σ k) a v), sR σ, sW σ, sA σ, sN σ, sB σ, sE σ, sF σ, sH σ, sZ σ, sC σ, sS σ)
def pR (σ : ST) (k a : Nat) (v : Option Nat) : ST := (sc σ, sI σ, sJ σ, up (sR σ) k (up (sR σ k) a v), sW σ, sA σ, sN σ, sB σ, sE σ, sF σ, sH σ, sZ σ, sC σ, sS σ)
/-- an element of a byte array, an int array, an array of fields gets a value -/
def pB (σ : ST) (a i : Nat) (v : UInt8) : ST := (sc σ, sI σ, sJ σ, sR σ, sW σ, sA σ, sN σ, up (sB σ) a (up (sB σ a) i v), sE σ, sF σ, sH σ, sZ σ, sC σ, sS σ)
def pE (σ : ST) (a i : Nat) (v : Int) : ST := (sc σ, sI σ, sJ σ, sR σ, sW σ, sA σ, sN σ, sB σ, up (sE σ) a (up (sE σ a) i v), sF σ, sH σ, sZ σ, sC σ, sS σ)
def pF (σ : ST) (a i : Nat) (v : Option Nat) : ST := (sc σ, sI σ, sJ σ, sR σ, sW σ, sA σ, sN σ, sB σ, sE σ, up (sF σ) a (up (sF σ a) i v), sH σ, sZ σ, sC σ, sS σ)
/-- a new object of tag t with n fields -/
def nO (σ : ST) (t n : Nat) : ST := (up (sc σ) (sZ σ) t, fun k => up (sI σ k) (sZ σ) 0, fun k => up (sJ σ k) (sZ σ) 0, fun k => up (sR σ k) (sZ σ) none, sW σ, sA σ, sN σ, sB σ, sE σ, sF σ, sH σ, sZ σ + 1, sC σ + 1, sS σ + n)
/-- a new array of n elements: of bytes, of ints, of fields -/
def nB (σ : ST) (n : Nat) : ST := (up (sc σ) (sZ σ) 101, sI σ, sJ σ, sR σ, sW σ, sA σ, up (sN σ) (sZ σ) n, up (sB σ) (sZ σ) (fun _ => 0), sE σ, sF σ, sH σ, sZ σ + 1, sC σ + 1, sS σ + n)
def nE (σ : ST) (n : Nat) : ST := (up (sc σ) (sZ σ) 102, sI σ, sJ σ, sR σ, sW σ, sA σ, up (sN σ) (sZ σ) n, sB σ, up (sE σ) (sZ σ) (fun _ => 0), sF σ, sH σ, sZ σ + 1, sC σ + 1, sS σ + n)
def nF (σ : ST) (n : Nat) : ST := (up (sc σ) (sZ σ) 103, sI σ, sJ σ, sR σ, sW σ, sA σ, up (sN σ) (sZ σ) n, sB σ, sE σ, up (sF σ) (sZ σ) (fun _ => none), sH σ, sZ σ + 1, sC σ + 1, sS σ + n)
theorem sc_pI (σ : ST) (k a : Nat) (v : Int) : sc (pI σ k a v) = sc σ := rfl
theorem sI_pI (σ : ST) (k a : Nat) (v : Int) (j b : Nat) : sI (pI σ k a v) j b = if j = k ∧ b = a then v else sI σ j b := by
  show up (sI σ) k (up (sI σ k) a v) j b = _
  unfold up
  by_cases h : j = k
  · subst h; by_cases h2 : b = a <;> simp [h2]
  · simp [h]
theorem sJ_pI (σ : ST) (k a : Nat) (v : Int) : sJ (pI σ k a v) = sJ σ := rfl
theorem sR_pI (σ : ST) (k a : Nat) (v : Int) : sR (pI σ k a v) = sR σ := rfl
theorem sW_pI (σ : ST) (k a : Nat) (v : Int) : sW (pI σ k a v) = sW σ := rfl
theorem sA_pI (σ : ST) (k a : Nat) (v : Int) : sA (pI σ k a v) = sA σ := rfl
theorem sN_pI (σ : ST) (k a : Nat) (v : Int) : sN (pI σ k a v) = sN σ := rfl
theorem sB_pI (σ : ST) (k a : Nat) (v : Int) : sB (pI σ k a v) = sB σ := rfl
theorem sE_pI (σ : ST) (k a : Nat) (v : Int) : sE (pI σ k a v) = sE σ := rfl
theorem sF_pI (σ : ST) (k a : Nat) (v : Int) : sF (pI σ k a v) = sF σ := rfl
theorem sH_pI (σ : ST) (k a : Nat) (v : Int) : sH (pI σ k a v) = sH σ := rfl
theorem sZ_pI (σ : ST) (k a : Nat) (v : Int) : sZ (pI σ k a v) = sZ σ := rfl
theorem sC_pI (σ : ST) (k a : Nat) (v : Int) : sC (pI σ k a v) = sC σ := rfl
theorem sS_pI (σ : ST) (k a : Nat) (v : Int) : sS (pI σ k a v) = sS σ := rfl
theorem sc_pJ (σ : ST) (k a : Nat) (v : Int64) : sc (pJ σ k a v) = sc σ := rfl
theorem sI_pJ (σ : ST) (k a : Nat) (v : Int64) : sI (pJ σ k a v) = sI σ := rfl
theorem sJ_pJ (σ : ST) (k a : Nat) (v : Int64) (j b : Nat) : sJ (pJ σ k a v) j b = if j = k ∧ b = a then v else sJ σ j b := by
  show up (sJ σ) k (up (sJ σ k) a v) j b = _
  unfold up
  by_cases h : j = k
  · subst h; by_cases h2 : b = a <;> simp [h2]
  · simp [h]
theorem sR_pJ (σ : ST) (k a : Nat) (v : Int64) : sR (pJ σ k a v) = sR σ := rfl
theorem sW_pJ (σ : ST) (k a : Nat) (v : Int64) : sW (pJ σ k a v) = sW σ := rfl
theorem sA_pJ (σ : ST) (k a : Nat) (v : Int64) : sA (pJ σ k a v) = sA σ := rfl
theorem sN_pJ (σ : ST) (k a : Nat) (v : Int64) : sN (pJ σ k a v) = sN σ := rfl
theorem sB_pJ (σ : ST) (k a : Nat) (v : Int64) : sB (pJ σ k a v) = sB σ := rfl
theorem sE_pJ (σ : ST) (k a : Nat) (v : Int64) : sE (pJ σ k a v) = sE σ := rfl
theorem sF_pJ (σ : ST) (k a : Nat) (v : Int64) : sF (pJ σ k a v) = sF σ := rfl
theorem sH_pJ (σ : ST) (k a : Nat) (v : Int64) : sH (pJ σ k a v) = sH σ := rfl
theorem sZ_pJ (σ : ST) (k a : Nat) (v : Int64) : sZ (pJ σ k a v) = sZ σ := rfl
theorem sC_pJ (σ : ST) (k a : Nat) (v : Int64) : sC (pJ σ k a v) = sC σ := rfl
theorem sS_pJ (σ : ST) (k a : Nat) (v : Int64) : sS (pJ σ k a v) = sS σ := rfl
theorem sc_pR (σ : ST) (k a : Nat) (v : Option Nat) : sc (pR σ k a v) = sc σ := rfl
theorem sI_pR (σ : ST) (k a : Nat) (v : Option Nat) : sI (pR σ k a v) = sI σ := rfl
theorem sJ_pR (σ : ST) (k a : Nat) (v : Option Nat) : sJ (pR σ k a v) = sJ σ := rfl
theorem sR_pR (σ : ST) (k a : Nat) (v : Option Nat) (j b : Nat) : sR (pR σ k a v) j b = if j = k ∧ b = a then v else sR σ j b := by
  show up (sR σ) k (up (sR σ k) a v) j b = _
  unfold up
  by_cases h : j = k
  · subst h; by_cases h2 : b = a <;> simp [h2]
  · simp [h]
theorem sW_pR (σ : ST) (k a : Nat) (v : Option Nat) : sW (pR σ k a v) = sW σ := rfl
theorem sA_pR (σ : ST) (k a : Nat) (v : Option Nat) : sA (pR σ k a v) = sA σ := rfl
theorem sN_pR (σ : ST) (k a : Nat) (v : Option Nat) : sN (pR σ k a v) = sN σ := rfl
theorem sB_pR (σ : ST) (k a : Nat) (v : Option Nat) : sB (pR σ k a v) = sB σ := rfl
theorem sE_pR (σ : ST) (k a : Nat) (v : Option Nat) : sE (pR σ k a v) = sE σ := rfl
theorem sF_pR (σ : ST) (k a : Nat) (v : Option Nat) : sF (pR σ k a v) = sF σ := rfl
theorem sH_pR (σ : ST) (k a : Nat) (v : Option Nat) : sH (pR σ k a v) = sH σ := rfl
theorem sZ_pR (σ : ST) (k a : Nat) (v : Option Nat) : sZ (pR σ k a v) = sZ σ := rfl
theorem sC_pR (σ : ST) (k a : Nat) (v : Option Nat) : sC (pR σ k a v) = sC σ := rfl
theorem sS_pR (σ : ST) (k a : Nat) (v : Option Nat) : sS (pR σ k a v) = sS σ := rfl
theorem sc_pB (σ : ST) (a i : Nat) (v : UInt8) : sc (pB σ a i v) = sc σ := rfl
theorem sI_pB (σ : ST) (a i : Nat) (v : UInt8) : sI (pB σ a i v) = sI σ := rfl
theorem sJ_pB (σ : ST) (a i : Nat) (v : UInt8) : sJ (pB σ a i v) = sJ σ := rfl
theorem sR_pB (σ : ST) (a i : Nat) (v : UInt8) : sR (pB σ a i v) = sR σ := rfl
theorem sW_pB (σ : ST) (a i : Nat) (v : UInt8) : sW (pB σ a i v) = sW σ := rfl
theorem sA_pB (σ : ST) (a i : Nat) (v : UInt8) : sA (pB σ a i v) = sA σ := rfl
theorem sN_pB (σ : ST) (a i : Nat) (v : UInt8) : sN (pB σ a i v) = sN σ := rfl
theorem sB_pB (σ : ST) (a i : Nat) (v : UInt8) (b j : Nat) : sB (pB σ a i v) b j = if b = a ∧ j = i then v else sB σ b j := by
  show up (sB σ) a (up (sB σ a) i v) b j = _
  unfold up
  by_cases h : b = a
  · subst h; by_cases h2 : j = i <;> simp [h2]
  · simp [h]
theorem sE_pB (σ : ST) (a i : Nat) (v : UInt8) : sE (pB σ a i v) = sE σ := rfl
theorem sF_pB (σ : ST) (a i : Nat) (v : UInt8) : sF (pB σ a i v) = sF σ := rfl
theorem sH_pB (σ : ST) (a i : Nat) (v : UInt8) : sH (pB σ a i v) = sH σ := rfl
theorem sZ_pB (σ : ST) (a i : Nat) (v : UInt8) : sZ (pB σ a i v) = sZ σ := rfl
theorem sC_pB (σ : ST) (a i : Nat) (v : UInt8) : sC (pB σ a i v) = sC σ := rfl
theorem sS_pB (σ : ST) (a i : Nat) (v : UInt8) : sS (pB σ a i v) = sS σ := rfl
theorem sc_pE (σ : ST) (a i : Nat) (v : Int) : sc (pE σ a i v) = sc σ := rfl
theorem sI_pE (σ : ST) (a i : Nat) (v : Int) : sI (pE σ a i v) = sI σ := rfl
theorem sJ_pE (σ : ST) (a i : Nat) (v : Int) : sJ (pE σ a i v) = sJ σ := rfl
theorem sR_pE (σ : ST) (a i : Nat) (v : Int) : sR (pE σ a i v) = sR σ := rfl
theorem sW_pE (σ : ST) (a i : Nat) (v : Int) : sW (pE σ a i v) = sW σ := rfl
theorem sA_pE (σ : ST) (a i : Nat) (v : Int) : sA (pE σ a i v) = sA σ := rfl
theorem sN_pE (σ : ST) (a i : Nat) (v : Int) : sN (pE σ a i v) = sN σ := rfl
theorem sB_pE (σ : ST) (a i : Nat) (v : Int) : sB (pE σ a i v) = sB σ := rfl
theorem sE_pE (σ : ST) (a i : Nat) (v : Int) (b j : Nat) : sE (pE σ a i v) b j = if b = a ∧ j = i then v else sE σ b j := by
  show up (sE σ) a (up (sE σ a) i v) b j = _
  unfold up
  by_cases h : b = a
  · subst h; by_cases h2 : j = i <;> simp [h2]
  · simp [h]
theorem sF_pE (σ : ST) (a i : Nat) (v : Int) : sF (pE σ a i v) = sF σ := rfl
theorem sH_pE (σ : ST) (a i : Nat) (v : Int) : sH (pE σ a i v) = sH σ := rfl
theorem sZ_pE (σ : ST) (a i : Nat) (v : Int) : sZ (pE σ a i v) = sZ σ := rfl
theorem sC_pE (σ : ST) (a i : Nat) (v : Int) : sC (pE σ a i v) = sC σ := rfl
theorem sS_pE (σ : ST) (a i : Nat) (v : Int) : sS (pE σ a i v) = sS σ := rfl
theorem sc_pF (σ : ST) (a i : Nat) (v : Option Nat) : sc (pF σ a i v) = sc σ := rfl
theorem sI_pF (σ : ST) (a i : Nat) (v : Option Nat) : sI (pF σ a i v) = sI σ := rfl
theorem sJ_pF (σ : ST) (a i : Nat) (v : Option Nat) : sJ (pF σ a i v) = sJ σ := rfl
theorem sR_pF (σ : ST) (a i : Nat) (v : Option Nat) : sR (pF σ a i v) = sR σ := rfl
theorem sW_pF (σ : ST) (a i : Nat) (v : Option Nat) : sW (pF σ a i v) = sW σ := rfl
theorem sA_pF (σ : ST) (a i : Nat) (v : Option Nat) : sA (pF σ a i v) = sA σ := rfl
theorem sN_pF (σ : ST) (a i : Nat) (v : Option Nat) : sN (pF σ a i v) = sN σ := rfl
theorem sB_pF (σ : ST) (a i : Nat) (v : Option Nat) : sB (pF σ a i v) = sB σ := rfl
theorem sE_pF (σ : ST) (a i : Nat) (v : Option Nat) : sE (pF σ a i v) = sE σ := rfl
theorem sF_pF (σ : ST) (a i : Nat) (v : Option Nat) (b j : Nat) : sF (pF σ a i v) b j = if b = a ∧ j = i then v else sF σ b j := by
  show up (sF σ) a (up (sF σ a) i v) b j = _
  unfold up
  by_cases h : b = a
  · subst h; by_cases h2 : j = i <;> simp [h2]
  · simp [h]
theorem sH_pF (σ : ST) (a i : Nat) (v : Option Nat) : sH (pF σ a i v) = sH σ := rfl
theorem sZ_pF (σ : ST) (a i : Nat) (v : Option Nat) : sZ (pF σ a i v) = sZ σ := rfl
theorem sC_pF (σ : ST) (a i : Nat) (v : Option Nat) : sC (pF σ a i v) = sC σ := rfl
theorem sS_pF (σ : ST) (a i : Nat) (v : Option Nat) : sS (pF σ a i v) = sS σ := rfl
theorem sc_nO (σ : ST) (t n : Nat) : sc (nO σ t n) = up (sc σ) (sZ σ) t := rfl
theorem sI_nO (σ : ST) (t n : Nat) (k : Nat) : sI (nO σ t n) k = up (sI σ k) (sZ σ) 0 := rfl
theorem sJ_nO (σ : ST) (t n : Nat) (k : Nat) : sJ (nO σ t n) k = up (sJ σ k) (sZ σ) 0 := rfl
theorem sR_nO (σ : ST) (t n : Nat) (k : Nat) : sR (nO σ t n) k = up (sR σ k) (sZ σ) none := rfl
theorem sW_nO (σ : ST) (t n : Nat) : sW (nO σ t n) = sW σ := rfl
theorem sA_nO (σ : ST) (t n : Nat) : sA (nO σ t n) = sA σ := rfl
theorem sN_nO (σ : ST) (t n : Nat) : sN (nO σ t n) = sN σ := rfl
theorem sB_nO (σ : ST) (t n : Nat) : sB (nO σ t n) = sB σ := rfl
theorem sE_nO (σ : ST) (t n : Nat) : sE (nO σ t n) = sE σ := rfl
theorem sF_nO (σ : ST) (t n : Nat) : sF (nO σ t n) = sF σ := rfl
theorem sH_nO (σ : ST) (t n : Nat) : sH (nO σ t n) = sH σ := rfl
theorem sZ_nO (σ : ST) (t n : Nat) : sZ (nO σ t n) = sZ σ + 1 := rfl
theorem sC_nO (σ : ST) (t n : Nat) : sC (nO σ t n) = sC σ + 1 := rfl
theorem sS_nO (σ : ST) (t n : Nat) : sS (nO σ t n) = sS σ + n := rfl
theorem sc_nB (σ : ST) (n : Nat) : sc (nB σ n) = up (sc σ) (sZ σ) 101 := rfl
theorem sI_nB (σ : ST) (n : Nat) : sI (nB σ n) = sI σ := rfl
theorem sJ_nB (σ : ST) (n : Nat) : sJ (nB σ n) = sJ σ := rfl
theorem sR_nB (σ : ST) (n : Nat) : sR (nB σ n) = sR σ := rfl
theorem sW_nB (σ : ST) (n : Nat) : sW (nB σ n) = sW σ := rfl
theorem sA_nB (σ : ST) (n : Nat) : sA (nB σ n) = sA σ := rfl
theorem sN_nB (σ : ST) (n : Nat) : sN (nB σ n) = up (sN σ) (sZ σ) n := rfl
theorem sB_nB (σ : ST) (n : Nat) : sB (nB σ n) = up (sB σ) (sZ σ) (fun _ => 0) := rfl
theorem sE_nB (σ : ST) (n : Nat) : sE (nB σ n) = sE σ := rfl
theorem sF_nB (σ : ST) (n : Nat) : sF (nB σ n) = sF σ := rfl
theorem sH_nB (σ : ST) (n : Nat) : sH (nB σ n) = sH σ := rfl
theorem sZ_nB (σ : ST) (n : Nat) : sZ (nB σ n) = sZ σ + 1 := rfl
theorem sC_nB (σ : ST) (n : Nat) : sC (nB σ n) = sC σ + 1 := rfl
theorem sS_nB (σ : ST) (n : Nat) : sS (nB σ n) = sS σ + n := rfl
theorem sc_nE (σ : ST) (n : Nat) : sc (nE σ n) = up (sc σ) (sZ σ) 102 := rfl
theorem sI_nE (σ : ST) (n : Nat) : sI (nE σ n) = sI σ := rfl
theorem sJ_nE (σ : ST) (n : Nat) : sJ (nE σ n) = sJ σ := rfl
theorem sR_nE (σ : ST) (n : Nat) : sR (nE σ n) = sR σ := rfl
theorem sW_nE (σ : ST) (n : Nat) : sW (nE σ n) = sW σ := rfl
theorem sA_nE (σ : ST) (n : Nat) : sA (nE σ n) = sA σ := rfl
theorem sN_nE (σ : ST) (n : Nat) : sN (nE σ n) = up (sN σ) (sZ σ) n := rfl
theorem sB_nE (σ : ST) (n : Nat) : sB (nE σ n) = sB σ := rfl
theorem sE_nE (σ : ST) (n : Nat) : sE (nE σ n) = up (sE σ) (sZ σ) (fun _ => 0) := rfl
theorem sF_nE (σ : ST) (n : Nat) : sF (nE σ n) = sF σ := rfl
theorem sH_nE (σ : ST) (n : Nat) : sH (nE σ n) = sH σ := rfl
theorem sZ_nE (σ : ST) (n : Nat) : sZ (nE σ n) = sZ σ + 1 := rfl
theorem sC_nE (σ : ST) (n : Nat) : sC (nE σ n) = sC σ + 1 := rfl
theorem sS_nE (σ : ST) (n : Nat) : sS (nE σ n) = sS σ + n := rfl
theorem sc_nF (σ : ST) (n : Nat) : sc (nF σ n) = up (sc σ) (sZ σ) 103 := rfl
theorem sI_nF (σ : ST) (n : Nat) : sI (nF σ n) = sI σ := rfl
theorem sJ_nF (σ : ST) (n : Nat) : sJ (nF σ n) = sJ σ := rfl
theorem sR_nF (σ : ST) (n : Nat) : sR (nF σ n) = sR σ := rfl
theorem sW_nF (σ : ST) (n : Nat) : sW (nF σ n) = sW σ := rfl
theorem sA_nF (σ : ST) (n : Nat) : sA (nF σ n) = sA σ := rfl
theorem sN_nF (σ : ST) (n : Nat) : sN (nF σ n) = up (sN σ) (sZ σ) n := rfl
theorem sB_nF (σ : ST) (n : Nat) : sB (nF σ n) = sB σ := rfl
theorem sE_nF (σ : ST) (n : Nat) : sE (nF σ n) = sE σ := rfl
theorem sF_nF (σ : ST) (n : Nat) : sF (nF σ n) = up (sF σ) (sZ σ) (fun _ => none) := rfl
theorem sH_nF (σ : ST) (n : Nat) : sH (nF σ n) = sH σ := rfl
theorem sZ_nF (σ : ST) (n : Nat) : sZ (nF σ n) = sZ σ + 1 := rfl
theorem sC_nF (σ : ST) (n : Nat) : sC (nF σ n) = sC σ + 1 := rfl
theorem sS_nF (σ : ST) (n : Nat) : sS (nF σ n) = sS σ + n := rfl
theorem fp_0 (σ : ST) (a : Nat) (v : Option Nat) : fl (pR σ 0 a v) 0 a = (fl σ 0 a).set 0 (vV (vr v)) := by simp [fl, sI_pR, sJ_pR, sR_pR, vV]
theorem fp_1 (σ : ST) (a : Nat) (v : Option Nat) : fl (pR σ 1 a v) 0 a = (fl σ 0 a).set 1 (vV (vr v)) := by simp [fl, sI_pR, sJ_pR, sR_pR, vV]
theorem fp_2 (σ : ST) (a : Nat) (v : Int) : fl (pI σ 2 a v) 0 a = (fl σ 0 a).set 2 (vV (vi v)) := by simp [fl, sI_pI, sJ_pI, sR_pI, vV]
theorem fp_3 (σ : ST) (a : Nat) (v : Int) : fl (pI σ 3 a v) 0 a = (fl σ 0 a).set 3 (vV (vi v)) := by simp [fl, sI_pI, sJ_pI, sR_pI, vV]
theorem fp_4 (σ : ST) (a : Nat) (v : Option Nat) : fl (pR σ 4 a v) 0 a = (fl σ 0 a).set 4 (vV (vr v)) := by simp [fl, sI_pR, sJ_pR, sR_pR, vV]
theorem fp_5 (σ : ST) (a : Nat) (v : Option Nat) : fl (pR σ 5 a v) 0 a = (fl σ 0 a).set 5 (vV (vr v)) := by simp [fl, sI_pR, sJ_pR, sR_pR, vV]
theorem fp_6 (σ : ST) (a : Nat) (v : Option Nat) : fl (pR σ 6 a v) 0 a = (fl σ 0 a).set 6 (vV (vr v)) := by simp [fl, sI_pR, sJ_pR, sR_pR, vV]
theorem fp_16 (σ : ST) (a : Nat) (v : Option Nat) : fl (pR σ 16 a v) 1 a = (fl σ 1 a).set 0 (vV (vr v)) := by simp [fl, sI_pR, sJ_pR, sR_pR, vV]
theorem fp_17 (σ : ST) (a : Nat) (v : Option Nat) : fl (pR σ 17 a v) 1 a = (fl σ 1 a).set 1 (vV (vr v)) := by simp [fl, sI_pR, sJ_pR, sR_pR, vV]
theorem fp_18 (σ : ST) (a : Nat) (v : Option Nat) : fl (pR σ 18 a v) 1 a = (fl σ 1 a).set 2 (vV (vr v)) := by simp [fl, sI_pR, sJ_pR, sR_pR, vV]
theorem fp_19 (σ : ST) (a : Nat) (v : Option Nat) : fl (pR σ 19 a v) 1 a = (fl σ 1 a).set 3 (vV (vr v)) := by simp [fl, sI_pR, sJ_pR, sR_pR, vV]
theorem fp_20 (σ : ST) (a : Nat) (v : Int) : fl (pI σ 20 a v) 1 a = (fl σ 1 a).set 4 (vV (vi v)) := by simp [fl, sI_pI, sJ_pI, sR_pI, vV]
theorem fp_21 (σ : ST) (a : Nat) (v : Int) : fl (pI σ 21 a v) 1 a = (fl σ 1 a).set 5 (vV (vi v)) := by simp [fl, sI_pI, sJ_pI, sR_pI, vV]
theorem fp_22 (σ : ST) (a : Nat) (v : Int) : fl (pI σ 22 a v) 1 a = (fl σ 1 a).set 6 (vV (vi v)) := by simp [fl, sI_pI, sJ_pI, sR_pI, vV]
theorem fp_32 (σ : ST) (a : Nat) (v : Option Nat) : fl (pR σ 32 a v) 2 a = (fl σ 2 a).set 0 (vV (vr v)) := by simp [fl, sI_pR, sJ_pR, sR_pR, vV]
theorem fp_33 (σ : ST) (a : Nat) (v : Option Nat) : fl (pR σ 33 a v) 2 a = (fl σ 2 a).set 1 (vV (vr v)) := by simp [fl, sI_pR, sJ_pR, sR_pR, vV]
theorem fp_34 (σ : ST) (a : Nat) (v : Option Nat) : fl (pR σ 34 a v) 2 a = (fl σ 2 a).set 2 (vV (vr v)) := by simp [fl, sI_pR, sJ_pR, sR_pR, vV]
theorem fp_35 (σ : ST) (a : Nat) (v : Option Nat) : fl (pR σ 35 a v) 2 a = (fl σ 2 a).set 3 (vV (vr v)) := by simp [fl, sI_pR, sJ_pR, sR_pR, vV]
theorem fp_80 (σ : ST) (a : Nat) (v : Option Nat) : fl (pR σ 80 a v) 5 a = (fl σ 5 a).set 0 (vV (vr v)) := by simp [fl, sI_pR, sJ_pR, sR_pR, vV]
theorem fp_81 (σ : ST) (a : Nat) (v : Int) : fl (pI σ 81 a v) 5 a = (fl σ 5 a).set 1 (vV (vi v)) := by simp [fl, sI_pI, sJ_pI, sR_pI, vV]
theorem fp_82 (σ : ST) (a : Nat) (v : Int) : fl (pI σ 82 a v) 5 a = (fl σ 5 a).set 2 (vV (vi v)) := by simp [fl, sI_pI, sJ_pI, sR_pI, vV]
theorem fp_83 (σ : ST) (a : Nat) (v : Int) : fl (pI σ 83 a v) 5 a = (fl σ 5 a).set 3 (vV (vi v)) := by simp [fl, sI_pI, sJ_pI, sR_pI, vV]
theorem fp_84 (σ : ST) (a : Nat) (v : Int) : fl (pI σ 84 a v) 5 a = (fl σ 5 a).set 4 (vV (vi v)) := by simp [fl, sI_pI, sJ_pI, sR_pI, vV]
theorem fp_85 (σ : ST) (a : Nat) (v : Int) : fl (pI σ 85 a v) 5 a = (fl σ 5 a).set 5 (vV (vi v)) := by simp [fl, sI_pI, sJ_pI, sR_pI, vV]
theorem fp_86 (σ : ST) (a : Nat) (v : Option Nat) : fl (pR σ 86 a v) 5 a = (fl σ 5 a).set 6 (vV (vr v)) := by simp [fl, sI_pR, sJ_pR, sR_pR, vV]
theorem fp_96 (σ : ST) (a : Nat) (v : Int) : fl (pI σ 96 a v) 6 a = (fl σ 6 a).set 0 (vV (vi v)) := by simp [fl, sI_pI, sJ_pI, sR_pI, vV]
theorem fp_97 (σ : ST) (a : Nat) (v : Option Nat) : fl (pR σ 97 a v) 6 a = (fl σ 6 a).set 1 (vV (vr v)) := by simp [fl, sI_pR, sJ_pR, sR_pR, vV]
theorem fp_98 (σ : ST) (a : Nat) (v : Option Nat) : fl (pR σ 98 a v) 6 a = (fl σ 6 a).set 2 (vV (vr v)) := by simp [fl, sI_pR, sJ_pR, sR_pR, vV]
theorem fp_99 (σ : ST) (a : Nat) (v : Option Nat) : fl (pR σ 99 a v) 6 a = (fl σ 6 a).set 3 (vV (vr v)) := by simp [fl, sI_pR, sJ_pR, sR_pR, vV]
theorem fp_100 (σ : ST) (a : Nat) (v : Option Nat) : fl (pR σ 100 a v) 6 a = (fl σ 6 a).set 4 (vV (vr v)) := by simp [fl, sI_pR, sJ_pR, sR_pR, vV]
theorem fp_101 (σ : ST) (a : Nat) (v : Option Nat) : fl (pR σ 101 a v) 6 a = (fl σ 6 a).set 5 (vV (vr v)) := by simp [fl, sI_pR, sJ_pR, sR_pR, vV]
theorem fp_102 (σ : ST) (a : Nat) (v : Int) : fl (pI σ 102 a v) 6 a = (fl σ 6 a).set 6 (vV (vi v)) := by simp [fl, sI_pI, sJ_pI, sR_pI, vV]
theorem fp_103 (σ : ST) (a : Nat) (v : Option Nat) : fl (pR σ 103 a v) 6 a = (fl σ 6 a).set 7 (vV (vr v)) := by simp [fl, sI_pR, sJ_pR, sR_pR, vV]
theorem fp_112 (σ : ST) (a : Nat) (v : Int) : fl (pI σ 112 a v) 7 a = (fl σ 7 a).set 0 (vV (vi v)) := by simp [fl, sI_pI, sJ_pI, sR_pI, vV]
theorem fp_113 (σ : ST) (a : Nat) (v : Option Nat) : fl (pR σ 113 a v) 7 a = (fl σ 7 a).set 1 (vV (vr v)) := by simp [fl, sI_pR, sJ_pR, sR_pR, vV]
theorem fp_114 (σ : ST) (a : Nat) (v : Option Nat) : fl (pR σ 114 a v) 7 a = (fl σ 7 a).set 2 (vV (vr v)) := by simp [fl, sI_pR, sJ_pR, sR_pR, vV]
theorem fp_115 (σ : ST) (a : Nat) (v : Option Nat) : fl (pR σ 115 a v) 7 a = (fl σ 7 a).set 3 (vV (vr v)) := by simp [fl, sI_pR, sJ_pR, sR_pR, vV]
theorem fp_128 (σ : ST) (a : Nat) (v : Option Nat) : fl (pR σ 128 a v) 8 a = (fl σ 8 a).set 0 (vV (vr v)) := by simp [fl, sI_pR, sJ_pR, sR_pR, vV]
theorem fp_129 (σ : ST) (a : Nat) (v : Option Nat) : fl (pR σ 129 a v) 8 a = (fl σ 8 a).set 1 (vV (vr v)) := by simp [fl, sI_pR, sJ_pR, sR_pR, vV]
theorem fp_130 (σ : ST) (a : Nat) (v : Option Nat) : fl (pR σ 130 a v) 8 a = (fl σ 8 a).set 2 (vV (vr v)) := by simp [fl, sI_pR, sJ_pR, sR_pR, vV]
theorem fp_131 (σ : ST) (a : Nat) (v : Int) : fl (pI σ 131 a v) 8 a = (fl σ 8 a).set 3 (vV (vi v)) := by simp [fl, sI_pI, sJ_pI, sR_pI, vV]
theorem fp_132 (σ : ST) (a : Nat) (v : Int) : fl (pI σ 132 a v) 8 a = (fl σ 8 a).set 4 (vV (vi v)) := by simp [fl, sI_pI, sJ_pI, sR_pI, vV]
theorem fp_133 (σ : ST) (a : Nat) (v : Int) : fl (pI σ 133 a v) 8 a = (fl σ 8 a).set 5 (vV (vi v)) := by simp [fl, sI_pI, sJ_pI, sR_pI, vV]
theorem fp_134 (σ : ST) (a : Nat) (v : Int) : fl (pI σ 134 a v) 8 a = (fl σ 8 a).set 6 (vV (vi v)) := by simp [fl, sI_pI, sJ_pI, sR_pI, vV]
theorem fp_135 (σ : ST) (a : Nat) (v : Int) : fl (pI σ 135 a v) 8 a = (fl σ 8 a).set 7 (vV (vi v)) := by simp [fl, sI_pI, sJ_pI, sR_pI, vV]
theorem fp_136 (σ : ST) (a : Nat) (v : Int) : fl (pI σ 136 a v) 8 a = (fl σ 8 a).set 8 (vV (vi v)) := by simp [fl, sI_pI, sJ_pI, sR_pI, vV]
theorem fp_137 (σ : ST) (a : Nat) (v : Option Nat) : fl (pR σ 137 a v) 8 a = (fl σ 8 a).set 9 (vV (vr v)) := by simp [fl, sI_pR, sJ_pR, sR_pR, vV]
theorem fp_138 (σ : ST) (a : Nat) (v : Option Nat) : fl (pR σ 138 a v) 8 a = (fl σ 8 a).set 10 (vV (vr v)) := by simp [fl, sI_pR, sJ_pR, sR_pR, vV]
theorem fp_139 (σ : ST) (a : Nat) (v : Option Nat) : fl (pR σ 139 a v) 8 a = (fl σ 8 a).set 11 (vV (vr v)) := by simp [fl, sI_pR, sJ_pR, sR_pR, vV]
theorem fp_144 (σ : ST) (a : Nat) (v : Option Nat) : fl (pR σ 144 a v) 9 a = (fl σ 9 a).set 0 (vV (vr v)) := by simp [fl, sI_pR, sJ_pR, sR_pR, vV]
theorem fp_160 (σ : ST) (a : Nat) (v : Option Nat) : fl (pR σ 160 a v) 10 a = (fl σ 10 a).set 0 (vV (vr v)) := by simp [fl, sI_pR, sJ_pR, sR_pR, vV]
theorem fp_161 (σ : ST) (a : Nat) (v : Option Nat) : fl (pR σ 161 a v) 10 a = (fl σ 10 a).set 1 (vV (vr v)) := by simp [fl, sI_pR, sJ_pR, sR_pR, vV]
theorem fp_162 (σ : ST) (a : Nat) (v : Option Nat) : fl (pR σ 162 a v) 10 a = (fl σ 10 a).set 2 (vV (vr v)) := by simp [fl, sI_pR, sJ_pR, sR_pR, vV]
theorem fp_163 (σ : ST) (a : Nat) (v : Option Nat) : fl (pR σ 163 a v) 10 a = (fl σ 10 a).set 3 (vV (vr v)) := by simp [fl, sI_pR, sJ_pR, sR_pR, vV]
theorem fp_176 (σ : ST) (a : Nat) (v : Option Nat) : fl (pR σ 176 a v) 11 a = (fl σ 11 a).set 0 (vV (vr v)) := by simp [fl, sI_pR, sJ_pR, sR_pR, vV]
theorem fp_177 (σ : ST) (a : Nat) (v : Int) : fl (pI σ 177 a v) 11 a = (fl σ 11 a).set 1 (vV (vi v)) := by simp [fl, sI_pI, sJ_pI, sR_pI, vV]
theorem fp_192 (σ : ST) (a : Nat) (v : Option Nat) : fl (pR σ 192 a v) 12 a = (fl σ 12 a).set 0 (vV (vr v)) := by simp [fl, sI_pR, sJ_pR, sR_pR, vV]
theorem fp_193 (σ : ST) (a : Nat) (v : Int64) : fl (pJ σ 193 a v) 12 a = (fl σ 12 a).set 1 (vV (vl v)) := by simp [fl, sI_pJ, sJ_pJ, sR_pJ, vV]
theorem fp_194 (σ : ST) (a : Nat) (v : Option Nat) : fl (pR σ 194 a v) 12 a = (fl σ 12 a).set 2 (vV (vr v)) := by simp [fl, sI_pR, sJ_pR, sR_pR, vV]
theorem fp_195 (σ : ST) (a : Nat) (v : Option Nat) : fl (pR σ 195 a v) 12 a = (fl σ 12 a).set 3 (vV (vr v)) := by simp [fl, sI_pR, sJ_pR, sR_pR, vV]
theorem fp_196 (σ : ST) (a : Nat) (v : Option Nat) : fl (pR σ 196 a v) 12 a = (fl σ 12 a).set 4 (vV (vr v)) := by simp [fl, sI_pR, sJ_pR, sR_pR, vV]
theorem fp_208 (σ : ST) (a : Nat) (v : Option Nat) : fl (pR σ 208 a v) 13 a = (fl σ 13 a).set 0 (vV (vr v)) := by simp [fl, sI_pR, sJ_pR, sR_pR, vV]
theorem fp_209 (σ : ST) (a : Nat) (v : Int) : fl (pI σ 209 a v) 13 a = (fl σ 13 a).set 1 (vV (vi v)) := by simp [fl, sI_pI, sJ_pI, sR_pI, vV]
theorem fp_210 (σ : ST) (a : Nat) (v : Int) : fl (pI σ 210 a v) 13 a = (fl σ 13 a).set 2 (vV (vi v)) := by simp [fl, sI_pI, sJ_pI, sR_pI, vV]
theorem fp_211 (σ : ST) (a : Nat) (v : Option Nat) : fl (pR σ 211 a v) 13 a = (fl σ 13 a).set 3 (vV (vr v)) := by simp [fl, sI_pR, sJ_pR, sR_pR, vV]
theorem fp_212 (σ : ST) (a : Nat) (v : Option Nat) : fl (pR σ 212 a v) 13 a = (fl σ 13 a).set 4 (vV (vr v)) := by simp [fl, sI_pR, sJ_pR, sR_pR, vV]
theorem fp_224 (σ : ST) (a : Nat) (v : Int) : fl (pI σ 224 a v) 14 a = (fl σ 14 a).set 0 (vV (vi v)) := by simp [fl, sI_pI, sJ_pI, sR_pI, vV]
theorem fp_225 (σ : ST) (a : Nat) (v : Int) : fl (pI σ 225 a v) 14 a = (fl σ 14 a).set 1 (vV (vi v)) := by simp [fl, sI_pI, sJ_pI, sR_pI, vV]
theorem fp_226 (σ : ST) (a : Nat) (v : Int64) : fl (pJ σ 226 a v) 14 a = (fl σ 14 a).set 2 (vV (vl v)) := by simp [fl, sI_pJ, sJ_pJ, sR_pJ, vV]
/-- the state changes at a alone, nothing is new -/
def At1 (σ σ' : ST) (a : Nat) : Prop := sc σ' = sc σ ∧ sZ σ' = sZ σ ∧ sH σ' = sH σ ∧ (∀ b, b ≠ a → SameB σ σ' b) ∧ sC σ' = sC σ ∧ sS σ' = sS σ
theorem at_pI (σ : ST) (k a : Nat) (v : Int) : At1 σ (pI σ k a v) a := ⟨rfl, rfl, rfl, fun b hb => ⟨rfl, rfl, rfl, rfl, rfl, rfl, rfl, fun j => by rw [sI_pI, if_neg (fun h => hb h.2)], fun _ => rfl, fun _ => rfl⟩, rfl, rfl⟩
theorem at_pJ (σ : ST) (k a : Nat) (v : Int64) : At1 σ (pJ σ k a v) a := ⟨rfl, rfl, rfl, fun b hb => ⟨rfl, rfl, rfl, rfl, rfl, rfl, rfl, fun _ => rfl, fun j => by rw [sJ_pJ, if_neg (fun h => hb h.2)], fun _ => rfl⟩, rfl, rfl⟩
theorem at_pR (σ : ST) (k a : Nat) (v : Option Nat) : At1 σ (pR σ k a v) a := ⟨rfl, rfl, rfl, fun b hb => ⟨rfl, rfl, rfl, rfl, rfl, rfl, rfl, fun _ => rfl, fun _ => rfl, fun j => by rw [sR_pR, if_neg (fun h => hb h.2)]⟩, rfl, rfl⟩
theorem at_pB (σ : ST) (a i : Nat) (v : UInt8) : At1 σ (pB σ a i v) a := ⟨rfl, rfl, rfl, fun b hb => ⟨rfl, rfl, rfl, by funext j; rw [sB_pB, if_neg (fun h => hb h.1)], rfl, rfl, rfl, fun _ => rfl, fun _ => rfl, fun _ => rfl⟩, rfl, rfl⟩
theorem at_pE (σ : ST) (a i : Nat) (v : Int) : At1 σ (pE σ a i v) a := ⟨rfl, rfl, rfl, fun b hb => ⟨rfl, rfl, rfl, rfl, by funext j; rw [sE_pE, if_neg (fun h => hb h.1)], rfl, rfl, fun _ => rfl, fun _ => rfl, fun _ => rfl⟩, rfl, rfl⟩
theorem at_pF (σ : ST) (a i : Nat) (v : Option Nat) : At1 σ (pF σ a i v) a := ⟨rfl, rfl, rfl, fun b hb => ⟨rfl, rfl, rfl, rfl, rfl, by funext j; rw [sF_pF, if_neg (fun h => hb h.1)], rfl, fun _ => rfl, fun _ => rfl, fun _ => rfl⟩, rfl, rfl⟩
/-- a plain class: neither rows nor lists nor the reference nor exceptions -/
def pl (ci : Nat) : Bool := Nat.ble ci 14 && !(Nat.beq ci 3) && !(Nat.beq ci 4)
section SysR
variable {g : GE} {M N : Mt} {d d' pc pc' tgt : Nat} {off : Int} {l l' : List (Nat × LV)} {st st' : List LV} {σ σ' : ST} {τ : TT} {Q : VQ} {X Y : Type} {F A B : Option X} {K : X → Prop} {P : Prop} {H H' : Heap} {own : Nat → Nat}
theorem pl_ne {ci : Nat} (h : pl ci = true) : ¬ ci + 1 = 4 ∧ ¬ ci + 1 = 16 ∧ ¬ ci + 1 = 17 ∧ ¬ ci + 1 = 101 ∧ ¬ ci + 1 = 102 ∧ ¬ ci + 1 = 103 := by
  simp only [pl, Bool.and_eq_true, Bool.not_eq_true'] at h
  have h1 := Nat.le_of_ble_eq_true h.1.1
  have h2 : ci ≠ 3 := fun e => by rw [e] at h; exact absurd h.1.2 (by decide)
  omega
theorem cellC_pl {ci a : Nat} (hp : pl ci = true) (ha : sc σ a = ci + 1) : cellC g own σ a H ↔ va_at (gD g) vCl (a, .inr (ci, fl σ ci a)) H := by
  obtain ⟨h1, h2, h3, h4, h5, h6⟩ := pl_ne hp
  unfold cellC
  rw [ha, if_neg h1, if_neg h2, if_neg h3, if_neg h4, if_neg h5, if_neg h6]
  exact Iff.rfl
theorem Rep.obj {ci a : Nat} (h : Rep g σ τ H) (hp : pl ci = true) (ha : sc σ a = ci + 1) : va_at (gD g) vCl (a, .inr (ci, fl σ ci a)) H ∧ gB g ≤ a := by
  obtain ⟨⟨own, hC, -⟩, -⟩ := h
  obtain ⟨c1, c2, c3⟩ := hC a (by omega)
  exact ⟨(cellC_pl hp ha).mp c3, c1⟩
theorem Rep.putf {ci a : Nat} (h : Rep g σ τ H) (hp : pl ci = true) (ha : sc σ a = ci + 1) (hA : At1 σ σ' a) (hq : Pt1 g a (.inr (ci, fl σ' ci a)) H H') : Rep g σ' τ H' := by
  obtain ⟨e1, e2, e3, e4, -⟩ := hA
  refine h.loc (by omega) e1 e2 e3 e4 hq.2.1 hq.2.2 (fun own _ => ?_)
  exact (cellC_pl hp (by rw [e1]; exact ha)).mpr hq.1
theorem sm_g {ci Nf i k a : Nat} {C : String} {T : u_T} {ty : Nat → FieldType} {x : LV} (cd : CDt ci C T Nf ty) (hp : pl ci = true) (ha : sc σ a = ci + 1) (hk : Nat.ble (k + 1) Nf = true) (hl : Cond.fieldLink M.1.cls i (T k).1 (T k).2.1 (T k).2.2.1 ∈ lw_all) (hv : (fl σ ci a)[k]? = some (vV x)) (hd : d1 M.2.1 pc (.getfield i) 3 = true)
    (kk : Sm (V g M d (pc + 3) l (x :: st) σ τ Q) F K) : Sm (V g M d pc l (vr (some a) :: st) σ τ Q) F K := fun hx H hR => U.gf cd (hR.obj hp ha).1 hk hl hv hd (kk hx H hR)
theorem sm_gN {ci Nf i k a : Nat} {C host : String} {T : u_T} {ty : Nat → FieldType} {x : LV} (cd : CDt ci C T Nf ty) (hp : pl ci = true) (ha : sc σ a = ci + 1) (hk : Nat.ble (k + 1) Nf = true) (hl : Cond.fieldLinkNest M.1.cls i (T k).1 (T k).2.1 (T k).2.2.1 host ∈ lw_tbl) (hv : (fl σ ci a)[k]? = some (vV x)) (hd : d1 M.2.1 pc (.getfield i) 3 = true)
    (kk : Sm (V g M d (pc + 3) l (x :: st) σ τ Q) F K) : Sm (V g M d pc l (vr (some a) :: st) σ τ Q) F K := fun hx H hR => U.gfN cd (hR.obj hp ha).1 hk hl hv hd (kk hx H hR)
theorem V.at {rc rs : Nat} (h : rC g σ' = rc) (h2 : rS g σ' = rs) (hk : V g M d pc l st σ' τ Q) (hR : Rep g σ' τ H) : U g M d pc l st H rc rs (lQ g Q) := by rw [← h, ← h2]; exact hk H hR
theorem V.to (h : sC σ' = sC σ) (h2 : sS σ' = sS σ) (hk : V g M d pc l st σ' τ Q) (hR : Rep g σ' τ H) : U g M d pc l st H (rC g σ) (rS g σ) (lQ g Q) := V.at (by show gT g 1000 - _ = _; rw [h]) (by show gT g 1001 - _ = _; rw [h2]) hk hR
theorem sm_p {ci Nf i k a : Nat} {C : String} {T : u_T} {ty : Nat → FieldType} {x : LV} (cd : CDt ci C T Nf ty) (hp : pl ci = true) (ha : sc σ a = ci + 1) (hk : Nat.ble (k + 1) Nf = true) (hl : Cond.fieldLink M.1.cls i (T k).1 (T k).2.1 (T k).2.2.1 ∈ lw_all) (hfin : (T k).2.2.2 = false) (hn : narrow (ty k) (vV x) = vV x) (hfit : fits (ty k) (vV x) = true) (hlen : Nat.ble (k + 1) (fl σ ci a).length = true) (hA : At1 σ σ' a) (hf : fl σ' ci a = (fl σ ci a).set k (vV x)) (hd : d1 M.2.1 pc (.putfield i) 3 = true)
    (kk : Sm (V g M d (pc + 3) l st σ' τ Q) F K) : Sm (V g M d pc l (x :: vr (some a) :: st) σ τ Q) F K := fun hx H hR => U.pf cd (hR.obj hp ha).1 hk hl hfin hn hfit hlen (hR.obj hp ha).2 hd (fun H' hq => V.to hA.2.2.2.2.1 hA.2.2.2.2.2 (kk hx) (hR.putf hp ha hA (by rw [hf]; exact hq)))
theorem sm_pN {ci Nf i k a : Nat} {C host : String} {T : u_T} {ty : Nat → FieldType} {x : LV} (cd : CDt ci C T Nf ty) (hp : pl ci = true) (ha : sc σ a = ci + 1) (hk : Nat.ble (k + 1) Nf = true) (hl : Cond.fieldLinkNest M.1.cls i (T k).1 (T k).2.1 (T k).2.2.1 host ∈ lw_tbl) (hfin : (T k).2.2.2 = false) (hn : narrow (ty k) (vV x) = vV x) (hfit : fits (ty k) (vV x) = true) (hlen : Nat.ble (k + 1) (fl σ ci a).length = true) (hA : At1 σ σ' a) (hf : fl σ' ci a = (fl σ ci a).set k (vV x)) (hd : d1 M.2.1 pc (.putfield i) 3 = true)
    (kk : Sm (V g M d (pc + 3) l st σ' τ Q) F K) : Sm (V g M d pc l (x :: vr (some a) :: st) σ τ Q) F K := fun hx H hR => U.pfN cd (hR.obj hp ha).1 hk hl hfin hn hfit hlen (hR.obj hp ha).2 hd (fun H' hq => V.to hA.2.2.2.2.1 hA.2.2.2.2.2 (kk hx) (hR.putf hp ha hA (by rw [hf]; exact hq)))
theorem sm_pF {ci Nf i k a : Nat} {C : String} {T : u_T} {ty : Nat → FieldType} {x : LV} (cd : CDt ci C T Nf ty) (hp : pl ci = true) (ha : sc σ a = ci + 1) (hk : Nat.ble (k + 1) Nf = true) (hl : Cond.fieldLink M.1.cls i (T k).1 (T k).2.1 (T k).2.2.1 ∈ lw_all) (hfin : (T k).2.2.2 = true) (hin2 : M.1.name = "<init>") (hdecl : (T k).1 = M.1.cls) (hn : narrow (ty k) (vV x) = vV x) (hfit : fits (ty k) (vV x) = true) (hlen : Nat.ble (k + 1) (fl σ ci a).length = true) (hA : At1 σ σ' a) (hf : fl σ' ci a = (fl σ ci a).set k (vV x)) (hd : d1 M.2.1 pc (.putfield i) 3 = true)
    (kk : Sm (V g M d (pc + 3) l st σ' τ Q) F K) : Sm (V g M d pc l (x :: vr (some a) :: st) σ τ Q) F K := fun hx H hR => U.pfF cd (hR.obj hp ha).1 hk hl hfin hin2 hdecl hn hfit hlen (hR.obj hp ha).2 hd (fun H' hq => V.to hA.2.2.2.2.1 hA.2.2.2.2.2 (kk hx) (hR.putf hp ha hA (by rw [hf]; exact hq)))
/-! new objects and arrays -/
theorem U.new {rc rs : Nat} {Q : UQ} {ci Nf i : Nat} {C : String} {T : u_T} {ty : Nat → FieldType} (cd : CDt ci C T Nf ty) (hcl : Cond.classLink M.1.cls i C ∈ lw_all) (hinst : Cond.instantiable C Nf ∈ lw_all) (hini : Cond.initialized C ∈ lw_all) {fs : List Value} (hfs : ∀ j, j < Nf → defaultValue (ty j) = vp_V fs j) (hrc : 1 ≤ rc) (hrs : Nf ≤ rs) (hd : d1 M.2.1 pc (.new i) 3 = true)
    (kk : ∀ H', va_at (gD g) vCl (H.size, .inr (ci, fs)) H' → H'.size = H.size + 1 → (∀ q, q < H.size → H'[q]? = H[q]?) → U g M d (pc + 3) l (vr (some H.size) :: st) H' (rc - 1) (rs - Nf) Q) : U g M d pc l st H rc rs Q := by
  intro R s m args below meth c locs cells slots ls C0 hl0 hlo hc hs
  have hKn := C0.hK.1 ci _ cd.1
  refine W.newcK C0.hx C0.hb C0.hown (C0.word hcl args) (C0.word hinst args) (C0.word hini args) rfl (of_decide_eq_true hd) (by omega) (by omega) hKn.2.1 rfl fun H1 kC hkC e1 z1 o1 => ?_
  exact kk H1 ⟨_, cd.1, (u_born ty (C0.words args) cd.2.1 hKn hkC e1 cd.2.2.1).to hfs⟩ z1 o1 R s m args below meth c locs (cells + 1) (slots + Nf) ls C0 hl0 hlo (by omega) (by omega)
theorem sm_new {ci Nf i : Nat} {C : String} {T : u_T} {ty : Nat → FieldType} (cd : CDt ci C T Nf ty) (hp : pl ci = true) (hcl : Cond.classLink M.1.cls i C ∈ lw_all) (hinst : Cond.instantiable C Nf ∈ lw_all) (hini : Cond.initialized C ∈ lw_all) (hfs : ∀ j, j < Nf → defaultValue (ty j) = vp_V (fl (nO σ (ci + 1) Nf) ci (sZ σ)) j) (hr : rm (gRm g) σ Nf) (hd : d1 M.2.1 pc (.new i) 3 = true)
    (kk : Sm (V g M d (pc + 3) l (vr (some (sZ σ)) :: st) (nO σ (ci + 1) Nf) τ Q) F K) : Sm (V g M d pc l st σ τ Q) F K := by
  intro hx H hR
  have hz : H.size = sZ σ := hR.2.1
  refine U.new cd hcl hinst hini hfs (rm_1 hr) (rm_2 hr) hd (fun H' h1 h2 h3 => ?_)
  rw [hz] at h1 ⊢
  refine V.at rfl (Nat.sub_sub _ _ _).symm (kk hx) (hR.grow (t := ci + 1) (by omega) rfl rfl (fun b hb => ⟨rfl, rfl, rfl, rfl, rfl, rfl, rfl, fun k => up_ne _ _ hb, fun k => up_ne _ _ hb, fun k => up_ne _ _ hb⟩) h2 h3 (fun own _ => ?_))
  exact (cellC_pl hp (by rw [sc_nO, up_at])).mpr h1
theorem ga_RA {s : State} {k : Nat} {cA cB : ClassId} {ty : FieldType} (hK : va_K (gD g) vCl (tys_ g) s) (ht : (tys_ g)[k]? = some (cA, ty)) (hB : s.vm.findClass ("[" ++ ty.toString) = some cB) : cB = cA := by
  have h := (hK.2 k _ ht).2
  cases ty with
  | object C =>
    obtain ⟨kA, comp, -, -, -, h4⟩ := h
    exact Option.some.inj (hB.symm.trans h4)
  | _ => exact Option.some.inj (hB.symm.trans h)
theorem U.newa {rc rs : Nat} {Q : UQ} {atype : ArrayType} {n : Int} {t : Nat} {cA : ClassId} {ty : FieldType} (hty : newarray.typeOf atype = ty) (harr : Cond.arrayClass (newarray.typeOf atype) ∈ lw_all) (ht : (tys_ g)[t]? = some (cA, ty)) (hcb : componentBytes ty ≤ 8) (hn : 0 ≤ n ∧ n < 16777216) (hrc : 1 ≤ rc) (hrs : n.toNat ≤ rs) (hd : d1 M.2.1 pc (.newarray atype) 2 = true)
    (kk : ∀ H', H'[H.size]? = some (arrV cA n.toNat (fun _ => defaultValue ty)) → H'.size = H.size + 1 → (∀ q, q < H.size → H'[q]? = H[q]?) → U g M d (pc + 2) l (vr (some H.size) :: st) H' (rc - 1) (rs - n.toNat) Q) : U g M d pc l (vi n :: st) H rc rs Q := by
  intro R s m args below meth c locs cells slots ls C0 hl0 hlo hc hs
  subst hty
  have hrn : rg n := ⟨by omega, by omega⟩
  refine va_newaK C0.hx C0.hb (C0.word harr args) rfl (of_decide_eq_true hd) rfl (by rw [show ((0 : Int32)) = Int32.ofInt 0 from rfl, rLt hrn rg0]; omega) (N := n.toNat) (clamp hrn hn.1) ?_ (by omega) (by omega) rfl fun H1 cB e1 z1 o1 _ hnm => ?_
  · have h1 : n.toNat ≤ 16777216 := by omega
    exact Nat.le_trans (Nat.mul_le_mul h1 hcb) (by decide)
  · have e := ga_RA C0.hK ht hnm
    subst e
    exact kk H1 e1 z1 o1 R s m args below meth c locs (cells + 1) (slots + n.toNat) ls C0 hl0 hlo (by omega) (by omega)
theorem sm_newB {n : Int} (harr : Cond.arrayClass .byte ∈ lw_all) (hr : 0 ≤ n ∧ n < 16777216 ∧ rm (gRm g) σ n.toNat) (hd : d1 M.2.1 pc (.newarray .byte) 2 = true)
    (kk : Sm (V g M d (pc + 2) l (vr (some (sZ σ)) :: st) (nB σ n.toNat) τ Q) F K) : Sm (V g M d pc l (vi n :: st) σ τ Q) F K := by
  intro hx H hR
  have hz : H.size = sZ σ := hR.2.1
  refine U.newa (atype := .byte) (t := 0) (ty := .byte) rfl harr rfl (by decide) ⟨hr.1, hr.2.1⟩ (rm_1 hr.2.2) (rm_2 hr.2.2) hd (fun H' h1 h2 h3 => ?_)
  rw [hz] at h1 ⊢
  refine V.at rfl (Nat.sub_sub _ _ _).symm (kk hx) (hR.grow (t := 101) (by omega) rfl rfl (fun b hb => ⟨rfl, rfl, up_ne _ _ hb, up_ne _ _ hb, rfl, rfl, rfl, fun _ => rfl, fun _ => rfl, fun _ => rfl⟩) h2 h3 (fun own _ => ?_))
  unfold cellC
  rw [sc_nB, up_at, sN_nB, up_at, sB_nB, up_at]
  exact ⟨h1, by omega⟩
theorem sm_newE {n : Int} (harr : Cond.arrayClass .int ∈ lw_all) (hr : 0 ≤ n ∧ n < 16777216 ∧ rm (gRm g) σ n.toNat) (hd : d1 M.2.1 pc (.newarray .int) 2 = true)
    (kk : Sm (V g M d (pc + 2) l (vr (some (sZ σ)) :: st) (nE σ n.toNat) τ Q) F K) : Sm (V g M d pc l (vi n :: st) σ τ Q) F K := by
  intro hx H hR
  have hz : H.size = sZ σ := hR.2.1
  refine U.newa (atype := .int) (t := 1) (ty := .int) rfl harr rfl (by decide) ⟨hr.1, hr.2.1⟩ (rm_1 hr.2.2) (rm_2 hr.2.2) hd (fun H' h1 h2 h3 => ?_)
  rw [hz] at h1 ⊢
  refine V.at rfl (Nat.sub_sub _ _ _).symm (kk hx) (hR.grow (t := 102) (by omega) rfl rfl (fun b hb => ⟨rfl, rfl, up_ne _ _ hb, rfl, up_ne _ _ hb, rfl, rfl, fun _ => rfl, fun _ => rfl, fun _ => rfl⟩) h2 h3 (fun own _ => ?_))
  unfold cellC
  rw [sc_nE, up_at, sN_nE, up_at, sE_nE, up_at]
  exact ⟨h1, by omega⟩
theorem sm_newF {n : Int} {i : Nat} (hcl : Cond.classLink M.1.cls i "WireSchemas$Field" ∈ lw_all) (hov : Cond.arrayOver (.object "WireSchemas$Field") ∈ lw_tbl) (hr : 0 ≤ n ∧ n < 16777216 ∧ rm (gRm g) σ n.toNat) (hd : d1 M.2.1 pc (.anewarray i) 3 = true)
    (kk : Sm (V g M d (pc + 3) l (vr (some (sZ σ)) :: st) (nF σ n.toNat) τ Q) F K) : Sm (V g M d pc l (vi n :: st) σ τ Q) F K := by
  intro hx H hR R s m args below meth c locs cells slots ls C0 hl0 hlo hc hs
  have hz : H.size = sZ σ := hR.2.1
  have hrn : rg n := ⟨by omega, by omega⟩
  have hov' : va_AO "WireSchemas$Field" s := by
    obtain ⟨A0, hA0⟩ := C0.1.2.1
    exact va_AO.moved C0.warm.alike (va_AO.of (hA0 _ hov))
  have hcl0 := clamp hrn hr.1
  have hm1 := rm_1 hr.2.2
  have hm2 := rm_2 hr.2.2
  refine W.anew C0.hx C0.hb C0.hown (C0.word hcl args) (va_AO.use hov') rfl (of_decide_eq_true hd) rfl (by rw [show ((0 : Int32)) = Int32.ofInt 0 from rfl, rLt hrn rg0]; omega) (by rw [hcl0]; omega) (by omega) (by rw [hcl0]; omega) fun cA kA comp f1 f2 f3 f4 => ?_
  rw [hcl0]
  have e := ga_RA (k := 3) C0.hK rfl f1
  subst e
  generalize hH1 : H.push ({ cls := ga g 3, slots := Array.replicate n.toNat .null, vm := .none } : Cell) = H1
  have z1 : H1.size = H.size + 1 := by rw [← hH1, Array.size_push]
  have e1 : H1[H.size]? = some (arrV (ga g 3) n.toNat (fun _ => .null)) := by rw [← hH1, Array.getElem?_push_size, ← arrV_new]
  have o1 : ∀ q : Nat, q < H.size → H1[q]? = H[q]? := fun q hq => by rw [← hH1, Array.getElem?_push, if_neg (Nat.ne_of_lt hq)]
  rw [hz] at e1 ⊢
  have hR1 : Rep g (nF σ n.toNat) τ H1 := by
    refine hR.grow (t := 103) (by omega) rfl rfl (fun b hb => ⟨rfl, rfl, up_ne _ _ hb, rfl, rfl, up_ne _ _ hb, rfl, fun _ => rfl, fun _ => rfl, fun _ => rfl⟩) z1 o1 (fun own _ => ?_)
    unfold cellC
    rw [sc_nF, up_at, sN_nF, up_at, sF_nF, up_at]
    exact ⟨e1, by omega, fun j x hx => by cases hx⟩
  exact kk hx H1 hR1 R s m args below meth c locs (cells + 1) (slots + n.toNat) ls C0 hl0 hlo (by have := hr.2.2.1; have h0 : cells + (gT g 1000 - sC σ) ≤ _ := hc; show cells + 1 + (gT g 1000 - (sC σ + 1)) ≤ _; simp only at this; omega) (by have := hr.2.2.2; have h0 : slots + (gT g 1001 - sS σ) ≤ _ := hs; show slots + n.toNat + (gT g 1001 - (sS σ + n.toNat)) ≤ _; simp only at this; omega)
/-! arrays -/
theorem Rep.arB {a : Nat} (h : Rep g σ τ H) (ha : sc σ a = 101) : (va_at (gD g) vCl (a, .inl (ga g 0, sN σ a, .inl (fun j => sbW (sB σ a j)))) H ∧ sN σ a < 2 ^ 24) ∧ gB g ≤ a := by
  obtain ⟨⟨own, hC, -⟩, -⟩ := h
  obtain ⟨c1, c2, c3⟩ := hC a (by omega)
  unfold cellC at c3
  rw [ha] at c3
  exact ⟨c3, c1⟩
theorem Rep.arE {a : Nat} (h : Rep g σ τ H) (ha : sc σ a = 102) : (va_at (gD g) vCl (a, .inl (ga g 1, sN σ a, .inl (fun j => Int32.ofInt (sE σ a j)))) H ∧ sN σ a < 2 ^ 24) ∧ gB g ≤ a := by
  obtain ⟨⟨own, hC, -⟩, -⟩ := h
  obtain ⟨c1, c2, c3⟩ := hC a (by omega)
  unfold cellC at c3
  rw [ha] at c3
  exact ⟨c3, c1⟩
theorem Rep.arF {a : Nat} (h : Rep g σ τ H) (ha : sc σ a = 103) : (va_at (gD g) vCl (a, .inl (ga g 3, sN σ a, .inr (.inr (.inr (.inr (sF σ a)))))) H ∧ sN σ a < 2 ^ 24 ∧ ∀ j x : Nat, sF σ a j = some x → sc σ x = 9) ∧ gB g ≤ a := by
  obtain ⟨⟨own, hC, -⟩, -⟩ := h
  obtain ⟨c1, c2, c3⟩ := hC a (by omega)
  unfold cellC at c3
  rw [ha] at c3
  exact ⟨c3, c1⟩
theorem ib_rg {i : Int} {n : Nat} (h : ib i n) (hn : n < 2 ^ 24) : rg i := ⟨by have := h.1; omega, by have := h.2; omega⟩
theorem sm_bl {a : Nat} {i : Int} (ha : sc σ a = 101) (hi : ib i (sN σ a)) (hd : d1 M.2.1 pc .baload 1 = true) (kk : Sm (V g M d (pc + 1) l (vi (sbI (sB σ a i.toNat)) :: st) σ τ Q) F K) : Sm (V g M d pc l (vi i :: vr (some a) :: st) σ τ Q) F K :=
  fun hx H hR => U.bald (ib_rg hi (hR.arB ha).1.2) (sbI_W _) (hR.arB ha).1.1 hi hd (kk hx H hR)
theorem sm_el {a : Nat} {i : Int} (ha : sc σ a = 102) (hi : ib i (sN σ a)) (hd : d1 M.2.1 pc .iaload 1 = true) (kk : Sm (V g M d (pc + 1) l (vi (sE σ a i.toNat) :: st) σ τ Q) F K) : Sm (V g M d pc l (vi i :: vr (some a) :: st) σ τ Q) F K :=
  fun hx H hR => U.iald (ib_rg hi (hR.arE ha).1.2) rfl (hR.arE ha).1.1 hi hd (kk hx H hR)
/-- a byte that is stored -/
def u8 (x : Int) : UInt8 := (Int32.ofInt x).toInt8.toUInt8
theorem sbW_up (f : Nat → UInt8) (i : Nat) (x : Int) : (fun j => sbW (up f i (u8 x) j)) = upd (fun j => sbW (f j)) i (Int32.ofInt x).toInt8.toInt32 := by
  funext j
  unfold up upd
  split
  · unfold sbW u8
    simp
  · rfl
theorem sm_bs {a : Nat} {i x : Int} (ha : sc σ a = 101) (hi : ib i (sN σ a)) (hd : d1 M.2.1 pc .bastore 1 = true) (kk : Sm (V g M d (pc + 1) l st (pB σ a i.toNat (u8 x)) τ Q) F K) : Sm (V g M d pc l (vi x :: vi i :: vr (some a) :: st) σ τ Q) F K := by
  intro hx H hR
  refine U.bast (ib_rg hi (hR.arB ha).1.2) (hR.arB ha).1.1 hi (hR.arB ha).2 hd (fun H' hq => kk hx H' ?_)
  obtain ⟨e1, e2, e3, e4, -⟩ := at_pB σ a i.toNat (u8 x)
  refine hR.loc (by omega) e1 e2 e3 e4 hq.2.1 hq.2.2 (fun own _ => ?_)
  unfold cellC
  rw [e1, ha, sN_pB]
  refine ⟨?_, (hR.arB ha).1.2⟩
  rw [show sB (pB σ a i.toNat (u8 x)) a = up (sB σ a) i.toNat (u8 x) from up_at _ _ _, sbW_up]
  exact hq.1
theorem sm_es {a : Nat} {i x : Int} (ha : sc σ a = 102) (hi : ib i (sN σ a)) (hd : d1 M.2.1 pc .iastore 1 = true) (kk : Sm (V g M d (pc + 1) l st (pE σ a i.toNat x) τ Q) F K) : Sm (V g M d pc l (vi x :: vi i :: vr (some a) :: st) σ τ Q) F K := by
  intro hx H hR
  refine U.iast (ib_rg hi (hR.arE ha).1.2) (hR.arE ha).1.1 hi (hR.arE ha).2 hd (fun H' hq => kk hx H' ?_)
  obtain ⟨e1, e2, e3, e4, -⟩ := at_pE σ a i.toNat x
  refine hR.loc (by omega) e1 e2 e3 e4 hq.2.1 hq.2.2 (fun own _ => ?_)
  unfold cellC
  rw [e1, ha, sN_pE]
  refine ⟨?_, (hR.arE ha).1.2⟩
  rw [show sE (pE σ a i.toNat x) a = up (sE σ a) i.toNat x from up_at _ _ _, ofInt_up]
  exact hq.1
theorem sm_alB {a : Nat} (ha : sc σ a = 101) (hd : d1 M.2.1 pc .arraylength 1 = true) (kk : Sm (V g M d (pc + 1) l (vi (sN σ a) :: st) σ τ Q) F K) : Sm (V g M d pc l (vr (some a) :: st) σ τ Q) F K :=
  fun hx H hR => U.alen (t := 0) (hR.arB ha).1.1 rfl hd (kk hx H hR)
theorem sm_alF {a : Nat} (ha : sc σ a = 103) (hd : d1 M.2.1 pc .arraylength 1 = true) (kk : Sm (V g M d (pc + 1) l (vi (sN σ a) :: st) σ τ Q) F K) : Sm (V g M d pc l (vr (some a) :: st) σ τ Q) F K :=
  fun hx H hR => U.alen (t := 3) (hR.arF ha).1.1 rfl hd (kk hx H hR)
theorem sm_fl {a : Nat} {i : Int} (ha : sc σ a = 103) (hi : ib i (sN σ a)) (hd : d1 M.2.1 pc .aaload 1 = true) (kk : Sm (V g M d (pc + 1) l (vr (sF σ a i.toNat) :: st) σ τ Q) F K) : Sm (V g M d pc l (vi i :: vr (some a) :: st) σ τ Q) F K := by
  intro hx H hR R s m args below meth c locs cells slots ls C0 hl0 hlo hc hs
  have hri := ib_rg hi (hR.arF ha).1.2.1
  refine va_aldq (tys := tys_ g) C0.hx C0.hb C0.hK (vP1 (hR.arF ha).1.1) 0 3 rfl rfl (in_vp hri hi) (of_decide_eq_true hd) ?_
  rw [clamp hri hi.1]
  exact kk hx H hR R s m args below meth c locs cells slots ls C0 hl0 hlo hc hs
theorem sm_fs {a x : Nat} {i : Int} (ha : sc σ a = 103) (hxx : sc σ x = 9) (hi : ib i (sN σ a)) (hd : d1 M.2.1 pc .aastore 1 = true) (kk : Sm (V g M d (pc + 1) l st (pF σ a i.toNat (some x)) τ Q) F K) : Sm (V g M d pc l (vr (some x) :: vi i :: vr (some a) :: st) σ τ Q) F K := by
  intro hx H hR R s m args below meth c locs cells slots ls C0 hl0 hlo hc hs
  have hri := ib_rg hi (hR.arF ha).1.2.1
  have hP : va_P (gD g) vCl [(a, .inl (ga g 3, sN σ a, .inr (.inr (.inr (.inr (sF σ a)))))), (x, .inr (8, fl σ 8 x))] H := by
    intro k y hk
    match k, hk with
    | 0, hk => cases hk; exact (hR.arF ha).1.1
    | 1, hk => cases hk; exact (hR.obj (ci := 8) rfl hxx).1
    | k + 2, hk => simp at hk
  obtain ⟨hatA, hnA, htA⟩ := (hR.arF ha).1
  obtain ⟨r', hr', cellV, g1, g2, g3, -⟩ := hP 1 _ rfl
  have hcls := (C0.hK.1 8 _ rfl).2
  obtain ⟨kA, comp, k1, k2, k3, -⟩ := (C0.hK.2 3 _ rfl).2
  have hcomp : comp = (gD g).1 8 := Option.some.inj (k3.symm.trans hcls.1)
  subst hcomp
  obtain ⟨kC, hkC, -⟩ := hcls.2
  have hlt : i.toNat < sN σ a := by have := hi.1; have := hi.2; omega
  refine W.aast (j := Int32.ofInt i) C0.hx C0.hb hatA (fun q h => by cases h) (fun h => by cases h) k1 k2 rfl hkC ⟨by rw [show ((0 : Int32)) = Int32.ofInt 0 from rfl, rLt hri rg0]; have := hi.1; omega, by show _ < (arrV _ _ _).slots.size; rw [arrV_size, clamp hri hi.1]; exact hlt⟩ g1 (fun q h => by rw [g3] at h; cases h) (by rw [g2]; exact hkC) (by rw [g2]; exact va_assign hcls) rfl rfl (of_decide_eq_true hd) fun H1 e z oq => ?_
  obtain ⟨e1, e2, e3, e4, -⟩ := at_pF σ a i.toNat (some x)
  have hR1 : Rep g (pF σ a i.toNat (some x)) τ H1 := by
    refine hR.loc (by omega) e1 e2 e3 e4 z oq (fun own _ => ?_)
    unfold cellC
    rw [e1, ha, sN_pF]
    have hsf : sF (pF σ a i.toNat (some x)) a = up (sF σ a) i.toNat (some x) := up_at _ _ _
    refine ⟨?_, hnA, fun j y hy => ?_⟩
    · show H1[a]? = some (vp_cell _ _)
      rw [e, vp_cell_q, vp_cell_q, arrV_store, clamp hri hi.1, hsf]
      congr 2
      funext q
      by_cases hq : q = i.toNat
      · subst hq; simp [updV, up, va_rf]
      · simp [updV, up, hq]
    · rw [hsf] at hy
      unfold up at hy
      split at hy
      · cases hy; exact hxx
      · exact htA j y hy
  exact kk hx H1 hR1 R s m args below meth c _ cells slots ls C0 hl0 (hlo.put (hR.arF ha).2) hc hs
/-! casts and receivers -/
theorem Rep.rv {ci a Nf : Nat} {C : String} {T : u_T} {ty : Nat → FieldType} (G : GF g) (cd : CDt ci C T Nf ty) (h : Rep g σ τ H) (hp : pl ci = true) (ha : sc σ a = ci + 1) : Rv g C a H := by
  obtain ⟨r, h1, cell, q1, q2, q3, q4⟩ := (h.obj hp ha).1
  have hr : r = (C, T, Nf) := Option.some.inj (h1.symm.trans cd.1)
  subst hr
  obtain ⟨-, hfc, -⟩ := G.2.2.1 ci _ cd.1
  exact ⟨cell, q1, by rw [q3]; rfl, by rw [q2]; exact hfc⟩
theorem Rep.rvR {a : Nat} (G : GF g) (h : Rep g σ τ H) (ha : sc σ a = 4) : Rv g "WireSchemas$Row" a H := by
  obtain ⟨⟨own, hC, -⟩, -⟩ := h
  obtain ⟨c1, c2, c3⟩ := hC a (by omega)
  unfold cellC at c3
  rw [if_pos ha] at c3
  obtain ⟨r, h1, cell, q1, q2, q3, q4⟩ := c3.1
  have hr : r = (RX3, TX3, 2) := Option.some.inj (h1.symm.trans cd3.1)
  subst hr
  obtain ⟨-, hfc, -⟩ := G.2.2.1 3 _ cd3.1
  exact ⟨cell, q1, by rw [q3]; rfl, by rw [q2]; exact hfc⟩
theorem Rep.rvL {a : Nat} (G : GF g) (h : Rep g σ τ H) (ha : sc σ a = 16) : Rv g "java/util/ArrayList" a H := by
  obtain ⟨⟨own, hC, -⟩, -⟩ := h
  obtain ⟨c1, c2, c3⟩ := hC a (by omega)
  unfold cellC at c3
  rw [if_neg (by rw [ha]; decide), if_pos ha] at c3
  obtain ⟨⟨mc, r, h1, cell, q1, q2, q3, q4⟩, -⟩ := c3
  have hr : r = (RJ2, TJ2, 3) := Option.some.inj (h1.symm.trans cd15.1)
  subst hr
  obtain ⟨-, hfc, -⟩ := G.2.2.1 15 _ cd15.1
  exact ⟨cell, q1, by rw [q3]; rfl, by rw [q2]; exact hfc⟩
theorem sm_cast {ci Nf i a : Nat} {C : String} {T : u_T} {ty : Nat → FieldType} (cd : CDt ci C T Nf ty) (hcl : Cond.classLink M.1.cls i C ∈ lw_all) (hrv : ∀ H, Rep g σ τ H → Rv g C a H) (hd : d1 M.2.1 pc (.checkcast i) 3 = true) (kk : Sm (V g M d (pc + 3) l (vr (some a) :: st) σ τ Q) F K) : Sm (V g M d pc l (vr (some a) :: st) σ τ Q) F K := by
  intro hx H hR R s m args below meth c locs cells slots ls C0 hl0 hlo hc hs
  obtain ⟨cell, h1, h2, h3⟩ := hrv H hR
  exact va_castS C0.hx C0.hb C0.hown (C0.word hcl args) (C0.hK.1 ci _ cd.1).2 ⟨cell, h1, h2, by rw [C0.warm.alike.findClass]; exact h3⟩ (of_decide_eq_true hd) (kk hx H hR R s m args below meth c locs cells slots ls C0 hl0 hlo hc hs)
/-- the root class' constructor -/
theorem sm_obj {i a : Nat} (hlink : Cond.methodLink M.1.cls i Lib.objectInit ∈ lw_all) (hd1 : 1 ≤ d) (hw : Nat.ble (2 * st.length + 12) 64 = true) (hd : d1 M.2.1 pc (.invokespecial i) 3 = true) (kk : Sm (V g M d (pc + 3) l st σ τ Q) F K) : Sm (V g M d pc l (vr (some a) :: st) σ τ Q) F K := by
  intro hx H hR R s m args below meth c locs cells slots ls C0 hl0 hlo hc hs
  have hw' := Nat.le_of_ble_eq_true hw
  have hcs := cat_sum st
  have hfr := C0.frames
  have hlc := C0.locals
  refine W.objInit C0.hx C0.hb C0.hown (C0.word hlink args) (C0.word q172 args) (C0.word q173 args) rfl (by show ls.size = _; rw [hl0.1, C0.hml]) rfl (of_decide_eq_true hd) (by omega) ?_ (kk hx H hR R s m args below meth c locs cells slots ls C0 hl0 hlo hc hs)
  show 2 * 0 + ((sV st).map fun v => v.category).sum + 12 ≤ R.locals
  omega
end SysR
