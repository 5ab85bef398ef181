set_option maxRecDepth 100000
/-! PURE: rules to compute images, bits, the parts of a changed state -/
theorem gd_pos {X : Type} {b : Prop} [Decidable b] {F : Option X} (h : b) : gd b F = F := if_pos h
theorem nm_eq {A X : Type} (e : A) (F : A → X) : nm e F = F e := rfl
theorem bind_some' {A X : Type} (a : A) (F : A → Option X) : Option.bind (some a) F = F a := rfl
theorem vv_s (x : Int) : vv (some x) = x := rfl
theorem vw_s (x : Int64) : vw (some x) = x := rfl
theorem vo_s (x : Option Nat) : vo (some x) = x := rfl
theorem ok_some {Y : Type} (y : Y) : ok (some y) := rfl
theorem tB_some {Y X : Type} (thr : ST → X) (G : Y → ST → Option X) (y : Y) (σ : ST) : tB thr G (some y, σ) = G y σ := rfl
theorem tB_none {Y X : Type} (thr : ST → X) (G : Y → ST → Option X) (σ : ST) : tB thr G (none, σ) = some (thr σ) := rfl
theorem elim_l {A B C : Type} (f : A → C) (g : B → C) (a : A) : Sum.elim f g (Sum.inl a) = f a := rfl
theorem elim_r {A B C : Type} (f : A → C) (g : B → C) (b : B) : Sum.elim f g (Sum.inr b) = g b := rfl
/-! bits -/
theorem n_and (a b : Nat) : nI a &&& nI b = nI (a &&& b) := by
  apply Int32.toBitVec_inj.1
  show BitVec.ofNat 32 a &&& BitVec.ofNat 32 b = BitVec.ofNat 32 (a &&& b)
  apply BitVec.eq_of_getLsbD_eq
  intro i hi
  simp [hi]
theorem n_or (a b : Nat) : nI a ||| nI b = nI (a ||| b) := by
  apply Int32.toBitVec_inj.1
  show BitVec.ofNat 32 a ||| BitVec.ofNat 32 b = BitVec.ofNat 32 (a ||| b)
  apply BitVec.eq_of_getLsbD_eq
  intro i hi
  simp [hi]
theorem iAnd_n {x y : Int} {a b : Nat} (hx : x = a) (hy : y = b) (hb : b < 2 ^ 31) : iAnd x y = ((a &&& b : Nat) : Int) := by
  subst hx hy
  unfold iAnd
  rw [← nI_ofI, ← nI_ofI, n_and, nI_ofI]
  have h := Nat.and_lt_two_pow a hb
  exact rg_to ⟨by omega, by omega⟩
theorem iOr_n {x y : Int} {a b : Nat} (hx : x = a) (hy : y = b) (ha : a < 2 ^ 31) (hb : b < 2 ^ 31) : iOr x y = ((a ||| b : Nat) : Int) := by
  subst hx hy
  unfold iOr
  rw [← nI_ofI, ← nI_ofI, n_or, nI_ofI]
  have h := Nat.or_lt_two_pow ha hb
  exact rg_to ⟨by omega, by omega⟩
theorem iShr_n {x y : Int} {a k : Nat} (hx : x = a) (hy : y = k) (ha : a < 2 ^ 31) (hk : k < 32) : iShr x y = ((a / 2 ^ k : Nat) : Int) := by
  subst hx hy
  rw [iShr_eq (a : Int) k ⟨by omega, by omega⟩ hk]
  simp
theorem iShl_n {x y : Int} {a k : Nat} (hx : x = a) (hy : y = k) (hk : k < 32) (h : a * 2 ^ k < 2 ^ 31) : iShl x y = ((a * 2 ^ k : Nat) : Int) := by
  subst hx hy
  have hs : ∀ k : Nat, k < 32 → (Int32.ofInt k &&& 31) = nI k ∧ ((nI k).toBitVec.smod 32) = BitVec.ofNat 32 k := by decide +kernel
  unfold iShl
  rw [(hs k hk).1]
  have e : (Int32.ofInt (a : Int) <<< nI k) = nI (a * 2 ^ k) := by
    rw [← nI_ofI]
    apply Int32.toBitVec_inj.1
    rw [Int32.toBitVec_shiftLeft, (hs k hk).2]
    show BitVec.ofNat 32 a <<< BitVec.ofNat 32 k = BitVec.ofNat 32 (a * 2 ^ k)
    apply BitVec.eq_of_toNat_eq
    rw [BitVec.shiftLeft_eq', BitVec.toNat_shiftLeft, BitVec.toNat_ofNat, BitVec.toNat_ofNat, BitVec.toNat_ofNat, Nat.mod_eq_of_lt (show k < 2 ^ 32 by omega), Nat.shiftLeft_eq, Nat.mul_mod, Nat.mod_mod, ← Nat.mul_mod]
  rw [e, nI_ofI]
  exact rg_to ⟨by omega, by omega⟩
theorem byte_all {P : UInt8 → Prop} (h : ∀ k : Fin 256, P (UInt8.ofNat k.val)) (b : UInt8) : P b := by
  have q := h ⟨b.toNat, b.toNat_lt⟩
  simpa using q
theorem sb_and (b : UInt8) : iAnd (sbI b) 255 = (b.toNat : Int) := byte_all (P := fun b => iAnd (sbI b) 255 = (b.toNat : Int)) (by decide +kernel) b
theorem sb_eq (b : UInt8) : sbI b = if b.toNat < 128 then (b.toNat : Int) else (b.toNat : Int) - 256 := byte_all (P := fun b => sbI b = if b.toNat < 128 then (b.toNat : Int) else (b.toNat : Int) - 256) (by decide +kernel) b
theorem u8_sb (b : UInt8) : u8 (sbI b) = b := byte_all (P := fun b => u8 (sbI b) = b) (by decide +kernel) b
theorem u8_n {x : Int} {k : Nat} (hx : x = k) (h : k < 256) : u8 x = UInt8.ofNat k := by
  subst hx
  have q : ∀ k : Fin 256, u8 ((k.val : Nat) : Int) = UInt8.ofNat k.val := by decide +kernel
  exact q ⟨k, h⟩
theorem u8_b (b : UInt8) : u8 (b.toNat : Int) = b := by
  rw [u8_n rfl b.toNat_lt]; simp
theorem tn_of {k : Nat} (h : k < 256) : (UInt8.ofNat k).toNat = k := by simp; omega
/-! the reference's state -/
theorem tI_uI (τ : TT) (k j : Nat) (v : Int) : tI (uI τ k v) j = if j = k then v else tI τ j := rfl
theorem tJ_uI (τ : TT) (k : Nat) (v : Int) : tJ (uI τ k v) = tJ τ := rfl
theorem tA_uI (τ : TT) (k : Nat) (v : Int) : tA (uI τ k v) = tA τ := rfl
theorem tI_uJ (τ : TT) (k : Nat) (v : Int64) : tI (uJ τ k v) = tI τ := rfl
theorem tJ_uJ (τ : TT) (k j : Nat) (v : Int64) : tJ (uJ τ k v) j = if j = k then v else tJ τ j := rfl
theorem tA_uJ (τ : TT) (k : Nat) (v : Int64) : tA (uJ τ k v) = tA τ := rfl
theorem tI_uA (τ : TT) (k i : Nat) (v : Int) : tI (uA τ k i v) = tI τ := rfl
theorem tJ_uA (τ : TT) (k i : Nat) (v : Int) : tJ (uA τ k i v) = tJ τ := rfl
theorem tA_uA (τ : TT) (k i : Nat) (v : Int) (j m : Nat) : tA (uA τ k i v) j m = if j = k ∧ m = i then v else tA τ j m := by
  show up (tA τ) k (up (tA τ k) i v) j m = _
  unfold up
  by_cases h : j = k
  · subst h; by_cases h2 : m = i <;> simp [h2]
  · simp [h]
/-- two states of the reference that differ at some keys only -/
def TF (l : List Nat) (τ τ' : TT) : Prop := ∀ j, j ∉ l → tI τ' j = tI τ j ∧ tJ τ' j = tJ τ j ∧ tA τ' j = tA τ j
theorem TF.refl (l : List Nat) (τ : TT) : TF l τ τ := fun _ _ => ⟨rfl, rfl, rfl⟩
theorem TF.tr {l l' : List Nat} {τ τ1 τ2 : TT} (h1 : TF l τ τ1) (h2 : TF l' τ1 τ2) (hl : ∀ j ∈ l', j ∈ l) : TF l τ τ2 := fun j hj => by
  obtain ⟨a, b, c⟩ := h1 j hj
  obtain ⟨a', b', c'⟩ := h2 j (fun e => hj (hl j e))
  exact ⟨a'.trans a, b'.trans b, c'.trans c⟩
theorem TF.mono {l l' : List Nat} {τ τ1 : TT} (h1 : TF l' τ τ1) (hl : ∀ j ∈ l', j ∈ l) : TF l τ τ1 := (TF.refl l τ).tr h1 hl
theorem TF.uI {l : List Nat} {τ τ1 : TT} (h1 : TF l τ τ1) {k : Nat} (hk : k ∈ l) (v : Int) : TF l τ (uI τ1 k v) := fun j hj => by
  obtain ⟨a, b, c⟩ := h1 j hj
  exact ⟨by rw [tI_uI, if_neg (fun e => hj (by rw [e]; exact hk))]; exact a, b, c⟩
theorem TF.uJ {l : List Nat} {τ τ1 : TT} (h1 : TF l τ τ1) {k : Nat} (hk : k ∈ l) (v : Int64) : TF l τ (uJ τ1 k v) := fun j hj => by
  obtain ⟨a, b, c⟩ := h1 j hj
  exact ⟨a, by rw [tJ_uJ, if_neg (fun e => hj (by rw [e]; exact hk))]; exact b, c⟩
theorem TF.uA {l : List Nat} {τ τ1 : TT} (h1 : TF l τ τ1) {k : Nat} (hk : k ∈ l) (i : Nat) (v : Int) : TF l τ (uA τ1 k i v) := fun j hj => by
  obtain ⟨a, b, c⟩ := h1 j hj
  exact ⟨a, b, by funext m; rw [tA_uA, if_neg (fun e => hj (by rw [e.1]; exact hk)), c]⟩
/-! the system's state -/
theorem sc_nO_ (σ : ST) (t n : Nat) (b : Nat) : sc (nO σ t n) b = if b = sZ σ then t else sc σ b := rfl
theorem sI_nO_ (σ : ST) (t n : Nat) (k b : Nat) : sI (nO σ t n) k b = if b = sZ σ then 0 else sI σ k b := rfl
theorem sJ_nO_ (σ : ST) (t n : Nat) (k b : Nat) : sJ (nO σ t n) k b = if b = sZ σ then 0 else sJ σ k b := rfl
theorem sR_nO_ (σ : ST) (t n : Nat) (k b : Nat) : sR (nO σ t n) k b = if b = sZ σ then none else sR σ k b := rfl
theorem sW_nO_ (σ : ST) (t n : Nat) : sW (nO σ t n) = sW σ := rfl
theorem sA_nO_ (σ : ST) (t n : Nat) : sA (nO σ t n) = sA σ := rfl
theorem sN_nO_ (σ : ST) (t n : Nat) : sN (nO σ t n) = sN σ := rfl
theorem sB_nO_ (σ : ST) (t n : Nat) : sB (nO σ t n) = sB σ := rfl
theorem sE_nO_ (σ : ST) (t n : Nat) : sE (nO σ t n) = sE σ := rfl
theorem sF_nO_ (σ : ST) (t n : Nat) : sF (nO σ t n) = sF σ := rfl
theorem sH_nO_ (σ : ST) (t n : Nat) : sH (nO σ t n) = sH σ := rfl
theorem sZ_nO_ (σ : ST) (t n : Nat) : sZ (nO σ t n) = sZ σ + 1 := rfl
theorem sC_nO_ (σ : ST) (t n : Nat) : sC (nO σ t n) = sC σ + 1 := rfl
theorem sS_nO_ (σ : ST) (t n : Nat) : sS (nO σ t n) = sS σ + n := rfl
theorem sc_nB_ (σ : ST) (n : Nat) (b : Nat) : sc (nB σ n) b = if b = sZ σ then 101 else sc σ b := rfl
theorem sI_nB_ (σ : ST) (n : Nat) : sI (nB σ n) = sI σ := rfl
theorem sJ_nB_ (σ : ST) (n : Nat) : sJ (nB σ n) = sJ σ := rfl
theorem sR_nB_ (σ : ST) (n : Nat) : sR (nB σ n) = sR σ := rfl
theorem sW_nB_ (σ : ST) (n : Nat) : sW (nB σ n) = sW σ := rfl
theorem sA_nB_ (σ : ST) (n : Nat) : sA (nB σ n) = sA σ := rfl
theorem sN_nB_ (σ : ST) (n : Nat) (b : Nat) : sN (nB σ n) b = if b = sZ σ then n else sN σ b := rfl
theorem sB_nB_ (σ : ST) (n : Nat) (b : Nat) : sB (nB σ n) b = if b = sZ σ then (fun _ => 0) else sB σ b := rfl
theorem sE_nB_ (σ : ST) (n : Nat) : sE (nB σ n) = sE σ := rfl
theorem sF_nB_ (σ : ST) (n : Nat) : sF (nB σ n) = sF σ := rfl
theorem sH_nB_ (σ : ST) (n : Nat) : sH (nB σ n) = sH σ := rfl
theorem sZ_nB_ (σ : ST) (n : Nat) : sZ (nB σ n) = sZ σ + 1 := rfl
theorem sC_nB_ (σ : ST) (n : Nat) : sC (nB σ n) = sC σ + 1 := rfl
theorem sS_nB_ (σ : ST) (n : Nat) : sS (nB σ n) = sS σ + n := rfl
theorem sc_nE_ (σ : ST) (n : Nat) (b : Nat) : sc (nE σ n) b = if b = sZ σ then 102 else sc σ b := rfl
theorem sI_nE_ (σ : ST) (n : Nat) : sI (nE σ n) = sI σ := rfl
theorem sJ_nE_ (σ : ST) (n : Nat) : sJ (nE σ n) = sJ σ := rfl
theorem sR_nE_ (σ : ST) (n : Nat) : sR (nE σ n) = sR σ := rfl
theorem sW_nE_ (σ : ST) (n : Nat) : sW (nE σ n) = sW σ := rfl
theorem sA_nE_ (σ : ST) (n : Nat) : sA (nE σ n) = sA σ := rfl
theorem sN_nE_ (σ : ST) (n : Nat) (b : Nat) : sN (nE σ n) b = if b = sZ σ then n else sN σ b := rfl
theorem sB_nE_ (σ : ST) (n : Nat) : sB (nE σ n) = sB σ := rfl
theorem sE_nE_ (σ : ST) (n : Nat) (b : Nat) : sE (nE σ n) b = if b = sZ σ then (fun _ => 0) else sE σ b := rfl
theorem sF_nE_ (σ : ST) (n : Nat) : sF (nE σ n) = sF σ := rfl
theorem sH_nE_ (σ : ST) (n : Nat) : sH (nE σ n) = sH σ := rfl
theorem sZ_nE_ (σ : ST) (n : Nat) : sZ (nE σ n) = sZ σ + 1 := rfl
theorem sC_nE_ (σ : ST) (n : Nat) : sC (nE σ n) = sC σ + 1 := rfl
theorem sS_nE_ (σ : ST) (n : Nat) : sS (nE σ n) = sS σ + n := rfl
theorem sc_nF_ (σ : ST) (n : Nat) (b : Nat) : sc (nF σ n) b = if b = sZ σ then 103 else sc σ b := rfl
theorem sI_nF_ (σ : ST) (n : Nat) : sI (nF σ n) = sI σ := rfl
theorem sJ_nF_ (σ : ST) (n : Nat) : sJ (nF σ n) = sJ σ := rfl
theorem sR_nF_ (σ : ST) (n : Nat) : sR (nF σ n) = sR σ := rfl
theorem sW_nF_ (σ : ST) (n : Nat) : sW (nF σ n) = sW σ := rfl
theorem sA_nF_ (σ : ST) (n : Nat) : sA (nF σ n) = sA σ := rfl
theorem sN_nF_ (σ : ST) (n : Nat) (b : Nat) : sN (nF σ n) b = if b = sZ σ then n else sN σ b := rfl
theorem sB_nF_ (σ : ST) (n : Nat) : sB (nF σ n) = sB σ := rfl
theorem sE_nF_ (σ : ST) (n : Nat) : sE (nF σ n) = sE σ := rfl
theorem sF_nF_ (σ : ST) (n : Nat) (b : Nat) : sF (nF σ n) b = if b = sZ σ then (fun _ => none) else sF σ b := rfl
theorem sH_nF_ (σ : ST) (n : Nat) : sH (nF σ n) = sH σ := rfl
theorem sZ_nF_ (σ : ST) (n : Nat) : sZ (nF σ n) = sZ σ + 1 := rfl
theorem sC_nF_ (σ : ST) (n : Nat) : sC (nF σ n) = sC σ + 1 := rfl
theorem sS_nF_ (σ : ST) (n : Nat) : sS (nF σ n) = sS σ + n := rfl
theorem sc_nW_ (σ : ST) (b : Nat) : sc (nW σ) b = if b = sZ σ then 4 else sc σ b := rfl
theorem sI_nW_ (σ : ST) : sI (nW σ) = sI σ := rfl
theorem sJ_nW_ (σ : ST) : sJ (nW σ) = sJ σ := rfl
theorem sR_nW_ (σ : ST) : sR (nW σ) = sR σ := rfl
theorem sW_nW_ (σ : ST) (b : Nat) : sW (nW σ) b = if b = sZ σ then [] else sW σ b := rfl
theorem sA_nW_ (σ : ST) : sA (nW σ) = sA σ := rfl
theorem sN_nW_ (σ : ST) (b : Nat) : sN (nW σ) b = if b = sZ σ then 0 else sN σ b := rfl
theorem sB_nW_ (σ : ST) : sB (nW σ) = sB σ := rfl
theorem sE_nW_ (σ : ST) : sE (nW σ) = sE σ := rfl
theorem sF_nW_ (σ : ST) : sF (nW σ) = sF σ := rfl
theorem sH_nW_ (σ : ST) (b : Nat) : sH (nW σ) b = if b = sZ σ then sH σ 0 else sH σ b := rfl
theorem sZ_nW_ (σ : ST) : sZ (nW σ) = sZ σ + 1 := rfl
theorem sC_nW_ (σ : ST) : sC (nW σ) = sC σ + 1 := rfl
theorem sS_nW_ (σ : ST) : sS (nW σ) = sS σ + 2 := rfl
theorem sc_nL_ (σ : ST) (b : Nat) : sc (nL σ) b = if b = sZ σ then 16 else sc σ b := rfl
theorem sI_nL_ (σ : ST) : sI (nL σ) = sI σ := rfl
theorem sJ_nL_ (σ : ST) : sJ (nL σ) = sJ σ := rfl
theorem sR_nL_ (σ : ST) : sR (nL σ) = sR σ := rfl
theorem sW_nL_ (σ : ST) : sW (nL σ) = sW σ := rfl
theorem sA_nL_ (σ : ST) (b : Nat) : sA (nL σ) b = if b = sZ σ then [] else sA σ b := rfl
theorem sN_nL_ (σ : ST) (b : Nat) : sN (nL σ) b = if b = sZ σ then 0 else sN σ b := rfl
theorem sB_nL_ (σ : ST) : sB (nL σ) = sB σ := rfl
theorem sE_nL_ (σ : ST) : sE (nL σ) = sE σ := rfl
theorem sF_nL_ (σ : ST) : sF (nL σ) = sF σ := rfl
theorem sH_nL_ (σ : ST) (b : Nat) : sH (nL σ) b = if b = sZ σ then sH σ 1 else sH σ b := rfl
theorem sZ_nL_ (σ : ST) : sZ (nL σ) = sZ σ + 1 := rfl
theorem sC_nL_ (σ : ST) : sC (nL σ) = sC σ + 1 := rfl
theorem sS_nL_ (σ : ST) : sS (nL σ) = sS σ + 3 := rfl
theorem sc_nX_ (σ : ST) (b : Nat) : sc (nX σ) b = if b = sZ σ then 17 else sc σ b := rfl
theorem sI_nX_ (σ : ST) : sI (nX σ) = sI σ := rfl
theorem sJ_nX_ (σ : ST) : sJ (nX σ) = sJ σ := rfl
theorem sR_nX_ (σ : ST) : sR (nX σ) = sR σ := rfl
theorem sW_nX_ (σ : ST) : sW (nX σ) = sW σ := rfl
theorem sA_nX_ (σ : ST) : sA (nX σ) = sA σ := rfl
theorem sN_nX_ (σ : ST) : sN (nX σ) = sN σ := rfl
theorem sB_nX_ (σ : ST) : sB (nX σ) = sB σ := rfl
theorem sE_nX_ (σ : ST) : sE (nX σ) = sE σ := rfl
theorem sF_nX_ (σ : ST) : sF (nX σ) = sF σ := rfl
theorem sH_nX_ (σ : ST) : sH (nX σ) = sH σ := rfl
theorem sZ_nX_ (σ : ST) : sZ (nX σ) = sZ σ + 1 := rfl
theorem sC_nX_ (σ : ST) : sC (nX σ) = sC σ + 1 := rfl
theorem sS_nX_ (σ : ST) : sS (nX σ) = sS σ + 6 := rfl
theorem sc_sWu_ (σ : ST) (a : Nat) (w : List UInt8) : sc (sWu σ a w) = sc σ := rfl
theorem sI_sWu_ (σ : ST) (a : Nat) (w : List UInt8) : sI (sWu σ a w) = sI σ := rfl
theorem sJ_sWu_ (σ : ST) (a : Nat) (w : List UInt8) : sJ (sWu σ a w) = sJ σ := rfl
theorem sR_sWu_ (σ : ST) (a : Nat) (w : List UInt8) : sR (sWu σ a w) = sR σ := rfl
theorem sW_sWu_ (σ : ST) (a : Nat) (w : List UInt8) (b : Nat) : sW (sWu σ a w) b = if b = a then w else sW σ b := rfl
theorem sA_sWu_ (σ : ST) (a : Nat) (w : List UInt8) : sA (sWu σ a w) = sA σ := rfl
theorem sN_sWu_ (σ : ST) (a : Nat) (w : List UInt8) : sN (sWu σ a w) = sN σ := rfl
theorem sB_sWu_ (σ : ST) (a : Nat) (w : List UInt8) : sB (sWu σ a w) = sB σ := rfl
theorem sE_sWu_ (σ : ST) (a : Nat) (w : List UInt8) : sE (sWu σ a w) = sE σ := rfl
theorem sF_sWu_ (σ : ST) (a : Nat) (w : List UInt8) : sF (sWu σ a w) = sF σ := rfl
theorem sH_sWu_ (σ : ST) (a : Nat) (w : List UInt8) : sH (sWu σ a w) = sH σ := rfl
theorem sZ_sWu_ (σ : ST) (a : Nat) (w : List UInt8) : sZ (sWu σ a w) = sZ σ := rfl
theorem sC_sWu_ (σ : ST) (a : Nat) (w : List UInt8) : sC (sWu σ a w) = sC σ := rfl
theorem sS_sWu_ (σ : ST) (a : Nat) (w : List UInt8) : sS (sWu σ a w) = sS σ := rfl
theorem sc_sWg_ (σ : ST) (a : Nat) (w : List UInt8) (c : Nat) : sc (sWg σ a w c) = sc σ := rfl
theorem sI_sWg_ (σ : ST) (a : Nat) (w : List UInt8) (c : Nat) : sI (sWg σ a w c) = sI σ := rfl
theorem sJ_sWg_ (σ : ST) (a : Nat) (w : List UInt8) (c : Nat) : sJ (sWg σ a w c) = sJ σ := rfl
theorem sR_sWg_ (σ : ST) (a : Nat) (w : List UInt8) (c : Nat) : sR (sWg σ a w c) = sR σ := rfl
theorem sW_sWg_ (σ : ST) (a : Nat) (w : List UInt8) (c : Nat) (b : Nat) : sW (sWg σ a w c) b = if b = a then w else sW σ b := rfl
theorem sA_sWg_ (σ : ST) (a : Nat) (w : List UInt8) (c : Nat) : sA (sWg σ a w c) = sA σ := rfl
theorem sN_sWg_ (σ : ST) (a : Nat) (w : List UInt8) (c : Nat) (b : Nat) : sN (sWg σ a w c) b = if b = a then c else sN σ b := rfl
theorem sB_sWg_ (σ : ST) (a : Nat) (w : List UInt8) (c : Nat) : sB (sWg σ a w c) = sB σ := rfl
theorem sE_sWg_ (σ : ST) (a : Nat) (w : List UInt8) (c : Nat) : sE (sWg σ a w c) = sE σ := rfl
theorem sF_sWg_ (σ : ST) (a : Nat) (w : List UInt8) (c : Nat) : sF (sWg σ a w c) = sF σ := rfl
theorem sH_sWg_ (σ : ST) (a : Nat) (w : List UInt8) (c : Nat) (b : Nat) : sH (sWg σ a w c) b = if b = a then sZ σ else sH σ b := rfl
theorem sZ_sWg_ (σ : ST) (a : Nat) (w : List UInt8) (c : Nat) : sZ (sWg σ a w c) = sZ σ + 1 := rfl
theorem sC_sWg_ (σ : ST) (a : Nat) (w : List UInt8) (c : Nat) : sC (sWg σ a w c) = sC σ + 1 := rfl
theorem sS_sWg_ (σ : ST) (a : Nat) (w : List UInt8) (c : Nat) : sS (sWg σ a w c) = sS σ + c := rfl
theorem sc_sLu_ (σ : ST) (a : Nat) (w : List Nat) : sc (sLu σ a w) = sc σ := rfl
theorem sI_sLu_ (σ : ST) (a : Nat) (w : List Nat) : sI (sLu σ a w) = sI σ := rfl
theorem sJ_sLu_ (σ : ST) (a : Nat) (w : List Nat) : sJ (sLu σ a w) = sJ σ := rfl
theorem sR_sLu_ (σ : ST) (a : Nat) (w : List Nat) : sR (sLu σ a w) = sR σ := rfl
theorem sW_sLu_ (σ : ST) (a : Nat) (w : List Nat) : sW (sLu σ a w) = sW σ := rfl
theorem sA_sLu_ (σ : ST) (a : Nat) (w : List Nat) (b : Nat) : sA (sLu σ a w) b = if b = a then w else sA σ b := rfl
theorem sN_sLu_ (σ : ST) (a : Nat) (w : List Nat) : sN (sLu σ a w) = sN σ := rfl
theorem sB_sLu_ (σ : ST) (a : Nat) (w : List Nat) : sB (sLu σ a w) = sB σ := rfl
theorem sE_sLu_ (σ : ST) (a : Nat) (w : List Nat) : sE (sLu σ a w) = sE σ := rfl
theorem sF_sLu_ (σ : ST) (a : Nat) (w : List Nat) : sF (sLu σ a w) = sF σ := rfl
theorem sH_sLu_ (σ : ST) (a : Nat) (w : List Nat) : sH (sLu σ a w) = sH σ := rfl
theorem sZ_sLu_ (σ : ST) (a : Nat) (w : List Nat) : sZ (sLu σ a w) = sZ σ := rfl
theorem sC_sLu_ (σ : ST) (a : Nat) (w : List Nat) : sC (sLu σ a w) = sC σ := rfl
theorem sS_sLu_ (σ : ST) (a : Nat) (w : List Nat) : sS (sLu σ a w) = sS σ := rfl
theorem sc_sLg_ (σ : ST) (a : Nat) (w : List Nat) (c : Nat) : sc (sLg σ a w c) = sc σ := rfl
theorem sI_sLg_ (σ : ST) (a : Nat) (w : List Nat) (c : Nat) : sI (sLg σ a w c) = sI σ := rfl
theorem sJ_sLg_ (σ : ST) (a : Nat) (w : List Nat) (c : Nat) : sJ (sLg σ a w c) = sJ σ := rfl
theorem sR_sLg_ (σ : ST) (a : Nat) (w : List Nat) (c : Nat) : sR (sLg σ a w c) = sR σ := rfl
theorem sW_sLg_ (σ : ST) (a : Nat) (w : List Nat) (c : Nat) : sW (sLg σ a w c) = sW σ := rfl
theorem sA_sLg_ (σ : ST) (a : Nat) (w : List Nat) (c : Nat) (b : Nat) : sA (sLg σ a w c) b = if b = a then w else sA σ b := rfl
theorem sN_sLg_ (σ : ST) (a : Nat) (w : List Nat) (c : Nat) (b : Nat) : sN (sLg σ a w c) b = if b = a then c else sN σ b := rfl
theorem sB_sLg_ (σ : ST) (a : Nat) (w : List Nat) (c : Nat) : sB (sLg σ a w c) = sB σ := rfl
theorem sE_sLg_ (σ : ST) (a : Nat) (w : List Nat) (c : Nat) : sE (sLg σ a w c) = sE σ := rfl
theorem sF_sLg_ (σ : ST) (a : Nat) (w : List Nat) (c : Nat) : sF (sLg σ a w c) = sF σ := rfl
theorem sH_sLg_ (σ : ST) (a : Nat) (w : List Nat) (c : Nat) (b : Nat) : sH (sLg σ a w c) b = if b = a then sZ σ else sH σ b := rfl
theorem sZ_sLg_ (σ : ST) (a : Nat) (w : List Nat) (c : Nat) : sZ (sLg σ a w c) = sZ σ + 1 := rfl
theorem sC_sLg_ (σ : ST) (a : Nat) (w : List Nat) (c : Nat) : sC (sLg σ a w c) = sC σ + 1 := rfl
theorem sS_sLg_ (σ : ST) (a : Nat) (w : List Nat) (c : Nat) : sS (sLg σ a w c) = sS σ + c := rfl
theorem sc_pC_ (σ : ST) (a : Nat) (f : Nat → UInt8) (n : Nat) : sc (pC σ a f n) = sc σ := rfl
theorem sI_pC_ (σ : ST) (a : Nat) (f : Nat → UInt8) (n : Nat) : sI (pC σ a f n) = sI σ := rfl
theorem sJ_pC_ (σ : ST) (a : Nat) (f : Nat → UInt8) (n : Nat) : sJ (pC σ a f n) = sJ σ := rfl
theorem sR_pC_ (σ : ST) (a : Nat) (f : Nat → UInt8) (n : Nat) : sR (pC σ a f n) = sR σ := rfl
theorem sW_pC_ (σ : ST) (a : Nat) (f : Nat → UInt8) (n : Nat) : sW (pC σ a f n) = sW σ := rfl
theorem sA_pC_ (σ : ST) (a : Nat) (f : Nat → UInt8) (n : Nat) : sA (pC σ a f n) = sA σ := rfl
theorem sN_pC_ (σ : ST) (a : Nat) (f : Nat → UInt8) (n : Nat) : sN (pC σ a f n) = sN σ := rfl
theorem sB_pC_ (σ : ST) (a : Nat) (f : Nat → UInt8) (n : Nat) (b : Nat) : sB (pC σ a f n) b = if b = a then (fun j => if j < n then f j else sB σ a j) else sB σ b := rfl
theorem sE_pC_ (σ : ST) (a : Nat) (f : Nat → UInt8) (n : Nat) : sE (pC σ a f n) = sE σ := rfl
theorem sF_pC_ (σ : ST) (a : Nat) (f : Nat → UInt8) (n : Nat) : sF (pC σ a f n) = sF σ := rfl
theorem sH_pC_ (σ : ST) (a : Nat) (f : Nat → UInt8) (n : Nat) : sH (pC σ a f n) = sH σ := rfl
theorem sZ_pC_ (σ : ST) (a : Nat) (f : Nat → UInt8) (n : Nat) : sZ (pC σ a f n) = sZ σ := rfl
theorem sC_pC_ (σ : ST) (a : Nat) (f : Nat → UInt8) (n : Nat) : sC (pC σ a f n) = sC σ := rfl
theorem sS_pC_ (σ : ST) (a : Nat) (f : Nat → UInt8) (n : Nat) : sS (pC σ a f n) = sS σ := rfl
/-- later states: the heap and the counts only grow -/
def Le (σ σ' : ST) : Prop := sZ σ ≤ sZ σ' ∧ sC σ ≤ sC σ' ∧ sS σ ≤ sS σ'
theorem Le.refl (σ : ST) : Le σ σ := ⟨Nat.le_refl _, Nat.le_refl _, Nat.le_refl _⟩
theorem Le.tr {σ σ1 σ2 : ST} (h : Le σ σ1) (h2 : Le σ1 σ2) : Le σ σ2 := ⟨Nat.le_trans h.1 h2.1, Nat.le_trans h.2.1 h2.2.1, Nat.le_trans h.2.2 h2.2.2⟩
/-- old objects keep their tags, and those not in W are as they were -/
def FR (W : Nat → Prop) (σ σ' : ST) : Prop := Le σ σ' ∧ ∀ a, a < sZ σ → sc σ' a = sc σ a ∧ (¬ W a → SameB σ σ' a)
theorem SameB.refl (σ : ST) (b : Nat) : SameB σ σ b := ⟨rfl, rfl, rfl, rfl, rfl, rfl, rfl, fun _ => rfl, fun _ => rfl, fun _ => rfl⟩
theorem SameB.tr {σ σ1 σ2 : ST} {b : Nat} (h : SameB σ σ1 b) (k : SameB σ1 σ2 b) : SameB σ σ2 b := by
  obtain ⟨a1, a2, a3, a4, a5, a6, a7, a8, a9, a10⟩ := h
  obtain ⟨b1, b2, b3, b4, b5, b6, b7, b8, b9, b10⟩ := k
  exact ⟨b1.trans a1, b2.trans a2, b3.trans a3, b4.trans a4, b5.trans a5, b6.trans a6, b7.trans a7, fun k => (b8 k).trans (a8 k), fun k => (b9 k).trans (a9 k), fun k => (b10 k).trans (a10 k)⟩
theorem FR.refl (W : Nat → Prop) (σ : ST) : FR W σ σ := ⟨Le.refl σ, fun _ _ => ⟨rfl, fun _ => SameB.refl σ _⟩⟩
theorem FR.tr {W W' : Nat → Prop} {σ σ1 σ2 : ST} (h : FR W σ σ1) (k : FR W' σ1 σ2) (hw : ∀ a, a < sZ σ → W' a → W a) : FR W σ σ2 :=
  ⟨h.1.tr k.1, fun a ha => ⟨(k.2 a (Nat.lt_of_lt_of_le ha h.1.1)).1.trans (h.2 a ha).1, fun hn => ((h.2 a ha).2 hn).tr ((k.2 a (Nat.lt_of_lt_of_le ha h.1.1)).2 (fun e => hn (hw a ha e)))⟩⟩
theorem FR.at1 {W : Nat → Prop} {σ σ' : ST} {a : Nat} (h : At1 σ σ' a) (hw : W a) : FR W σ σ' := by
  obtain ⟨h1, h2, h3, h4, h5, h6⟩ := h
  exact ⟨⟨by rw [h2]; exact Nat.le_refl _, by rw [h5]; exact Nat.le_refl _, by rw [h6]; exact Nat.le_refl _⟩, fun b hb => ⟨by rw [h1], fun hn => h4 b (fun e => hn (by rw [e]; exact hw))⟩⟩
theorem FR.nO (W : Nat → Prop) (σ : ST) (t n : Nat) : FR W σ (nO σ t n) := ⟨⟨Nat.le_succ _, Nat.le_succ _, Nat.le_add_right _ _⟩, fun a ha => ⟨by rw [sc_nO_, if_neg (by omega)], fun _ => ⟨rfl, rfl, rfl, rfl, rfl, rfl, rfl, fun k => by rw [sI_nO_, if_neg (by omega)], fun k => by rw [sJ_nO_, if_neg (by omega)], fun k => by rw [sR_nO_, if_neg (by omega)]⟩⟩⟩
theorem FR.nB (W : Nat → Prop) (σ : ST) (n : Nat) : FR W σ (nB σ n) := ⟨⟨Nat.le_succ _, Nat.le_succ _, Nat.le_add_right _ _⟩, fun a ha => ⟨by rw [sc_nB_, if_neg (by omega)], fun _ => ⟨rfl, rfl, by rw [sN_nB_, if_neg (by omega)], by rw [sB_nB_, if_neg (by omega)], rfl, rfl, rfl, fun k => rfl, fun k => rfl, fun k => rfl⟩⟩⟩
theorem FR.nE (W : Nat → Prop) (σ : ST) (n : Nat) : FR W σ (nE σ n) := ⟨⟨Nat.le_succ _, Nat.le_succ _, Nat.le_add_right _ _⟩, fun a ha => ⟨by rw [sc_nE_, if_neg (by omega)], fun _ => ⟨rfl, rfl, by rw [sN_nE_, if_neg (by omega)], rfl, by rw [sE_nE_, if_neg (by omega)], rfl, rfl, fun k => rfl, fun k => rfl, fun k => rfl⟩⟩⟩
theorem FR.nF (W : Nat → Prop) (σ : ST) (n : Nat) : FR W σ (nF σ n) := ⟨⟨Nat.le_succ _, Nat.le_succ _, Nat.le_add_right _ _⟩, fun a ha => ⟨by rw [sc_nF_, if_neg (by omega)], fun _ => ⟨rfl, rfl, by rw [sN_nF_, if_neg (by omega)], rfl, rfl, by rw [sF_nF_, if_neg (by omega)], rfl, fun k => rfl, fun k => rfl, fun k => rfl⟩⟩⟩
theorem FR.nW (W : Nat → Prop) (σ : ST) : FR W σ (nW σ) := ⟨⟨Nat.le_succ _, Nat.le_succ _, Nat.le_add_right _ _⟩, fun a ha => ⟨by rw [sc_nW_, if_neg (by omega)], fun _ => ⟨by rw [sW_nW_, if_neg (by omega)], rfl, by rw [sN_nW_, if_neg (by omega)], rfl, rfl, rfl, by rw [sH_nW_, if_neg (by omega)], fun k => rfl, fun k => rfl, fun k => rfl⟩⟩⟩
theorem FR.nL (W : Nat → Prop) (σ : ST) : FR W σ (nL σ) := ⟨⟨Nat.le_succ _, Nat.le_succ _, Nat.le_add_right _ _⟩, fun a ha => ⟨by rw [sc_nL_, if_neg (by omega)], fun _ => ⟨rfl, by rw [sA_nL_, if_neg (by omega)], by rw [sN_nL_, if_neg (by omega)], rfl, rfl, rfl, by rw [sH_nL_, if_neg (by omega)], fun k => rfl, fun k => rfl, fun k => rfl⟩⟩⟩
theorem FR.nX (W : Nat → Prop) (σ : ST) : FR W σ (nX σ) := ⟨⟨Nat.le_succ _, Nat.le_succ _, Nat.le_add_right _ _⟩, fun a ha => ⟨by rw [sc_nX_, if_neg (by omega)], fun _ => ⟨rfl, rfl, rfl, rfl, rfl, rfl, rfl, fun k => rfl, fun k => rfl, fun k => rfl⟩⟩⟩
theorem FR.sWu {W : Nat → Prop} (σ : ST) {a : Nat} (w : List UInt8) (hw : W a) : FR W σ (sWu σ a w) := ⟨⟨Nat.le_refl _, Nat.le_refl _, Nat.le_refl _⟩, fun b hb => ⟨rfl, fun hn => ⟨by rw [sW_sWu_, if_neg (fun e => hn (by rw [e]; exact hw))], rfl, rfl, rfl, rfl, rfl, rfl, fun k => rfl, fun k => rfl, fun k => rfl⟩⟩⟩
theorem FR.sWg {W : Nat → Prop} (σ : ST) {a : Nat} (w : List UInt8) (c : Nat) (hw : W a) : FR W σ (sWg σ a w c) := ⟨⟨Nat.le_succ _, Nat.le_succ _, Nat.le_add_right _ _⟩, fun b hb => ⟨rfl, fun hn => by
  have e : b ≠ a := fun e => hn (by rw [e]; exact hw)
  exact ⟨by rw [sW_sWg_, if_neg e], rfl, by rw [sN_sWg_, if_neg e], rfl, rfl, rfl, by rw [sH_sWg_, if_neg e], fun k => rfl, fun k => rfl, fun k => rfl⟩⟩⟩
theorem FR.sLu {W : Nat → Prop} (σ : ST) {a : Nat} (w : List Nat) (hw : W a) : FR W σ (sLu σ a w) := ⟨⟨Nat.le_refl _, Nat.le_refl _, Nat.le_refl _⟩, fun b hb => ⟨rfl, fun hn => ⟨rfl, by rw [sA_sLu_, if_neg (fun e => hn (by rw [e]; exact hw))], rfl, rfl, rfl, rfl, rfl, fun k => rfl, fun k => rfl, fun k => rfl⟩⟩⟩
theorem FR.sLg {W : Nat → Prop} (σ : ST) {a : Nat} (w : List Nat) (c : Nat) (hw : W a) : FR W σ (sLg σ a w c) := ⟨⟨Nat.le_succ _, Nat.le_succ _, Nat.le_add_right _ _⟩, fun b hb => ⟨rfl, fun hn => by
  have e : b ≠ a := fun e => hn (by rw [e]; exact hw)
  exact ⟨rfl, by rw [sA_sLg_, if_neg e], by rw [sN_sLg_, if_neg e], rfl, rfl, rfl, by rw [sH_sLg_, if_neg e], fun k => rfl, fun k => rfl, fun k => rfl⟩⟩⟩
/-- the room is enough for what was used at the end -/
def Fit (bb : Nat × Nat) (σ : ST) : Prop := sC σ ≤ bb.1 ∧ sS σ ≤ bb.2
theorem Fit.le {bb : Nat × Nat} {σ σ' : ST} (h : Fit bb σ') (k : Le σ σ') : Fit bb σ := ⟨Nat.le_trans k.2.1 h.1, Nat.le_trans k.2.2 h.2⟩
/-- an image that allocates answers something, if the room is enough for it -/
def Rn {X : Type} (st : X → ST) (σ : ST) (F : Nat × Nat → Option X) (K : X → Prop) : Prop := ∃ x, Le σ (st x) ∧ K x ∧ ∀ bb, Fit bb (st x) → F bb = some x
section RnR
variable {X Y : Type} {st : X → ST} {su : Y → ST} {σ σ1 : ST} {F : Nat × Nat → Option X} {K K' : X → Prop}
theorem Rn_some {x : X} (hl : Le σ (st x)) (h : K x) : Rn st σ (fun _ => some x) K := ⟨x, hl, h, fun _ _ => rfl⟩
theorem Rn_eq {G : Nat × Nat → Option X} (h : ∀ bb, F bb = G bb) (k : Rn st σ G K) : Rn st σ F K := by
  have e : F = G := funext h
  rw [e]; exact k
theorem Rn_gd {b : Prop} [Decidable b] (h : b) (k : Rn st σ F K) : Rn st σ (fun bb => gd b (F bb)) K := Rn_eq (fun bb => gd_pos h) k
theorem Rn_if {c : Prop} [Decidable c] {A B : Nat × Nat → Option X} (kt : c → Rn st σ A K) (kf : ¬ c → Rn st σ B K) : Rn st σ (fun bb => if c then A bb else B bb) K := by
  by_cases h : c
  · exact Rn_eq (fun bb => if_pos h) (kt h)
  · exact Rn_eq (fun bb => if_neg h) (kf h)
theorem Rn_pos {c : Prop} [Decidable c] {A B : Nat × Nat → Option X} (h : c) (k : Rn st σ A K) : Rn st σ (fun bb => if c then A bb else B bb) K := Rn_eq (fun bb => if_pos h) k
theorem Rn_neg {c : Prop} [Decidable c] {A B : Nat × Nat → Option X} (h : ¬ c) (k : Rn st σ B K) : Rn st σ (fun bb => if c then A bb else B bb) K := Rn_eq (fun bb => if_neg h) k
theorem Rn_le (h : Le σ σ1) (k : Rn st σ1 F K) : Rn st σ F K := by
  obtain ⟨x, a, b, c⟩ := k
  exact ⟨x, h.tr a, b, c⟩
theorem Rn_rm {n : Nat} (hC : sC σ + 1 ≤ sC σ1) (hS : sS σ + n ≤ sS σ1) (hZ : sZ σ ≤ sZ σ1) (k : Rn st σ1 F K) : Rn st σ (fun bb => gd (rm bb σ n) (F bb)) K := by
  obtain ⟨x, a, b, c⟩ := k
  exact ⟨x, ⟨Nat.le_trans hZ a.1, by have := a.2.1; omega, by have := a.2.2; omega⟩, b, fun bb hf => by
    show gd _ _ = _
    rw [gd_pos ⟨by have := a.2.1; have := hf.1; omega, by have := a.2.2; have := hf.2; omega⟩]; exact c bb hf⟩
theorem Rn_rmA {n : Nat} {m : Int} (hm : m = n) (hn : n < 16777216) (hC : sC σ + 1 ≤ sC σ1) (hS : sS σ + n ≤ sS σ1) (hZ : sZ σ ≤ sZ σ1) (k : Rn st σ1 F K) : Rn st σ (fun bb => gd (0 ≤ m ∧ m < 16777216 ∧ rm bb σ m.toNat) (F bb)) K := by
  obtain ⟨x, a, b, c⟩ := k
  exact ⟨x, ⟨Nat.le_trans hZ a.1, by have := a.2.1; omega, by have := a.2.2; omega⟩, b, fun bb hf => by
    show gd _ _ = _
    rw [gd_pos ⟨by omega, by omega, by have := a.2.1; have := hf.1; omega, by have := a.2.2; have := hf.2; omega⟩]; exact c bb hf⟩
theorem Rn_bind {A : Nat × Nat → Option Y} {G : Nat × Nat → Y → Option X} {J : Y → Prop} (h : Rn su σ A J) (k : ∀ y, Le σ (su y) → J y → Rn st (su y) (fun bb => G bb y) K) : Rn st σ (fun bb => Option.bind (A bb) (G bb)) K := by
  obtain ⟨y, a, b, c⟩ := h
  obtain ⟨x, a', b', c'⟩ := k y a b
  exact ⟨x, a.tr a', b', fun bb hf => by show Option.bind (A bb) (G bb) = _; rw [c bb (hf.le a')]; exact c' bb hf⟩
theorem Rn_pure {A : Option Y} {G : Nat × Nat → Y → Option X} {y : Y} (h : A = some y) (k : Rn st σ (fun bb => G bb y) K) : Rn st σ (fun bb => Option.bind A (G bb)) K := Rn_eq (fun bb => by rw [h]; rfl) k
theorem Rn.mono (h : Rn st σ F K) (hk : ∀ x, Le σ (st x) → K x → K' x) : Rn st σ F K' := by
  obtain ⟨x, a, b, c⟩ := h
  exact ⟨x, a, hk x a b, c⟩
end RnR
/-- a row that is right; what its array cost -/
def RW (σ : ST) (a : Nat) : Prop := sc σ a = 4 ∧ (sW σ a).length ≤ sN σ a ∧ (sN σ a = 0 ∨ 8 ≤ sN σ a)
def rp (c : Nat) : Nat := 2 * c - 8
/-- how many cells the array of a row has that only grew -/
def cpF : Nat → Nat
  | 0 => 0
  | l + 1 => if l = cpF l then max 8 (2 * l) else cpF l
def RC (σ σ' : ST) (a : Nat) : Prop := sS σ' + rp (sN σ a) = sS σ + rp (sN σ' a) ∧ sC σ' + sN σ a / 8 ≤ sC σ + sN σ' a / 8 ∧ sN σ a ≤ sN σ' a ∧ sN σ' a ≤ max (sN σ a) (max 8 (2 * (sW σ' a).length)) ∧ (sW σ a).length ≤ (sW σ' a).length ∧ (∀ K, (sW σ a).length ≤ K → sN σ a = cpF K → sN σ' a = cpF (max K (sW σ' a).length))
theorem RC.refl (σ : ST) (a : Nat) : RC σ σ a := ⟨rfl, Nat.le_refl _, Nat.le_refl _, Nat.le_max_left _ _, Nat.le_refl _, fun K h q => by rw [Nat.max_eq_left h]; exact q⟩
theorem RC.cp {σ σ' : ST} {a : Nat} (h : RC σ σ' a) (q : sN σ a = cpF (sW σ a).length) : sN σ' a = cpF (sW σ' a).length := by
  have := h.2.2.2.2.2 _ (Nat.le_refl _) q
  rw [this, Nat.max_eq_right h.2.2.2.2.1]
theorem cpF_ge : ∀ l, l ≤ cpF l
  | 0 => Nat.le_refl _
  | l + 1 => by
    have := cpF_ge l
    rw [cpF]
    split <;> omega
theorem RC.tr {σ σ1 σ2 : ST} {a : Nat} (h : RC σ σ1 a) (k : RC σ1 σ2 a) : RC σ σ2 a := by
  obtain ⟨a1, a2, a3, a4, a5, a6⟩ := h
  obtain ⟨b1, b2, b3, b4, b5, b6⟩ := k
  exact ⟨by omega, by omega, by omega, by omega, by omega, fun K h q => by
    have e := b6 _ (Nat.le_max_right K _) (a6 K h q)
    rw [e, show max (max K (sW σ1 a).length) (sW σ2 a).length = max K (sW σ2 a).length by omega]⟩
def RA (σ : ST) (a : Nat) (w : List UInt8) (σ' : ST) : Prop := sW σ' a = sW σ a ++ w ∧ FR (fun b => b = a) σ σ' ∧ sc σ' = sc σ ∧ RW σ' a ∧ RC σ σ' a
/-- a row: one byte more -/
theorem rn_add {σ : ST} {a : Nat} (ha : RW σ a) (hn : (sW σ a).length < 8000000) (x : Int) : Rn id σ (fun bb => r_add bb a x σ) (RA σ a [u8 x]) := by
  obtain ⟨ha, hw, hc⟩ := ha
  unfold r_add
  refine Rn_gd ⟨ha, hn⟩ (Rn_if (fun h => ?_) (fun h => ?_))
  · refine Rn_rm (σ1 := sWg σ a (sW σ a ++ [u8 x]) (max 8 (2 * (sW σ a).length))) (Nat.le_refl _) (Nat.le_refl _) (Nat.le_succ _) (Rn_some (Le.refl _) ⟨?_, FR.sWg σ _ _ rfl, rfl, ⟨ha, ?_, ?_⟩, ?_⟩)
    · rw [sW_sWg_, if_pos rfl]
    · rw [sW_sWg_, if_pos rfl, sN_sWg_, if_pos rfl, List.length_append]
      simp only [List.length_cons, List.length_nil]
      omega
    · rw [sN_sWg_, if_pos rfl]
      omega
    · unfold RC rp
      rw [sW_sWg_, if_pos rfl, sN_sWg_, if_pos rfl, List.length_append, sS_sWg_, sC_sWg_]
      simp only [List.length_cons, List.length_nil]
      refine ⟨?_, ?_, ?_, ?_, ?_, fun K hK q => ?_⟩
      · omega
      · omega
      · omega
      · omega
      · omega
      · have hg := cpF_ge K
        have eK : K = (sW σ a).length := by omega
        rw [eK] at q
        rw [eK, show max (sW σ a).length ((sW σ a).length + (0 + 1)) = (sW σ a).length + 1 by omega, cpF, if_pos (by rw [← q]; omega)]
  · refine Rn_some ⟨Nat.le_refl _, Nat.le_refl _, Nat.le_refl _⟩ ⟨?_, FR.sWu σ _ rfl, rfl, ⟨ha, ?_, hc⟩, ?_⟩
    · rw [sW_sWu_, if_pos rfl]
    · rw [sW_sWu_, if_pos rfl, sN_sWu_, List.length_append]
      simp only [List.length_cons, List.length_nil]
      omega
    · unfold RC
      rw [sW_sWu_, if_pos rfl, sN_sWu_, List.length_append, sS_sWu_, sC_sWu_]
      exact ⟨rfl, Nat.le_refl _, Nat.le_refl _, Nat.le_max_left _ _, Nat.le_add_right _ _, fun K hK q => by
        rw [show (sW σ a).length + [u8 x].length = (sW σ a).length + 1 from rfl]
        by_cases c : (sW σ a).length + 1 ≤ K
        · rw [Nat.max_eq_left c]; exact q
        · have eK : K = (sW σ a).length := by omega
          rw [eK] at q
          rw [eK, Nat.max_eq_right (Nat.le_succ _), cpF, if_neg (by rw [← q]; omega)]
          exact q⟩
theorem RA.tr {σ σ1 σ2 : ST} {a : Nat} {v w : List UInt8} (h : RA σ a v σ1) (k : RA σ1 a w σ2) : RA σ a (v ++ w) σ2 := by
  obtain ⟨a1, a2, a3, a4, a5⟩ := h
  obtain ⟨b1, b2, b3, b4, b5⟩ := k
  exact ⟨by rw [b1, a1, List.append_assoc], a2.tr b2 (fun _ _ e => e), by rw [b3, a3], b4, a5.tr b5⟩
theorem RA.nil {σ : ST} {a : Nat} (h : RW σ a) : RA σ a [] σ := ⟨by simp, FR.refl _ _, rfl, h, RC.refl _ _⟩
theorem RA.len {σ σ1 : ST} {a : Nat} {v : List UInt8} (h : RA σ a v σ1) : (sW σ1 a).length = (sW σ a).length + v.length := by rw [h.1, List.length_append]
theorem RA.rw {σ σ1 : ST} {a : Nat} {v : List UInt8} (h : RA σ a v σ1) : RW σ1 a := h.2.2.2.1
theorem rn_addL {a : Nat} : ∀ (w : List UInt8) {σ : ST}, RW σ a → (sW σ a).length + w.length ≤ 8000000 → Rn id σ (fun bb => r_addL bb a w σ) (RA σ a w)
  | [], σ, h, _ => Rn_some (Le.refl _) (RA.nil h)
  | b :: r, σ, h, hn => by
    refine Rn_bind (G := fun bb => r_addL bb a r) (rn_add h (by simp only [List.length_cons] at hn; omega) (sbI b)) (fun σ1 _ h1 => ?_)
    have hl := h1.len
    rw [u8_sb] at h1
    simp only [List.length_cons, List.length_nil] at hl hn
    exact (rn_addL r h1.rw (by omega)).mono (fun σ2 _ h2 => h1.tr h2)
