set_option maxRecDepth 100000
/-! THE START: statics, strings, the ground as a whole -/
section Start
variable {args : Array Value} {s : State} {A : Nat → Prop}
theorem zA_of {g : GE} {ty : FieldType} {t : Nat} {f : Nat → Value} (h : va_T ty t 0 f A (gs g) (gs g).heap) : zA g ty t (gs g).heap := by
  obtain ⟨cell, h1, h2, h3, h4, h5, h6, h7⟩ := h
  exact ⟨cell, h1, h2, h3, h5⟩
theorem ground_T {ty : FieldType} {C n d : String} (hl : (Cond.laysStatic C n d).before args s = true) (hini : (Cond.initialized C).before args s = true) (har : (Cond.arrayOf (.static C n d) ty).before args s = true) (hle : (Cond.eq (.length (.static C n d)) (.int 0)).before args s = true) (hA : ∀ a : Nat, a < s.heap.size → ¬ A a) :
    ∃ t : Nat, va_Z C n d (.ref t) A s s.heap ∧ va_T ty t 0 (fun _ => .null) A s s.heap := by
  obtain ⟨t, h1, h2⟩ := va_Tof (N := 0) (f := fun _ => .null) (A := A) (by decide) har (va_eqt hle) (fun j hj => absurd hj (Nat.not_lt_zero j)) hA
  exact ⟨t, va_Zref hl hini h1 hA, h2⟩
end Start
section MkGG
variable {g : GE}
theorem StrC.rv {k : Nat} {H : Heap} (h : StrC g k) (hlow : LowH g H) : Rv g "java/lang/String" (gK g k) H := by
  obtain ⟨v, ⟨cell, h1, h2, h3, h4⟩, -⟩ := h
  exact ⟨cell, by rw [hlow _ (Nat.not_le.mp h4)]; exact h1, h2, h3⟩
theorem mkGG (hgf : GF g) (hw : gw g ≠ 0) (hK : ∀ k, StrC g k) (hR : ∀ (k : Nat) (q : String × Nat × String), STRN[k]? = some q → vk_R q.1 q.2.1 q.2.2 (gK g k) (gs g)) (hZ : StrZ g) (hM : ∃ mi : Nat, va_Mi "[Ljava/lang/Object;" mi (gs g)) (hT : (ge g).platform.stackTraces = false)
    (hq1 : va_Zq "java/lang/Throwable" "UNASSIGNED_STACK" "[Ljava/lang/StackTraceElement;" (fun q => gB g ≤ q) (gs g) (gs g).heap) (hq2 : va_Zq "java/lang/Throwable" "SUPPRESSED_SENTINEL" "Ljava/util/List;" (fun q => gB g ≤ q) (gs g) (gs g).heap) : GG g :=
  ⟨hgf, hw, hR, fun k σ τ H hRep => (hK k).rv hRep.2.2.2.2, fun k σ τ Q hq H hRep => U.strlen (hK k) hZ hRep.2.2.2.2 ((hK k).rv hRep.2.2.2.2) (by omega) (V.end1 hRep hq), fun k i σ τ Q hi hq H hRep => U.strch (hK k) hZ hRep.2.2.2.2 ((hK k).rv hRep.2.2.2.2) (by omega) hi (V.end1 hRep hq), hM, hT, hq1, hq2⟩
end MkGG
