set_option maxRecDepth 100000
/-! THE STATEMENT'S PREMISES at the start: strings, statics -/
def nl : List Cond := flatC (Jvm.Cond.and given_1 narrow_1)
theorem strOf {args : Array Value} {s : State} {tm : Term} {n : Nat} {f : Nat → Int32} {A : Nat → Prop} (hN : n < 2 ^ 31) (hex : (Cond.exactly tm "java/lang/String").before args s = true) (hco : (Cond.eq (.field tm "java/lang/String" "coder" "B") (.int 0)).before args s = true)
    (har : (Cond.arrayOf (.field tm "java/lang/String" "value" "[B") .byte).before args s = true) (hle : (Cond.eq (.length (.field tm "java/lang/String" "value" "[B")) (.int (Int32.ofNat n))).before args s = true)
    (hel : ∀ j : Nat, j < n → (Cond.eq (.elem (.field tm "java/lang/String" "value" "[B") (.int (Int32.ofNat j))) (.int (f j))).before args s = true) (hA : ∀ a : Nat, a < s.heap.size → ¬ A a) :
    ∃ a : Nat, tm.eval args s none [] s = some (.ref a) ∧ ∃ v : Nat, va_O "java/lang/String" a A s s.heap ∧ va_OF "java/lang/String" "coder" "B" (.int 0) a A s s.heap ∧ va_OF "java/lang/String" "value" "[B" (.ref v) a A s s.heap ∧ va_T .byte v n (fun j => .int (f j)) A s s.heap := by
  obtain ⟨a, c, cA, kA, q1, q2, q3, q4, q5, q6, -⟩ := Cond.exactly_spec (args := args) (first := s) (o := none) (s := s) (idx := []) (t := tm) (cls := "java/lang/String") hex
  obtain ⟨t, ht, hT⟩ := va_Tof (f := fun j => .int (f j)) (A := A) hN har (va_eqt hle) (fun j hj => va_eqt (hel j hj)) hA
  exact ⟨a, q1, t, ⟨cA, q3, q5, by rw [q6]; exact q2, hA a (Array.getElem?_eq_some_iff.mp q3).1⟩, vk_OFof q1 (va_eqt hco) hA, vk_OFof q1 ht hA, hT⟩
abbrev StrP (args : Array Value) (s : State) (A : Nat → Prop) (k : Nat) (own : String) (i : Nat) : Prop := ∃ a : Nat, (Term.string own i).eval args s none [] s = some (.ref a) ∧ ∃ v : Nat, va_O "java/lang/String" a A s s.heap ∧ va_OF "java/lang/String" "coder" "B" (.int 0) a A s s.heap ∧ va_OF "java/lang/String" "value" "[B" (.ref v) a A s s.heap ∧ va_T .byte v (slen k) (fun j => .int (Int32.ofInt (sch k j : Nat))) A s s.heap
section Prem
variable {args : Array Value} {s : State} {A : Nat → Prop}
theorem strp_0 (hs : ∀ c ∈ nl, c.before args s = true) (hA : ∀ a : Nat, a < s.heap.size → ¬ A a) : StrP args s A 0 "WireSchemas$JsonWriter" 59 := by
  have hl : slen 0 = 3 := by decide +kernel
  unfold StrP
  rw [hl]
  refine strOf (by decide) (hs _ (List.mem_of_getElem? (i := 244) rfl)) (hs _ (List.mem_of_getElem? (i := 245) rfl)) (hs _ (List.mem_of_getElem? (i := 246) rfl)) (hs _ (List.mem_of_getElem? (i := 247) rfl)) (fun j hj => ?_) hA
  exact match j, hj with
    | 0, _ => (hs _ (List.mem_of_getElem? (i := 248) rfl))
    | 1, _ => (hs _ (List.mem_of_getElem? (i := 249) rfl))
    | 2, _ => (hs _ (List.mem_of_getElem? (i := 250) rfl))
    | n + 3, h => absurd h (by omega)
theorem strp_1 (hs : ∀ c ∈ nl, c.before args s = true) (hA : ∀ a : Nat, a < s.heap.size → ¬ A a) : StrP args s A 1 "WireSchemas$JsonWriter" 65 := by
  have hl : slen 1 = 16 := by decide +kernel
  unfold StrP
  rw [hl]
  refine strOf (by decide) (hs _ (List.mem_of_getElem? (i := 251) rfl)) (hs _ (List.mem_of_getElem? (i := 252) rfl)) (hs _ (List.mem_of_getElem? (i := 253) rfl)) (hs _ (List.mem_of_getElem? (i := 254) rfl)) (fun j hj => ?_) hA
  exact match j, hj with
    | 0, _ => (hs _ (List.mem_of_getElem? (i := 255) rfl))
    | 1, _ => (hs _ (List.mem_of_getElem? (i := 256) rfl))
    | 2, _ => (hs _ (List.mem_of_getElem? (i := 257) rfl))
    | 3, _ => (hs _ (List.mem_of_getElem? (i := 258) rfl))
    | 4, _ => (hs _ (List.mem_of_getElem? (i := 259) rfl))
    | 5, _ => (hs _ (List.mem_of_getElem? (i := 260) rfl))
    | 6, _ => (hs _ (List.mem_of_getElem? (i := 261) rfl))
    | 7, _ => (hs _ (List.mem_of_getElem? (i := 262) rfl))
    | 8, _ => (hs _ (List.mem_of_getElem? (i := 263) rfl))
    | 9, _ => (hs _ (List.mem_of_getElem? (i := 264) rfl))
    | 10, _ => (hs _ (List.mem_of_getElem? (i := 265) rfl))
    | 11, _ => (hs _ (List.mem_of_getElem? (i := 266) rfl))
    | 12, _ => (hs _ (List.mem_of_getElem? (i := 267) rfl))
    | 13, _ => (hs _ (List.mem_of_getElem? (i := 268) rfl))
    | 14, _ => (hs _ (List.mem_of_getElem? (i := 269) rfl))
    | 15, _ => (hs _ (List.mem_of_getElem? (i := 270) rfl))
    | n + 16, h => absurd h (by omega)
theorem strp_2 (hs : ∀ c ∈ nl, c.before args s = true) (hA : ∀ a : Nat, a < s.heap.size → ¬ A a) : StrP args s A 2 "WireSchemas$JsonWriter" 47 := by
  have hl : slen 2 = 64 := by decide +kernel
  unfold StrP
  rw [hl]
  refine strOf (by decide) (hs _ (List.mem_of_getElem? (i := 271) rfl)) (hs _ (List.mem_of_getElem? (i := 272) rfl)) (hs _ (List.mem_of_getElem? (i := 273) rfl)) (hs _ (List.mem_of_getElem? (i := 274) rfl)) (fun j hj => ?_) hA
  exact match j, hj with
    | 0, _ => (hs _ (List.mem_of_getElem? (i := 275) rfl))
    | 1, _ => (hs _ (List.mem_of_getElem? (i := 276) rfl))
    | 2, _ => (hs _ (List.mem_of_getElem? (i := 277) rfl))
    | 3, _ => (hs _ (List.mem_of_getElem? (i := 278) rfl))
    | 4, _ => (hs _ (List.mem_of_getElem? (i := 279) rfl))
    | 5, _ => (hs _ (List.mem_of_getElem? (i := 280) rfl))
    | 6, _ => (hs _ (List.mem_of_getElem? (i := 281) rfl))
    | 7, _ => (hs _ (List.mem_of_getElem? (i := 282) rfl))
    | 8, _ => (hs _ (List.mem_of_getElem? (i := 283) rfl))
    | 9, _ => (hs _ (List.mem_of_getElem? (i := 284) rfl))
    | 10, _ => (hs _ (List.mem_of_getElem? (i := 285) rfl))
    | 11, _ => (hs _ (List.mem_of_getElem? (i := 286) rfl))
    | 12, _ => (hs _ (List.mem_of_getElem? (i := 287) rfl))
    | 13, _ => (hs _ (List.mem_of_getElem? (i := 288) rfl))
    | 14, _ => (hs _ (List.mem_of_getElem? (i := 289) rfl))
    | 15, _ => (hs _ (List.mem_of_getElem? (i := 290) rfl))
    | 16, _ => (hs _ (List.mem_of_getElem? (i := 291) rfl))
    | 17, _ => (hs _ (List.mem_of_getElem? (i := 292) rfl))
    | 18, _ => (hs _ (List.mem_of_getElem? (i := 293) rfl))
    | 19, _ => (hs _ (List.mem_of_getElem? (i := 294) rfl))
    | 20, _ => (hs _ (List.mem_of_getElem? (i := 295) rfl))
    | 21, _ => (hs _ (List.mem_of_getElem? (i := 296) rfl))
    | 22, _ => (hs _ (List.mem_of_getElem? (i := 297) rfl))
    | 23, _ => (hs _ (List.mem_of_getElem? (i := 298) rfl))
    | 24, _ => (hs _ (List.mem_of_getElem? (i := 299) rfl))
    | 25, _ => (hs _ (List.mem_of_getElem? (i := 300) rfl))
    | 26, _ => (hs _ (List.mem_of_getElem? (i := 301) rfl))
    | 27, _ => (hs _ (List.mem_of_getElem? (i := 302) rfl))
    | 28, _ => (hs _ (List.mem_of_getElem? (i := 303) rfl))
    | 29, _ => (hs _ (List.mem_of_getElem? (i := 304) rfl))
    | 30, _ => (hs _ (List.mem_of_getElem? (i := 305) rfl))
    | 31, _ => (hs _ (List.mem_of_getElem? (i := 306) rfl))
    | 32, _ => (hs _ (List.mem_of_getElem? (i := 307) rfl))
    | 33, _ => (hs _ (List.mem_of_getElem? (i := 308) rfl))
    | 34, _ => (hs _ (List.mem_of_getElem? (i := 309) rfl))
    | 35, _ => (hs _ (List.mem_of_getElem? (i := 310) rfl))
    | 36, _ => (hs _ (List.mem_of_getElem? (i := 311) rfl))
    | 37, _ => (hs _ (List.mem_of_getElem? (i := 312) rfl))
    | 38, _ => (hs _ (List.mem_of_getElem? (i := 313) rfl))
    | 39, _ => (hs _ (List.mem_of_getElem? (i := 314) rfl))
    | 40, _ => (hs _ (List.mem_of_getElem? (i := 315) rfl))
    | 41, _ => (hs _ (List.mem_of_getElem? (i := 316) rfl))
    | 42, _ => (hs _ (List.mem_of_getElem? (i := 317) rfl))
    | 43, _ => (hs _ (List.mem_of_getElem? (i := 318) rfl))
    | 44, _ => (hs _ (List.mem_of_getElem? (i := 319) rfl))
    | 45, _ => (hs _ (List.mem_of_getElem? (i := 320) rfl))
    | 46, _ => (hs _ (List.mem_of_getElem? (i := 321) rfl))
    | 47, _ => (hs _ (List.mem_of_getElem? (i := 322) rfl))
    | 48, _ => (hs _ (List.mem_of_getElem? (i := 323) rfl))
    | 49, _ => (hs _ (List.mem_of_getElem? (i := 324) rfl))
    | 50, _ => (hs _ (List.mem_of_getElem? (i := 325) rfl))
    | 51, _ => (hs _ (List.mem_of_getElem? (i := 326) rfl))
    | 52, _ => (hs _ (List.mem_of_getElem? (i := 327) rfl))
    | 53, _ => (hs _ (List.mem_of_getElem? (i := 328) rfl))
    | 54, _ => (hs _ (List.mem_of_getElem? (i := 329) rfl))
    | 55, _ => (hs _ (List.mem_of_getElem? (i := 330) rfl))
    | 56, _ => (hs _ (List.mem_of_getElem? (i := 331) rfl))
    | 57, _ => (hs _ (List.mem_of_getElem? (i := 332) rfl))
    | 58, _ => (hs _ (List.mem_of_getElem? (i := 333) rfl))
    | 59, _ => (hs _ (List.mem_of_getElem? (i := 334) rfl))
    | 60, _ => (hs _ (List.mem_of_getElem? (i := 335) rfl))
    | 61, _ => (hs _ (List.mem_of_getElem? (i := 336) rfl))
    | 62, _ => (hs _ (List.mem_of_getElem? (i := 337) rfl))
    | 63, _ => (hs _ (List.mem_of_getElem? (i := 338) rfl))
    | n + 64, h => absurd h (by omega)
theorem strp_3 (hs : ∀ c ∈ nl, c.before args s = true) (hA : ∀ a : Nat, a < s.heap.size → ¬ A a) : StrP args s A 3 "WireSchemas$JsonWriter" 111 := by
  have hl : slen 3 = 4 := by decide +kernel
  unfold StrP
  rw [hl]
  refine strOf (by decide) (hs _ (List.mem_of_getElem? (i := 339) rfl)) (hs _ (List.mem_of_getElem? (i := 340) rfl)) (hs _ (List.mem_of_getElem? (i := 341) rfl)) (hs _ (List.mem_of_getElem? (i := 342) rfl)) (fun j hj => ?_) hA
  exact match j, hj with
    | 0, _ => (hs _ (List.mem_of_getElem? (i := 343) rfl))
    | 1, _ => (hs _ (List.mem_of_getElem? (i := 344) rfl))
    | 2, _ => (hs _ (List.mem_of_getElem? (i := 345) rfl))
    | 3, _ => (hs _ (List.mem_of_getElem? (i := 346) rfl))
    | n + 4, h => absurd h (by omega)
theorem strp_4 (hs : ∀ c ∈ nl, c.before args s = true) (hA : ∀ a : Nat, a < s.heap.size → ¬ A a) : StrP args s A 4 "WireSchemas$JsonWriter" 113 := by
  have hl : slen 4 = 5 := by decide +kernel
  unfold StrP
  rw [hl]
  refine strOf (by decide) (hs _ (List.mem_of_getElem? (i := 347) rfl)) (hs _ (List.mem_of_getElem? (i := 348) rfl)) (hs _ (List.mem_of_getElem? (i := 349) rfl)) (hs _ (List.mem_of_getElem? (i := 350) rfl)) (fun j hj => ?_) hA
  exact match j, hj with
    | 0, _ => (hs _ (List.mem_of_getElem? (i := 351) rfl))
    | 1, _ => (hs _ (List.mem_of_getElem? (i := 352) rfl))
    | 2, _ => (hs _ (List.mem_of_getElem? (i := 353) rfl))
    | 3, _ => (hs _ (List.mem_of_getElem? (i := 354) rfl))
    | 4, _ => (hs _ (List.mem_of_getElem? (i := 355) rfl))
    | n + 5, h => absurd h (by omega)
theorem strp_5 (hs : ∀ c ∈ nl, c.before args s = true) (hA : ∀ a : Nat, a < s.heap.size → ¬ A a) : StrP args s A 5 "WireSchemas$JsonReader" 202 := by
  have hl : slen 5 = 4 := by decide +kernel
  unfold StrP
  rw [hl]
  refine strOf (by decide) (hs _ (List.mem_of_getElem? (i := 356) rfl)) (hs _ (List.mem_of_getElem? (i := 357) rfl)) (hs _ (List.mem_of_getElem? (i := 358) rfl)) (hs _ (List.mem_of_getElem? (i := 359) rfl)) (fun j hj => ?_) hA
  exact match j, hj with
    | 0, _ => (hs _ (List.mem_of_getElem? (i := 360) rfl))
    | 1, _ => (hs _ (List.mem_of_getElem? (i := 361) rfl))
    | 2, _ => (hs _ (List.mem_of_getElem? (i := 362) rfl))
    | 3, _ => (hs _ (List.mem_of_getElem? (i := 363) rfl))
    | n + 4, h => absurd h (by omega)
theorem strp_6 (hs : ∀ c ∈ nl, c.before args s = true) (hA : ∀ a : Nat, a < s.heap.size → ¬ A a) : StrP args s A 6 "WireSchemas$JsonReader" 104 := by
  have hl : slen 6 = 4 := by decide +kernel
  unfold StrP
  rw [hl]
  refine strOf (by decide) (hs _ (List.mem_of_getElem? (i := 364) rfl)) (hs _ (List.mem_of_getElem? (i := 365) rfl)) (hs _ (List.mem_of_getElem? (i := 366) rfl)) (hs _ (List.mem_of_getElem? (i := 367) rfl)) (fun j hj => ?_) hA
  exact match j, hj with
    | 0, _ => (hs _ (List.mem_of_getElem? (i := 368) rfl))
    | 1, _ => (hs _ (List.mem_of_getElem? (i := 369) rfl))
    | 2, _ => (hs _ (List.mem_of_getElem? (i := 370) rfl))
    | 3, _ => (hs _ (List.mem_of_getElem? (i := 371) rfl))
    | n + 4, h => absurd h (by omega)
theorem strp_7 (hs : ∀ c ∈ nl, c.before args s = true) (hA : ∀ a : Nat, a < s.heap.size → ¬ A a) : StrP args s A 7 "WireSchemas$JsonReader" 110 := by
  have hl : slen 7 = 5 := by decide +kernel
  unfold StrP
  rw [hl]
  refine strOf (by decide) (hs _ (List.mem_of_getElem? (i := 373) rfl)) (hs _ (List.mem_of_getElem? (i := 374) rfl)) (hs _ (List.mem_of_getElem? (i := 375) rfl)) (hs _ (List.mem_of_getElem? (i := 376) rfl)) (fun j hj => ?_) hA
  exact match j, hj with
    | 0, _ => (hs _ (List.mem_of_getElem? (i := 377) rfl))
    | 1, _ => (hs _ (List.mem_of_getElem? (i := 378) rfl))
    | 2, _ => (hs _ (List.mem_of_getElem? (i := 379) rfl))
    | 3, _ => (hs _ (List.mem_of_getElem? (i := 380) rfl))
    | 4, _ => (hs _ (List.mem_of_getElem? (i := 381) rfl))
    | n + 5, h => absurd h (by omega)
theorem strp_8 (hs : ∀ c ∈ nl, c.before args s = true) (hA : ∀ a : Nat, a < s.heap.size → ¬ A a) : StrP args s A 8 "WireSchemasModel" 221 := by
  have hl : slen 8 = 6 := by decide +kernel
  unfold StrP
  rw [hl]
  refine strOf (by decide) (hs _ (List.mem_of_getElem? (i := 383) rfl)) (hs _ (List.mem_of_getElem? (i := 384) rfl)) (hs _ (List.mem_of_getElem? (i := 385) rfl)) (hs _ (List.mem_of_getElem? (i := 386) rfl)) (fun j hj => ?_) hA
  exact match j, hj with
    | 0, _ => (hs _ (List.mem_of_getElem? (i := 387) rfl))
    | 1, _ => (hs _ (List.mem_of_getElem? (i := 388) rfl))
    | 2, _ => (hs _ (List.mem_of_getElem? (i := 389) rfl))
    | 3, _ => (hs _ (List.mem_of_getElem? (i := 390) rfl))
    | 4, _ => (hs _ (List.mem_of_getElem? (i := 391) rfl))
    | 5, _ => (hs _ (List.mem_of_getElem? (i := 392) rfl))
    | n + 6, h => absurd h (by omega)
theorem strp_9 (hs : ∀ c ∈ nl, c.before args s = true) (hA : ∀ a : Nat, a < s.heap.size → ¬ A a) : StrP args s A 9 "WireSchemasModel" 159 := by
  have hl : slen 9 = 1 := by decide +kernel
  unfold StrP
  rw [hl]
  refine strOf (by decide) (hs _ (List.mem_of_getElem? (i := 394) rfl)) (hs _ (List.mem_of_getElem? (i := 395) rfl)) (hs _ (List.mem_of_getElem? (i := 396) rfl)) (hs _ (List.mem_of_getElem? (i := 397) rfl)) (fun j hj => ?_) hA
  exact match j, hj with
    | 0, _ => (hs _ (List.mem_of_getElem? (i := 398) rfl))
    | n + 1, h => absurd h (by omega)
theorem strp_10 (hs : ∀ c ∈ nl, c.before args s = true) (hA : ∀ a : Nat, a < s.heap.size → ¬ A a) : StrP args s A 10 "WireSchemasModel" 223 := by
  have hl : slen 10 = 1 := by decide +kernel
  unfold StrP
  rw [hl]
  refine strOf (by decide) (hs _ (List.mem_of_getElem? (i := 399) rfl)) (hs _ (List.mem_of_getElem? (i := 400) rfl)) (hs _ (List.mem_of_getElem? (i := 401) rfl)) (hs _ (List.mem_of_getElem? (i := 402) rfl)) (fun j hj => ?_) hA
  exact match j, hj with
    | 0, _ => (hs _ (List.mem_of_getElem? (i := 403) rfl))
    | n + 1, h => absurd h (by omega)
theorem strp_11 (hs : ∀ c ∈ nl, c.before args s = true) (hA : ∀ a : Nat, a < s.heap.size → ¬ A a) : StrP args s A 11 "WireSchemasModel" 225 := by
  have hl : slen 11 = 6 := by decide +kernel
  unfold StrP
  rw [hl]
  refine strOf (by decide) (hs _ (List.mem_of_getElem? (i := 404) rfl)) (hs _ (List.mem_of_getElem? (i := 405) rfl)) (hs _ (List.mem_of_getElem? (i := 406) rfl)) (hs _ (List.mem_of_getElem? (i := 407) rfl)) (fun j hj => ?_) hA
  exact match j, hj with
    | 0, _ => (hs _ (List.mem_of_getElem? (i := 408) rfl))
    | 1, _ => (hs _ (List.mem_of_getElem? (i := 409) rfl))
    | 2, _ => (hs _ (List.mem_of_getElem? (i := 410) rfl))
    | 3, _ => (hs _ (List.mem_of_getElem? (i := 411) rfl))
    | 4, _ => (hs _ (List.mem_of_getElem? (i := 412) rfl))
    | 5, _ => (hs _ (List.mem_of_getElem? (i := 413) rfl))
    | n + 6, h => absurd h (by omega)
theorem strp_12 (hs : ∀ c ∈ nl, c.before args s = true) (hA : ∀ a : Nat, a < s.heap.size → ¬ A a) : StrP args s A 12 "WireSchemasModel" 164 := by
  have hl : slen 12 = 1 := by decide +kernel
  unfold StrP
  rw [hl]
  refine strOf (by decide) (hs _ (List.mem_of_getElem? (i := 415) rfl)) (hs _ (List.mem_of_getElem? (i := 416) rfl)) (hs _ (List.mem_of_getElem? (i := 417) rfl)) (hs _ (List.mem_of_getElem? (i := 418) rfl)) (fun j hj => ?_) hA
  exact match j, hj with
    | 0, _ => (hs _ (List.mem_of_getElem? (i := 419) rfl))
    | n + 1, h => absurd h (by omega)
theorem strp_13 (hs : ∀ c ∈ nl, c.before args s = true) (hA : ∀ a : Nat, a < s.heap.size → ¬ A a) : StrP args s A 13 "WireSchemasModel" 195 := by
  have hl : slen 13 = 7 := by decide +kernel
  unfold StrP
  rw [hl]
  refine strOf (by decide) (hs _ (List.mem_of_getElem? (i := 420) rfl)) (hs _ (List.mem_of_getElem? (i := 421) rfl)) (hs _ (List.mem_of_getElem? (i := 422) rfl)) (hs _ (List.mem_of_getElem? (i := 423) rfl)) (fun j hj => ?_) hA
  exact match j, hj with
    | 0, _ => (hs _ (List.mem_of_getElem? (i := 424) rfl))
    | 1, _ => (hs _ (List.mem_of_getElem? (i := 425) rfl))
    | 2, _ => (hs _ (List.mem_of_getElem? (i := 426) rfl))
    | 3, _ => (hs _ (List.mem_of_getElem? (i := 427) rfl))
    | 4, _ => (hs _ (List.mem_of_getElem? (i := 428) rfl))
    | 5, _ => (hs _ (List.mem_of_getElem? (i := 429) rfl))
    | 6, _ => (hs _ (List.mem_of_getElem? (i := 430) rfl))
    | n + 7, h => absurd h (by omega)
theorem strp_14 (hs : ∀ c ∈ nl, c.before args s = true) (hA : ∀ a : Nat, a < s.heap.size → ¬ A a) : StrP args s A 14 "WireSchemasModel" 153 := by
  have hl : slen 14 = 1 := by decide +kernel
  unfold StrP
  rw [hl]
  refine strOf (by decide) (hs _ (List.mem_of_getElem? (i := 432) rfl)) (hs _ (List.mem_of_getElem? (i := 433) rfl)) (hs _ (List.mem_of_getElem? (i := 434) rfl)) (hs _ (List.mem_of_getElem? (i := 435) rfl)) (fun j hj => ?_) hA
  exact match j, hj with
    | 0, _ => (hs _ (List.mem_of_getElem? (i := 436) rfl))
    | n + 1, h => absurd h (by omega)
theorem strp_15 (hs : ∀ c ∈ nl, c.before args s = true) (hA : ∀ a : Nat, a < s.heap.size → ¬ A a) : StrP args s A 15 "WireSchemasModel" 169 := by
  have hl : slen 15 = 1 := by decide +kernel
  unfold StrP
  rw [hl]
  refine strOf (by decide) (hs _ (List.mem_of_getElem? (i := 437) rfl)) (hs _ (List.mem_of_getElem? (i := 438) rfl)) (hs _ (List.mem_of_getElem? (i := 439) rfl)) (hs _ (List.mem_of_getElem? (i := 440) rfl)) (fun j hj => ?_) hA
  exact match j, hj with
    | 0, _ => (hs _ (List.mem_of_getElem? (i := 441) rfl))
    | n + 1, h => absurd h (by omega)
theorem strp_16 (hs : ∀ c ∈ nl, c.before args s = true) (hA : ∀ a : Nat, a < s.heap.size → ¬ A a) : StrP args s A 16 "WireSchemasModel" 204 := by
  have hl : slen 16 = 4 := by decide +kernel
  unfold StrP
  rw [hl]
  refine strOf (by decide) (hs _ (List.mem_of_getElem? (i := 442) rfl)) (hs _ (List.mem_of_getElem? (i := 443) rfl)) (hs _ (List.mem_of_getElem? (i := 444) rfl)) (hs _ (List.mem_of_getElem? (i := 445) rfl)) (fun j hj => ?_) hA
  exact match j, hj with
    | 0, _ => (hs _ (List.mem_of_getElem? (i := 446) rfl))
    | 1, _ => (hs _ (List.mem_of_getElem? (i := 447) rfl))
    | 2, _ => (hs _ (List.mem_of_getElem? (i := 448) rfl))
    | 3, _ => (hs _ (List.mem_of_getElem? (i := 449) rfl))
    | n + 4, h => absurd h (by omega)
theorem strp_17 (hs : ∀ c ∈ nl, c.before args s = true) (hA : ∀ a : Nat, a < s.heap.size → ¬ A a) : StrP args s A 17 "WireSchemasModel" 210 := by
  have hl : slen 17 = 5 := by decide +kernel
  unfold StrP
  rw [hl]
  refine strOf (by decide) (hs _ (List.mem_of_getElem? (i := 451) rfl)) (hs _ (List.mem_of_getElem? (i := 452) rfl)) (hs _ (List.mem_of_getElem? (i := 453) rfl)) (hs _ (List.mem_of_getElem? (i := 454) rfl)) (fun j hj => ?_) hA
  exact match j, hj with
    | 0, _ => (hs _ (List.mem_of_getElem? (i := 455) rfl))
    | 1, _ => (hs _ (List.mem_of_getElem? (i := 456) rfl))
    | 2, _ => (hs _ (List.mem_of_getElem? (i := 457) rfl))
    | 3, _ => (hs _ (List.mem_of_getElem? (i := 458) rfl))
    | 4, _ => (hs _ (List.mem_of_getElem? (i := 459) rfl))
    | n + 5, h => absurd h (by omega)
theorem strp_18 (hs : ∀ c ∈ nl, c.before args s = true) (hA : ∀ a : Nat, a < s.heap.size → ¬ A a) : StrP args s A 18 "WireSchemasModel" 175 := by
  have hl : slen 18 = 1 := by decide +kernel
  unfold StrP
  rw [hl]
  refine strOf (by decide) (hs _ (List.mem_of_getElem? (i := 461) rfl)) (hs _ (List.mem_of_getElem? (i := 462) rfl)) (hs _ (List.mem_of_getElem? (i := 463) rfl)) (hs _ (List.mem_of_getElem? (i := 464) rfl)) (fun j hj => ?_) hA
  exact match j, hj with
    | 0, _ => (hs _ (List.mem_of_getElem? (i := 465) rfl))
    | n + 1, h => absurd h (by omega)
theorem strp_19 (hs : ∀ c ∈ nl, c.before args s = true) (hA : ∀ a : Nat, a < s.heap.size → ¬ A a) : StrP args s A 19 "WireSchemasModel" 215 := by
  have hl : slen 19 = 8 := by decide +kernel
  unfold StrP
  rw [hl]
  refine strOf (by decide) (hs _ (List.mem_of_getElem? (i := 466) rfl)) (hs _ (List.mem_of_getElem? (i := 467) rfl)) (hs _ (List.mem_of_getElem? (i := 468) rfl)) (hs _ (List.mem_of_getElem? (i := 469) rfl)) (fun j hj => ?_) hA
  exact match j, hj with
    | 0, _ => (hs _ (List.mem_of_getElem? (i := 470) rfl))
    | 1, _ => (hs _ (List.mem_of_getElem? (i := 471) rfl))
    | 2, _ => (hs _ (List.mem_of_getElem? (i := 472) rfl))
    | 3, _ => (hs _ (List.mem_of_getElem? (i := 473) rfl))
    | 4, _ => (hs _ (List.mem_of_getElem? (i := 474) rfl))
    | 5, _ => (hs _ (List.mem_of_getElem? (i := 475) rfl))
    | 6, _ => (hs _ (List.mem_of_getElem? (i := 476) rfl))
    | 7, _ => (hs _ (List.mem_of_getElem? (i := 477) rfl))
    | n + 8, h => absurd h (by omega)
theorem strp_20 (hs : ∀ c ∈ nl, c.before args s = true) (hA : ∀ a : Nat, a < s.heap.size → ¬ A a) : StrP args s A 20 "WireSchemasModel" 190 := by
  have hl : slen 20 = 1 := by decide +kernel
  unfold StrP
  rw [hl]
  refine strOf (by decide) (hs _ (List.mem_of_getElem? (i := 479) rfl)) (hs _ (List.mem_of_getElem? (i := 480) rfl)) (hs _ (List.mem_of_getElem? (i := 481) rfl)) (hs _ (List.mem_of_getElem? (i := 482) rfl)) (fun j hj => ?_) hA
  exact match j, hj with
    | 0, _ => (hs _ (List.mem_of_getElem? (i := 483) rfl))
    | n + 1, h => absurd h (by omega)
theorem strp_21 (hs : ∀ c ∈ nl, c.before args s = true) (hA : ∀ a : Nat, a < s.heap.size → ¬ A a) : StrP args s A 21 "WireSchemasModel" 219 := by
  have hl : slen 21 = 8 := by decide +kernel
  unfold StrP
  rw [hl]
  refine strOf (by decide) (hs _ (List.mem_of_getElem? (i := 484) rfl)) (hs _ (List.mem_of_getElem? (i := 485) rfl)) (hs _ (List.mem_of_getElem? (i := 486) rfl)) (hs _ (List.mem_of_getElem? (i := 487) rfl)) (fun j hj => ?_) hA
  exact match j, hj with
    | 0, _ => (hs _ (List.mem_of_getElem? (i := 488) rfl))
    | 1, _ => (hs _ (List.mem_of_getElem? (i := 489) rfl))
    | 2, _ => (hs _ (List.mem_of_getElem? (i := 490) rfl))
    | 3, _ => (hs _ (List.mem_of_getElem? (i := 491) rfl))
    | 4, _ => (hs _ (List.mem_of_getElem? (i := 492) rfl))
    | 5, _ => (hs _ (List.mem_of_getElem? (i := 493) rfl))
    | 6, _ => (hs _ (List.mem_of_getElem? (i := 494) rfl))
    | 7, _ => (hs _ (List.mem_of_getElem? (i := 495) rfl))
    | n + 8, h => absurd h (by omega)
theorem strp_22 (hs : ∀ c ∈ nl, c.before args s = true) (hA : ∀ a : Nat, a < s.heap.size → ¬ A a) : StrP args s A 22 "WireSchemasModel" 220 := by
  have hl : slen 22 = 8 := by decide +kernel
  unfold StrP
  rw [hl]
  refine strOf (by decide) (hs _ (List.mem_of_getElem? (i := 497) rfl)) (hs _ (List.mem_of_getElem? (i := 498) rfl)) (hs _ (List.mem_of_getElem? (i := 499) rfl)) (hs _ (List.mem_of_getElem? (i := 500) rfl)) (fun j hj => ?_) hA
  exact match j, hj with
    | 0, _ => (hs _ (List.mem_of_getElem? (i := 501) rfl))
    | 1, _ => (hs _ (List.mem_of_getElem? (i := 502) rfl))
    | 2, _ => (hs _ (List.mem_of_getElem? (i := 503) rfl))
    | 3, _ => (hs _ (List.mem_of_getElem? (i := 504) rfl))
    | 4, _ => (hs _ (List.mem_of_getElem? (i := 505) rfl))
    | 5, _ => (hs _ (List.mem_of_getElem? (i := 506) rfl))
    | 6, _ => (hs _ (List.mem_of_getElem? (i := 507) rfl))
    | 7, _ => (hs _ (List.mem_of_getElem? (i := 508) rfl))
    | n + 8, h => absurd h (by omega)
theorem strp_23 (hs : ∀ c ∈ nl, c.before args s = true) (hA : ∀ a : Nat, a < s.heap.size → ¬ A a) : StrP args s A 23 "WireSchemasModel" 239 := by
  have hl : slen 23 = 74 := by decide +kernel
  unfold StrP
  rw [hl]
  refine strOf (by decide) (hs _ (List.mem_of_getElem? (i := 510) rfl)) (hs _ (List.mem_of_getElem? (i := 511) rfl)) (hs _ (List.mem_of_getElem? (i := 512) rfl)) (hs _ (List.mem_of_getElem? (i := 513) rfl)) (fun j hj => ?_) hA
  exact match j, hj with
    | 0, _ => (hs _ (List.mem_of_getElem? (i := 514) rfl))
    | 1, _ => (hs _ (List.mem_of_getElem? (i := 515) rfl))
    | 2, _ => (hs _ (List.mem_of_getElem? (i := 516) rfl))
    | 3, _ => (hs _ (List.mem_of_getElem? (i := 517) rfl))
    | 4, _ => (hs _ (List.mem_of_getElem? (i := 518) rfl))
    | 5, _ => (hs _ (List.mem_of_getElem? (i := 519) rfl))
    | 6, _ => (hs _ (List.mem_of_getElem? (i := 520) rfl))
    | 7, _ => (hs _ (List.mem_of_getElem? (i := 521) rfl))
    | 8, _ => (hs _ (List.mem_of_getElem? (i := 522) rfl))
    | 9, _ => (hs _ (List.mem_of_getElem? (i := 523) rfl))
    | 10, _ => (hs _ (List.mem_of_getElem? (i := 524) rfl))
    | 11, _ => (hs _ (List.mem_of_getElem? (i := 525) rfl))
    | 12, _ => (hs _ (List.mem_of_getElem? (i := 526) rfl))
    | 13, _ => (hs _ (List.mem_of_getElem? (i := 527) rfl))
    | 14, _ => (hs _ (List.mem_of_getElem? (i := 528) rfl))
    | 15, _ => (hs _ (List.mem_of_getElem? (i := 529) rfl))
    | 16, _ => (hs _ (List.mem_of_getElem? (i := 530) rfl))
    | 17, _ => (hs _ (List.mem_of_getElem? (i := 531) rfl))
    | 18, _ => (hs _ (List.mem_of_getElem? (i := 532) rfl))
    | 19, _ => (hs _ (List.mem_of_getElem? (i := 533) rfl))
    | 20, _ => (hs _ (List.mem_of_getElem? (i := 534) rfl))
    | 21, _ => (hs _ (List.mem_of_getElem? (i := 535) rfl))
    | 22, _ => (hs _ (List.mem_of_getElem? (i := 536) rfl))
    | 23, _ => (hs _ (List.mem_of_getElem? (i := 537) rfl))
    | 24, _ => (hs _ (List.mem_of_getElem? (i := 538) rfl))
    | 25, _ => (hs _ (List.mem_of_getElem? (i := 539) rfl))
    | 26, _ => (hs _ (List.mem_of_getElem? (i := 540) rfl))
    | 27, _ => (hs _ (List.mem_of_getElem? (i := 541) rfl))
    | 28, _ => (hs _ (List.mem_of_getElem? (i := 542) rfl))
    | 29, _ => (hs _ (List.mem_of_getElem? (i := 543) rfl))
    | 30, _ => (hs _ (List.mem_of_getElem? (i := 544) rfl))
    | 31, _ => (hs _ (List.mem_of_getElem? (i := 545) rfl))
    | 32, _ => (hs _ (List.mem_of_getElem? (i := 546) rfl))
    | 33, _ => (hs _ (List.mem_of_getElem? (i := 547) rfl))
    | 34, _ => (hs _ (List.mem_of_getElem? (i := 548) rfl))
    | 35, _ => (hs _ (List.mem_of_getElem? (i := 549) rfl))
    | 36, _ => (hs _ (List.mem_of_getElem? (i := 550) rfl))
    | 37, _ => (hs _ (List.mem_of_getElem? (i := 551) rfl))
    | 38, _ => (hs _ (List.mem_of_getElem? (i := 552) rfl))
    | 39, _ => (hs _ (List.mem_of_getElem? (i := 553) rfl))
    | 40, _ => (hs _ (List.mem_of_getElem? (i := 554) rfl))
    | 41, _ => (hs _ (List.mem_of_getElem? (i := 555) rfl))
    | 42, _ => (hs _ (List.mem_of_getElem? (i := 556) rfl))
    | 43, _ => (hs _ (List.mem_of_getElem? (i := 557) rfl))
    | 44, _ => (hs _ (List.mem_of_getElem? (i := 558) rfl))
    | 45, _ => (hs _ (List.mem_of_getElem? (i := 559) rfl))
    | 46, _ => (hs _ (List.mem_of_getElem? (i := 560) rfl))
    | 47, _ => (hs _ (List.mem_of_getElem? (i := 561) rfl))
    | 48, _ => (hs _ (List.mem_of_getElem? (i := 562) rfl))
    | 49, _ => (hs _ (List.mem_of_getElem? (i := 563) rfl))
    | 50, _ => (hs _ (List.mem_of_getElem? (i := 564) rfl))
    | 51, _ => (hs _ (List.mem_of_getElem? (i := 565) rfl))
    | 52, _ => (hs _ (List.mem_of_getElem? (i := 566) rfl))
    | 53, _ => (hs _ (List.mem_of_getElem? (i := 567) rfl))
    | 54, _ => (hs _ (List.mem_of_getElem? (i := 568) rfl))
    | 55, _ => (hs _ (List.mem_of_getElem? (i := 569) rfl))
    | 56, _ => (hs _ (List.mem_of_getElem? (i := 570) rfl))
    | 57, _ => (hs _ (List.mem_of_getElem? (i := 571) rfl))
    | 58, _ => (hs _ (List.mem_of_getElem? (i := 572) rfl))
    | 59, _ => (hs _ (List.mem_of_getElem? (i := 573) rfl))
    | 60, _ => (hs _ (List.mem_of_getElem? (i := 574) rfl))
    | 61, _ => (hs _ (List.mem_of_getElem? (i := 575) rfl))
    | 62, _ => (hs _ (List.mem_of_getElem? (i := 576) rfl))
    | 63, _ => (hs _ (List.mem_of_getElem? (i := 577) rfl))
    | 64, _ => (hs _ (List.mem_of_getElem? (i := 578) rfl))
    | 65, _ => (hs _ (List.mem_of_getElem? (i := 579) rfl))
    | 66, _ => (hs _ (List.mem_of_getElem? (i := 580) rfl))
    | 67, _ => (hs _ (List.mem_of_getElem? (i := 581) rfl))
    | 68, _ => (hs _ (List.mem_of_getElem? (i := 582) rfl))
    | 69, _ => (hs _ (List.mem_of_getElem? (i := 583) rfl))
    | 70, _ => (hs _ (List.mem_of_getElem? (i := 584) rfl))
    | 71, _ => (hs _ (List.mem_of_getElem? (i := 585) rfl))
    | 72, _ => (hs _ (List.mem_of_getElem? (i := 586) rfl))
    | 73, _ => (hs _ (List.mem_of_getElem? (i := 587) rfl))
    | n + 74, h => absurd h (by omega)
theorem strp_24 (hs : ∀ c ∈ nl, c.before args s = true) (hA : ∀ a : Nat, a < s.heap.size → ¬ A a) : StrP args s A 24 "WireSchemasModel" 369 := by
  have hl : slen 24 = 4 := by decide +kernel
  unfold StrP
  rw [hl]
  refine strOf (by decide) (hs _ (List.mem_of_getElem? (i := 588) rfl)) (hs _ (List.mem_of_getElem? (i := 589) rfl)) (hs _ (List.mem_of_getElem? (i := 590) rfl)) (hs _ (List.mem_of_getElem? (i := 591) rfl)) (fun j hj => ?_) hA
  exact match j, hj with
    | 0, _ => (hs _ (List.mem_of_getElem? (i := 592) rfl))
    | 1, _ => (hs _ (List.mem_of_getElem? (i := 593) rfl))
    | 2, _ => (hs _ (List.mem_of_getElem? (i := 594) rfl))
    | 3, _ => (hs _ (List.mem_of_getElem? (i := 595) rfl))
    | n + 4, h => absurd h (by omega)
theorem strp_25 (hs : ∀ c ∈ nl, c.before args s = true) (hA : ∀ a : Nat, a < s.heap.size → ¬ A a) : StrP args s A 25 "WireSchemasModel" 382 := by
  have hl : slen 25 = 4 := by decide +kernel
  unfold StrP
  rw [hl]
  refine strOf (by decide) (hs _ (List.mem_of_getElem? (i := 596) rfl)) (hs _ (List.mem_of_getElem? (i := 597) rfl)) (hs _ (List.mem_of_getElem? (i := 598) rfl)) (hs _ (List.mem_of_getElem? (i := 599) rfl)) (fun j hj => ?_) hA
  exact match j, hj with
    | 0, _ => (hs _ (List.mem_of_getElem? (i := 600) rfl))
    | 1, _ => (hs _ (List.mem_of_getElem? (i := 601) rfl))
    | 2, _ => (hs _ (List.mem_of_getElem? (i := 602) rfl))
    | 3, _ => (hs _ (List.mem_of_getElem? (i := 603) rfl))
    | n + 4, h => absurd h (by omega)
theorem strp_26 (hs : ∀ c ∈ nl, c.before args s = true) (hA : ∀ a : Nat, a < s.heap.size → ¬ A a) : StrP args s A 26 "WireSchemasModel" 384 := by
  have hl : slen 26 = 5 := by decide +kernel
  unfold StrP
  rw [hl]
  refine strOf (by decide) (hs _ (List.mem_of_getElem? (i := 606) rfl)) (hs _ (List.mem_of_getElem? (i := 607) rfl)) (hs _ (List.mem_of_getElem? (i := 608) rfl)) (hs _ (List.mem_of_getElem? (i := 609) rfl)) (fun j hj => ?_) hA
  exact match j, hj with
    | 0, _ => (hs _ (List.mem_of_getElem? (i := 610) rfl))
    | 1, _ => (hs _ (List.mem_of_getElem? (i := 611) rfl))
    | 2, _ => (hs _ (List.mem_of_getElem? (i := 612) rfl))
    | 3, _ => (hs _ (List.mem_of_getElem? (i := 613) rfl))
    | 4, _ => (hs _ (List.mem_of_getElem? (i := 614) rfl))
    | n + 5, h => absurd h (by omega)
theorem strp_27 (hs : ∀ c ∈ nl, c.before args s = true) (hA : ∀ a : Nat, a < s.heap.size → ¬ A a) : StrP args s A 27 "WireSchemasModel" 536 := by
  have hl : slen 27 = 4 := by decide +kernel
  unfold StrP
  rw [hl]
  refine strOf (by decide) (hs _ (List.mem_of_getElem? (i := 617) rfl)) (hs _ (List.mem_of_getElem? (i := 618) rfl)) (hs _ (List.mem_of_getElem? (i := 619) rfl)) (hs _ (List.mem_of_getElem? (i := 620) rfl)) (fun j hj => ?_) hA
  exact match j, hj with
    | 0, _ => (hs _ (List.mem_of_getElem? (i := 621) rfl))
    | 1, _ => (hs _ (List.mem_of_getElem? (i := 622) rfl))
    | 2, _ => (hs _ (List.mem_of_getElem? (i := 623) rfl))
    | 3, _ => (hs _ (List.mem_of_getElem? (i := 624) rfl))
    | n + 4, h => absurd h (by omega)
theorem strp_28 (hs : ∀ c ∈ nl, c.before args s = true) (hA : ∀ a : Nat, a < s.heap.size → ¬ A a) : StrP args s A 28 "WireSchemas$SchemaReader" 86 := by
  have hl : slen 28 = 6 := by decide +kernel
  unfold StrP
  rw [hl]
  refine strOf (by decide) (hs _ (List.mem_of_getElem? (i := 53) rfl)) (hs _ (List.mem_of_getElem? (i := 54) rfl)) (hs _ (List.mem_of_getElem? (i := 55) rfl)) (hs _ (List.mem_of_getElem? (i := 56) rfl)) (fun j hj => ?_) hA
  exact match j, hj with
    | 0, _ => (hs _ (List.mem_of_getElem? (i := 57) rfl))
    | 1, _ => (hs _ (List.mem_of_getElem? (i := 58) rfl))
    | 2, _ => (hs _ (List.mem_of_getElem? (i := 59) rfl))
    | 3, _ => (hs _ (List.mem_of_getElem? (i := 60) rfl))
    | 4, _ => (hs _ (List.mem_of_getElem? (i := 61) rfl))
    | 5, _ => (hs _ (List.mem_of_getElem? (i := 62) rfl))
    | n + 6, h => absurd h (by omega)
theorem strp_29 (hs : ∀ c ∈ nl, c.before args s = true) (hA : ∀ a : Nat, a < s.heap.size → ¬ A a) : StrP args s A 29 "WireSchemas$SchemaReader" 96 := by
  have hl : slen 29 = 6 := by decide +kernel
  unfold StrP
  rw [hl]
  refine strOf (by decide) (hs _ (List.mem_of_getElem? (i := 63) rfl)) (hs _ (List.mem_of_getElem? (i := 64) rfl)) (hs _ (List.mem_of_getElem? (i := 65) rfl)) (hs _ (List.mem_of_getElem? (i := 66) rfl)) (fun j hj => ?_) hA
  exact match j, hj with
    | 0, _ => (hs _ (List.mem_of_getElem? (i := 67) rfl))
    | 1, _ => (hs _ (List.mem_of_getElem? (i := 68) rfl))
    | 2, _ => (hs _ (List.mem_of_getElem? (i := 69) rfl))
    | 3, _ => (hs _ (List.mem_of_getElem? (i := 70) rfl))
    | 4, _ => (hs _ (List.mem_of_getElem? (i := 71) rfl))
    | 5, _ => (hs _ (List.mem_of_getElem? (i := 72) rfl))
    | n + 6, h => absurd h (by omega)
theorem strp_30 (hs : ∀ c ∈ nl, c.before args s = true) (hA : ∀ a : Nat, a < s.heap.size → ¬ A a) : StrP args s A 30 "WireSchemas$SchemaReader" 98 := by
  have hl : slen 30 = 7 := by decide +kernel
  unfold StrP
  rw [hl]
  refine strOf (by decide) (hs _ (List.mem_of_getElem? (i := 73) rfl)) (hs _ (List.mem_of_getElem? (i := 74) rfl)) (hs _ (List.mem_of_getElem? (i := 75) rfl)) (hs _ (List.mem_of_getElem? (i := 76) rfl)) (fun j hj => ?_) hA
  exact match j, hj with
    | 0, _ => (hs _ (List.mem_of_getElem? (i := 77) rfl))
    | 1, _ => (hs _ (List.mem_of_getElem? (i := 78) rfl))
    | 2, _ => (hs _ (List.mem_of_getElem? (i := 79) rfl))
    | 3, _ => (hs _ (List.mem_of_getElem? (i := 80) rfl))
    | 4, _ => (hs _ (List.mem_of_getElem? (i := 81) rfl))
    | 5, _ => (hs _ (List.mem_of_getElem? (i := 82) rfl))
    | 6, _ => (hs _ (List.mem_of_getElem? (i := 83) rfl))
    | n + 7, h => absurd h (by omega)
theorem strp_31 (hs : ∀ c ∈ nl, c.before args s = true) (hA : ∀ a : Nat, a < s.heap.size → ¬ A a) : StrP args s A 31 "WireSchemas$SchemaReader" 107 := by
  have hl : slen 31 = 4 := by decide +kernel
  unfold StrP
  rw [hl]
  refine strOf (by decide) (hs _ (List.mem_of_getElem? (i := 84) rfl)) (hs _ (List.mem_of_getElem? (i := 85) rfl)) (hs _ (List.mem_of_getElem? (i := 86) rfl)) (hs _ (List.mem_of_getElem? (i := 87) rfl)) (fun j hj => ?_) hA
  exact match j, hj with
    | 0, _ => (hs _ (List.mem_of_getElem? (i := 88) rfl))
    | 1, _ => (hs _ (List.mem_of_getElem? (i := 89) rfl))
    | 2, _ => (hs _ (List.mem_of_getElem? (i := 90) rfl))
    | 3, _ => (hs _ (List.mem_of_getElem? (i := 91) rfl))
    | n + 4, h => absurd h (by omega)
theorem strp_32 (hs : ∀ c ∈ nl, c.before args s = true) (hA : ∀ a : Nat, a < s.heap.size → ¬ A a) : StrP args s A 32 "WireSchemas$SchemaReader" 164 := by
  have hl : slen 32 = 5 := by decide +kernel
  unfold StrP
  rw [hl]
  refine strOf (by decide) (hs _ (List.mem_of_getElem? (i := 92) rfl)) (hs _ (List.mem_of_getElem? (i := 93) rfl)) (hs _ (List.mem_of_getElem? (i := 94) rfl)) (hs _ (List.mem_of_getElem? (i := 95) rfl)) (fun j hj => ?_) hA
  exact match j, hj with
    | 0, _ => (hs _ (List.mem_of_getElem? (i := 96) rfl))
    | 1, _ => (hs _ (List.mem_of_getElem? (i := 97) rfl))
    | 2, _ => (hs _ (List.mem_of_getElem? (i := 98) rfl))
    | 3, _ => (hs _ (List.mem_of_getElem? (i := 99) rfl))
    | 4, _ => (hs _ (List.mem_of_getElem? (i := 100) rfl))
    | n + 5, h => absurd h (by omega)
theorem strp_33 (hs : ∀ c ∈ nl, c.before args s = true) (hA : ∀ a : Nat, a < s.heap.size → ¬ A a) : StrP args s A 33 "WireSchemas$SchemaReader" 169 := by
  have hl : slen 33 = 8 := by decide +kernel
  unfold StrP
  rw [hl]
  refine strOf (by decide) (hs _ (List.mem_of_getElem? (i := 101) rfl)) (hs _ (List.mem_of_getElem? (i := 102) rfl)) (hs _ (List.mem_of_getElem? (i := 103) rfl)) (hs _ (List.mem_of_getElem? (i := 104) rfl)) (fun j hj => ?_) hA
  exact match j, hj with
    | 0, _ => (hs _ (List.mem_of_getElem? (i := 105) rfl))
    | 1, _ => (hs _ (List.mem_of_getElem? (i := 106) rfl))
    | 2, _ => (hs _ (List.mem_of_getElem? (i := 107) rfl))
    | 3, _ => (hs _ (List.mem_of_getElem? (i := 108) rfl))
    | 4, _ => (hs _ (List.mem_of_getElem? (i := 109) rfl))
    | 5, _ => (hs _ (List.mem_of_getElem? (i := 110) rfl))
    | 6, _ => (hs _ (List.mem_of_getElem? (i := 111) rfl))
    | 7, _ => (hs _ (List.mem_of_getElem? (i := 112) rfl))
    | n + 8, h => absurd h (by omega)
theorem strp_34 (hs : ∀ c ∈ nl, c.before args s = true) (hA : ∀ a : Nat, a < s.heap.size → ¬ A a) : StrP args s A 34 "WireSchemas$SchemaReader" 197 := by
  have hl : slen 34 = 8 := by decide +kernel
  unfold StrP
  rw [hl]
  refine strOf (by decide) (hs _ (List.mem_of_getElem? (i := 113) rfl)) (hs _ (List.mem_of_getElem? (i := 114) rfl)) (hs _ (List.mem_of_getElem? (i := 115) rfl)) (hs _ (List.mem_of_getElem? (i := 116) rfl)) (fun j hj => ?_) hA
  exact match j, hj with
    | 0, _ => (hs _ (List.mem_of_getElem? (i := 117) rfl))
    | 1, _ => (hs _ (List.mem_of_getElem? (i := 118) rfl))
    | 2, _ => (hs _ (List.mem_of_getElem? (i := 119) rfl))
    | 3, _ => (hs _ (List.mem_of_getElem? (i := 120) rfl))
    | 4, _ => (hs _ (List.mem_of_getElem? (i := 121) rfl))
    | 5, _ => (hs _ (List.mem_of_getElem? (i := 122) rfl))
    | 6, _ => (hs _ (List.mem_of_getElem? (i := 123) rfl))
    | 7, _ => (hs _ (List.mem_of_getElem? (i := 124) rfl))
    | n + 8, h => absurd h (by omega)
theorem strp_35 (hs : ∀ c ∈ nl, c.before args s = true) (hA : ∀ a : Nat, a < s.heap.size → ¬ A a) : StrP args s A 35 "WireSchemas$SchemaReader" 199 := by
  have hl : slen 35 = 8 := by decide +kernel
  unfold StrP
  rw [hl]
  refine strOf (by decide) (hs _ (List.mem_of_getElem? (i := 125) rfl)) (hs _ (List.mem_of_getElem? (i := 126) rfl)) (hs _ (List.mem_of_getElem? (i := 127) rfl)) (hs _ (List.mem_of_getElem? (i := 128) rfl)) (fun j hj => ?_) hA
  exact match j, hj with
    | 0, _ => (hs _ (List.mem_of_getElem? (i := 129) rfl))
    | 1, _ => (hs _ (List.mem_of_getElem? (i := 130) rfl))
    | 2, _ => (hs _ (List.mem_of_getElem? (i := 131) rfl))
    | 3, _ => (hs _ (List.mem_of_getElem? (i := 132) rfl))
    | 4, _ => (hs _ (List.mem_of_getElem? (i := 133) rfl))
    | 5, _ => (hs _ (List.mem_of_getElem? (i := 134) rfl))
    | 6, _ => (hs _ (List.mem_of_getElem? (i := 135) rfl))
    | 7, _ => (hs _ (List.mem_of_getElem? (i := 136) rfl))
    | n + 8, h => absurd h (by omega)
theorem strp_36 (hs : ∀ c ∈ nl, c.before args s = true) (hA : ∀ a : Nat, a < s.heap.size → ¬ A a) : StrP args s A 36 "WireSchemas$Checker" 86 := by
  have hl : slen 36 = 5 := by decide +kernel
  unfold StrP
  rw [hl]
  refine strOf (by decide) (hs _ (List.mem_of_getElem? (i := 137) rfl)) (hs _ (List.mem_of_getElem? (i := 138) rfl)) (hs _ (List.mem_of_getElem? (i := 139) rfl)) (hs _ (List.mem_of_getElem? (i := 140) rfl)) (fun j hj => ?_) hA
  exact match j, hj with
    | 0, _ => (hs _ (List.mem_of_getElem? (i := 141) rfl))
    | 1, _ => (hs _ (List.mem_of_getElem? (i := 142) rfl))
    | 2, _ => (hs _ (List.mem_of_getElem? (i := 143) rfl))
    | 3, _ => (hs _ (List.mem_of_getElem? (i := 144) rfl))
    | 4, _ => (hs _ (List.mem_of_getElem? (i := 145) rfl))
    | n + 5, h => absurd h (by omega)
theorem strp_37 (hs : ∀ c ∈ nl, c.before args s = true) (hA : ∀ a : Nat, a < s.heap.size → ¬ A a) : StrP args s A 37 "WireSchemas$Checker" 92 := by
  have hl : slen 37 = 5 := by decide +kernel
  unfold StrP
  rw [hl]
  refine strOf (by decide) (hs _ (List.mem_of_getElem? (i := 146) rfl)) (hs _ (List.mem_of_getElem? (i := 147) rfl)) (hs _ (List.mem_of_getElem? (i := 148) rfl)) (hs _ (List.mem_of_getElem? (i := 149) rfl)) (fun j hj => ?_) hA
  exact match j, hj with
    | 0, _ => (hs _ (List.mem_of_getElem? (i := 150) rfl))
    | 1, _ => (hs _ (List.mem_of_getElem? (i := 151) rfl))
    | 2, _ => (hs _ (List.mem_of_getElem? (i := 152) rfl))
    | 3, _ => (hs _ (List.mem_of_getElem? (i := 153) rfl))
    | 4, _ => (hs _ (List.mem_of_getElem? (i := 154) rfl))
    | n + 5, h => absurd h (by omega)
theorem strp_38 (hs : ∀ c ∈ nl, c.before args s = true) (hA : ∀ a : Nat, a < s.heap.size → ¬ A a) : StrP args s A 38 "WireSchemas$Checker" 94 := by
  have hl : slen 38 = 6 := by decide +kernel
  unfold StrP
  rw [hl]
  refine strOf (by decide) (hs _ (List.mem_of_getElem? (i := 155) rfl)) (hs _ (List.mem_of_getElem? (i := 156) rfl)) (hs _ (List.mem_of_getElem? (i := 157) rfl)) (hs _ (List.mem_of_getElem? (i := 158) rfl)) (fun j hj => ?_) hA
  exact match j, hj with
    | 0, _ => (hs _ (List.mem_of_getElem? (i := 159) rfl))
    | 1, _ => (hs _ (List.mem_of_getElem? (i := 160) rfl))
    | 2, _ => (hs _ (List.mem_of_getElem? (i := 161) rfl))
    | 3, _ => (hs _ (List.mem_of_getElem? (i := 162) rfl))
    | 4, _ => (hs _ (List.mem_of_getElem? (i := 163) rfl))
    | 5, _ => (hs _ (List.mem_of_getElem? (i := 164) rfl))
    | n + 6, h => absurd h (by omega)
theorem strp_39 (hs : ∀ c ∈ nl, c.before args s = true) (hA : ∀ a : Nat, a < s.heap.size → ¬ A a) : StrP args s A 39 "WireSchemas$Checker" 96 := by
  have hl : slen 39 = 6 := by decide +kernel
  unfold StrP
  rw [hl]
  refine strOf (by decide) (hs _ (List.mem_of_getElem? (i := 165) rfl)) (hs _ (List.mem_of_getElem? (i := 166) rfl)) (hs _ (List.mem_of_getElem? (i := 167) rfl)) (hs _ (List.mem_of_getElem? (i := 168) rfl)) (fun j hj => ?_) hA
  exact match j, hj with
    | 0, _ => (hs _ (List.mem_of_getElem? (i := 169) rfl))
    | 1, _ => (hs _ (List.mem_of_getElem? (i := 170) rfl))
    | 2, _ => (hs _ (List.mem_of_getElem? (i := 171) rfl))
    | 3, _ => (hs _ (List.mem_of_getElem? (i := 172) rfl))
    | 4, _ => (hs _ (List.mem_of_getElem? (i := 173) rfl))
    | 5, _ => (hs _ (List.mem_of_getElem? (i := 174) rfl))
    | n + 6, h => absurd h (by omega)
theorem strp_40 (hs : ∀ c ∈ nl, c.before args s = true) (hA : ∀ a : Nat, a < s.heap.size → ¬ A a) : StrP args s A 40 "WireSchemas$Checker" 98 := by
  have hl : slen 40 = 6 := by decide +kernel
  unfold StrP
  rw [hl]
  refine strOf (by decide) (hs _ (List.mem_of_getElem? (i := 175) rfl)) (hs _ (List.mem_of_getElem? (i := 176) rfl)) (hs _ (List.mem_of_getElem? (i := 177) rfl)) (hs _ (List.mem_of_getElem? (i := 178) rfl)) (fun j hj => ?_) hA
  exact match j, hj with
    | 0, _ => (hs _ (List.mem_of_getElem? (i := 179) rfl))
    | 1, _ => (hs _ (List.mem_of_getElem? (i := 180) rfl))
    | 2, _ => (hs _ (List.mem_of_getElem? (i := 181) rfl))
    | 3, _ => (hs _ (List.mem_of_getElem? (i := 182) rfl))
    | 4, _ => (hs _ (List.mem_of_getElem? (i := 183) rfl))
    | 5, _ => (hs _ (List.mem_of_getElem? (i := 184) rfl))
    | n + 6, h => absurd h (by omega)
theorem strp_41 (hs : ∀ c ∈ nl, c.before args s = true) (hA : ∀ a : Nat, a < s.heap.size → ¬ A a) : StrP args s A 41 "WireSchemas$Checker" 100 := by
  have hl : slen 41 = 6 := by decide +kernel
  unfold StrP
  rw [hl]
  refine strOf (by decide) (hs _ (List.mem_of_getElem? (i := 185) rfl)) (hs _ (List.mem_of_getElem? (i := 186) rfl)) (hs _ (List.mem_of_getElem? (i := 187) rfl)) (hs _ (List.mem_of_getElem? (i := 188) rfl)) (fun j hj => ?_) hA
  exact match j, hj with
    | 0, _ => (hs _ (List.mem_of_getElem? (i := 189) rfl))
    | 1, _ => (hs _ (List.mem_of_getElem? (i := 190) rfl))
    | 2, _ => (hs _ (List.mem_of_getElem? (i := 191) rfl))
    | 3, _ => (hs _ (List.mem_of_getElem? (i := 192) rfl))
    | 4, _ => (hs _ (List.mem_of_getElem? (i := 193) rfl))
    | 5, _ => (hs _ (List.mem_of_getElem? (i := 194) rfl))
    | n + 6, h => absurd h (by omega)
theorem strp_42 (hs : ∀ c ∈ nl, c.before args s = true) (hA : ∀ a : Nat, a < s.heap.size → ¬ A a) : StrP args s A 42 "WireSchemas$Checker" 102 := by
  have hl : slen 42 = 7 := by decide +kernel
  unfold StrP
  rw [hl]
  refine strOf (by decide) (hs _ (List.mem_of_getElem? (i := 195) rfl)) (hs _ (List.mem_of_getElem? (i := 196) rfl)) (hs _ (List.mem_of_getElem? (i := 197) rfl)) (hs _ (List.mem_of_getElem? (i := 198) rfl)) (fun j hj => ?_) hA
  exact match j, hj with
    | 0, _ => (hs _ (List.mem_of_getElem? (i := 199) rfl))
    | 1, _ => (hs _ (List.mem_of_getElem? (i := 200) rfl))
    | 2, _ => (hs _ (List.mem_of_getElem? (i := 201) rfl))
    | 3, _ => (hs _ (List.mem_of_getElem? (i := 202) rfl))
    | 4, _ => (hs _ (List.mem_of_getElem? (i := 203) rfl))
    | 5, _ => (hs _ (List.mem_of_getElem? (i := 204) rfl))
    | 6, _ => (hs _ (List.mem_of_getElem? (i := 205) rfl))
    | n + 7, h => absurd h (by omega)
theorem strp_43 (hs : ∀ c ∈ nl, c.before args s = true) (hA : ∀ a : Nat, a < s.heap.size → ¬ A a) : StrP args s A 43 "WireSchemas$Checker" 104 := by
  have hl : slen 43 = 7 := by decide +kernel
  unfold StrP
  rw [hl]
  refine strOf (by decide) (hs _ (List.mem_of_getElem? (i := 206) rfl)) (hs _ (List.mem_of_getElem? (i := 207) rfl)) (hs _ (List.mem_of_getElem? (i := 208) rfl)) (hs _ (List.mem_of_getElem? (i := 209) rfl)) (fun j hj => ?_) hA
  exact match j, hj with
    | 0, _ => (hs _ (List.mem_of_getElem? (i := 210) rfl))
    | 1, _ => (hs _ (List.mem_of_getElem? (i := 211) rfl))
    | 2, _ => (hs _ (List.mem_of_getElem? (i := 212) rfl))
    | 3, _ => (hs _ (List.mem_of_getElem? (i := 213) rfl))
    | 4, _ => (hs _ (List.mem_of_getElem? (i := 214) rfl))
    | 5, _ => (hs _ (List.mem_of_getElem? (i := 215) rfl))
    | 6, _ => (hs _ (List.mem_of_getElem? (i := 216) rfl))
    | n + 7, h => absurd h (by omega)
theorem strp_44 (hs : ∀ c ∈ nl, c.before args s = true) (hA : ∀ a : Nat, a < s.heap.size → ¬ A a) : StrP args s A 44 "WireSchemas$Checker" 106 := by
  have hl : slen 44 = 4 := by decide +kernel
  unfold StrP
  rw [hl]
  refine strOf (by decide) (hs _ (List.mem_of_getElem? (i := 217) rfl)) (hs _ (List.mem_of_getElem? (i := 218) rfl)) (hs _ (List.mem_of_getElem? (i := 219) rfl)) (hs _ (List.mem_of_getElem? (i := 220) rfl)) (fun j hj => ?_) hA
  exact match j, hj with
    | 0, _ => (hs _ (List.mem_of_getElem? (i := 221) rfl))
    | 1, _ => (hs _ (List.mem_of_getElem? (i := 222) rfl))
    | 2, _ => (hs _ (List.mem_of_getElem? (i := 223) rfl))
    | 3, _ => (hs _ (List.mem_of_getElem? (i := 224) rfl))
    | n + 4, h => absurd h (by omega)
theorem strp_45 (hs : ∀ c ∈ nl, c.before args s = true) (hA : ∀ a : Nat, a < s.heap.size → ¬ A a) : StrP args s A 45 "WireSchemas$Checker" 108 := by
  have hl : slen 45 = 6 := by decide +kernel
  unfold StrP
  rw [hl]
  refine strOf (by decide) (hs _ (List.mem_of_getElem? (i := 225) rfl)) (hs _ (List.mem_of_getElem? (i := 226) rfl)) (hs _ (List.mem_of_getElem? (i := 227) rfl)) (hs _ (List.mem_of_getElem? (i := 228) rfl)) (fun j hj => ?_) hA
  exact match j, hj with
    | 0, _ => (hs _ (List.mem_of_getElem? (i := 229) rfl))
    | 1, _ => (hs _ (List.mem_of_getElem? (i := 230) rfl))
    | 2, _ => (hs _ (List.mem_of_getElem? (i := 231) rfl))
    | 3, _ => (hs _ (List.mem_of_getElem? (i := 232) rfl))
    | 4, _ => (hs _ (List.mem_of_getElem? (i := 233) rfl))
    | 5, _ => (hs _ (List.mem_of_getElem? (i := 234) rfl))
    | n + 6, h => absurd h (by omega)
theorem strp_46 (hs : ∀ c ∈ nl, c.before args s = true) (hA : ∀ a : Nat, a < s.heap.size → ¬ A a) : StrP args s A 46 "WireSchemas$Checker" 110 := by
  have hl : slen 46 = 5 := by decide +kernel
  unfold StrP
  rw [hl]
  refine strOf (by decide) (hs _ (List.mem_of_getElem? (i := 235) rfl)) (hs _ (List.mem_of_getElem? (i := 236) rfl)) (hs _ (List.mem_of_getElem? (i := 237) rfl)) (hs _ (List.mem_of_getElem? (i := 238) rfl)) (fun j hj => ?_) hA
  exact match j, hj with
    | 0, _ => (hs _ (List.mem_of_getElem? (i := 239) rfl))
    | 1, _ => (hs _ (List.mem_of_getElem? (i := 240) rfl))
    | 2, _ => (hs _ (List.mem_of_getElem? (i := 241) rfl))
    | 3, _ => (hs _ (List.mem_of_getElem? (i := 242) rfl))
    | 4, _ => (hs _ (List.mem_of_getElem? (i := 243) rfl))
    | n + 5, h => absurd h (by omega)
end Prem
