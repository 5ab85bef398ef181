set_option maxRecDepth 100000
/-! THE START: the strings -/
section Cu
variable {args : Array Value} {s : State} {A : Nat → Prop}
abbrev StrQ (args : Array Value) (s : State) (A : Nat → Prop) (k a : Nat) : Prop := (∀ q : String × Nat × String, STRN[k]? = some q → Cond.stringRef q.1 q.2.1 q.2.2 ∈ lw_tbl ∧ (Term.string q.1 q.2.1).eval args s none [] s = some (.ref a)) ∧ ∃ v : Nat, va_O "java/lang/String" a A s s.heap ∧ va_OF "java/lang/String" "coder" "B" (.int 0) a A s s.heap ∧ va_OF "java/lang/String" "value" "[B" (.ref v) a A s s.heap ∧ va_T .byte v (slen k) (fun j => .int (Int32.ofInt (sch k j : Nat))) A s s.heap
theorem sx_big (k : Nat) : sx (k + 47) = sx 0 := by
  have e : STRS.length = 47 := by decide +kernel
  unfold sx
  rw [List.getD_eq_getElem?_getD, List.getElem?_eq_none (by omega)]
  rfl
theorem strn_big (k : Nat) : STRN[k + 47]? = none := by
  have e : STRN.length = 47 := by decide +kernel
  exact List.getElem?_eq_none (by omega)
theorem str_all (hs : ∀ c ∈ nl, c.before args s = true) (hA : ∀ a : Nat, a < s.heap.size → ¬ A a) : ∀ k : Nat, ∃ a : Nat, StrQ args s A k a
  | 0 => by
    obtain ⟨a, e, c⟩ := strp_0 hs hA
    refine ⟨a, fun q hq => ?_, c⟩
    cases (show some ("WireSchemas$JsonWriter", 59, "u00") = some q from hq)
    exact ⟨q1117, e⟩
  | 1 => by
    obtain ⟨a, e, c⟩ := strp_1 hs hA
    refine ⟨a, fun q hq => ?_, c⟩
    cases (show some ("WireSchemas$JsonWriter", 65, "0123456789abcdef") = some q from hq)
    exact ⟨q1122, e⟩
  | 2 => by
    obtain ⟨a, e, c⟩ := strp_2 hs hA
    refine ⟨a, fun q hq => ?_, c⟩
    cases (show some ("WireSchemas$JsonWriter", 47, "ABCDEFGHIJKLMNOPQRSTUVWXYZabcdefghijklmnopqrstuvwxyz0123456789+/") = some q from hq)
    exact ⟨q1141, e⟩
  | 3 => by
    obtain ⟨a, e, c⟩ := strp_3 hs hA
    refine ⟨a, fun q hq => ?_, c⟩
    cases (show some ("WireSchemas$JsonWriter", 111, "true") = some q from hq)
    exact ⟨q1142, e⟩
  | 4 => by
    obtain ⟨a, e, c⟩ := strp_4 hs hA
    refine ⟨a, fun q hq => ?_, c⟩
    cases (show some ("WireSchemas$JsonWriter", 113, "false") = some q from hq)
    exact ⟨q1143, e⟩
  | 5 => by
    obtain ⟨a, e, c⟩ := strp_5 hs hA
    refine ⟨a, fun q hq => ?_, c⟩
    cases (show some ("WireSchemas$JsonReader", 202, "null") = some q from hq)
    exact ⟨q1283, e⟩
  | 6 => by
    obtain ⟨a, e, c⟩ := strp_6 hs hA
    refine ⟨a, fun q hq => ?_, c⟩
    cases (show some ("WireSchemas$JsonReader", 104, "true") = some q from hq)
    exact ⟨q1304, e⟩
  | 7 => by
    obtain ⟨a, e, c⟩ := strp_7 hs hA
    refine ⟨a, fun q hq => ?_, c⟩
    cases (show some ("WireSchemas$JsonReader", 110, "false") = some q from hq)
    exact ⟨q1305, e⟩
  | 8 => by
    obtain ⟨a, e, c⟩ := strp_8 hs hA
    refine ⟨a, fun q hq => ?_, c⟩
    cases (show some ("WireSchemasModel", 221, "syntax") = some q from hq)
    exact ⟨q1633, e⟩
  | 9 => by
    obtain ⟨a, e, c⟩ := strp_9 hs hA
    refine ⟨a, fun q hq => ?_, c⟩
    cases (show some ("WireSchemasModel", 159, "=") = some q from hq)
    exact ⟨q1644, e⟩
  | 10 => by
    obtain ⟨a, e, c⟩ := strp_10 hs hA
    refine ⟨a, fun q hq => ?_, c⟩
    cases (show some ("WireSchemasModel", 223, "\"") = some q from hq)
    exact ⟨q1649, e⟩
  | 11 => by
    obtain ⟨a, e, c⟩ := strp_11 hs hA
    refine ⟨a, fun q hq => ?_, c⟩
    cases (show some ("WireSchemasModel", 225, "proto3") = some q from hq)
    exact ⟨q1650, e⟩
  | 12 => by
    obtain ⟨a, e, c⟩ := strp_12 hs hA
    refine ⟨a, fun q hq => ?_, c⟩
    cases (show some ("WireSchemasModel", 164, ";") = some q from hq)
    exact ⟨q1651, e⟩
  | 13 => by
    obtain ⟨a, e, c⟩ := strp_13 hs hA
    refine ⟨a, fun q hq => ?_, c⟩
    cases (show some ("WireSchemasModel", 195, "message") = some q from hq)
    exact ⟨q1652, e⟩
  | 14 => by
    obtain ⟨a, e, c⟩ := strp_14 hs hA
    refine ⟨a, fun q hq => ?_, c⟩
    cases (show some ("WireSchemasModel", 153, "{") = some q from hq)
    exact ⟨q1665, e⟩
  | 15 => by
    obtain ⟨a, e, c⟩ := strp_15 hs hA
    refine ⟨a, fun q hq => ?_, c⟩
    cases (show some ("WireSchemasModel", 169, "}") = some q from hq)
    exact ⟨q1666, e⟩
  | 16 => by
    obtain ⟨a, e, c⟩ := strp_16 hs hA
    refine ⟨a, fun q hq => ?_, c⟩
    cases (show some ("WireSchemasModel", 204, "enum") = some q from hq)
    exact ⟨q1667, e⟩
  | 17 => by
    obtain ⟨a, e, c⟩ := strp_17 hs hA
    refine ⟨a, fun q hq => ?_, c⟩
    cases (show some ("WireSchemasModel", 210, "oneof") = some q from hq)
    exact ⟨q1676, e⟩
  | 18 => by
    obtain ⟨a, e, c⟩ := strp_18 hs hA
    refine ⟨a, fun q hq => ?_, c⟩
    cases (show some ("WireSchemasModel", 175, ".") = some q from hq)
    exact ⟨q1685, e⟩
  | 19 => by
    obtain ⟨a, e, c⟩ := strp_19 hs hA
    refine ⟨a, fun q hq => ?_, c⟩
    cases (show some ("WireSchemasModel", 215, "reserved") = some q from hq)
    exact ⟨q1686, e⟩
  | 20 => by
    obtain ⟨a, e, c⟩ := strp_20 hs hA
    refine ⟨a, fun q hq => ?_, c⟩
    cases (show some ("WireSchemasModel", 190, ",") = some q from hq)
    exact ⟨q1691, e⟩
  | 21 => by
    obtain ⟨a, e, c⟩ := strp_21 hs hA
    refine ⟨a, fun q hq => ?_, c⟩
    cases (show some ("WireSchemasModel", 219, "repeated") = some q from hq)
    exact ⟨q1692, e⟩
  | 22 => by
    obtain ⟨a, e, c⟩ := strp_22 hs hA
    refine ⟨a, fun q hq => ?_, c⟩
    cases (show some ("WireSchemasModel", 220, "optional") = some q from hq)
    exact ⟨q1693, e⟩
  | 23 => by
    obtain ⟨a, e, c⟩ := strp_23 hs hA
    refine ⟨a, fun q hq => ?_, c⟩
    cases (show some ("WireSchemasModel", 239, "int32 int64 uint32 uint64 sint32 sint64 fixed32 fixed64 bool string bytes ") = some q from hq)
    exact ⟨q1727, e⟩
  | 24 => by
    obtain ⟨a, e, c⟩ := strp_24 hs hA
    refine ⟨a, fun q hq => ?_, c⟩
    cases (show some ("WireSchemasModel", 369, "\\u00") = some q from hq)
    exact ⟨q1845, e⟩
  | 25 => by
    obtain ⟨a, e, c⟩ := strp_25 hs hA
    refine ⟨a, fun q hq => ?_, c⟩
    cases (show some ("WireSchemasModel", 382, "true") = some q from hq)
    exact ⟨q1880, e⟩
  | 26 => by
    obtain ⟨a, e, c⟩ := strp_26 hs hA
    refine ⟨a, fun q hq => ?_, c⟩
    cases (show some ("WireSchemasModel", 384, "false") = some q from hq)
    exact ⟨q1881, e⟩
  | 27 => by
    obtain ⟨a, e, c⟩ := strp_27 hs hA
    refine ⟨a, fun q hq => ?_, c⟩
    cases (show some ("WireSchemasModel", 536, "null") = some q from hq)
    exact ⟨q1927, e⟩
  | 28 => by
    obtain ⟨a, e, c⟩ := strp_28 hs hA
    refine ⟨a, fun q hq => ?_, c⟩
    cases (show some ("WireSchemas$SchemaReader", 86, "syntax") = some q from hq)
    exact ⟨q380, e⟩
  | 29 => by
    obtain ⟨a, e, c⟩ := strp_29 hs hA
    refine ⟨a, fun q hq => ?_, c⟩
    cases (show some ("WireSchemas$SchemaReader", 96, "proto3") = some q from hq)
    exact ⟨q513, e⟩
  | 30 => by
    obtain ⟨a, e, c⟩ := strp_30 hs hA
    refine ⟨a, fun q hq => ?_, c⟩
    cases (show some ("WireSchemas$SchemaReader", 98, "message") = some q from hq)
    exact ⟨q514, e⟩
  | 31 => by
    obtain ⟨a, e, c⟩ := strp_31 hs hA
    refine ⟨a, fun q hq => ?_, c⟩
    cases (show some ("WireSchemas$SchemaReader", 107, "enum") = some q from hq)
    exact ⟨q652, e⟩
  | 32 => by
    obtain ⟨a, e, c⟩ := strp_32 hs hA
    refine ⟨a, fun q hq => ?_, c⟩
    cases (show some ("WireSchemas$SchemaReader", 164, "oneof") = some q from hq)
    exact ⟨q688, e⟩
  | 33 => by
    obtain ⟨a, e, c⟩ := strp_33 hs hA
    refine ⟨a, fun q hq => ?_, c⟩
    cases (show some ("WireSchemas$SchemaReader", 169, "reserved") = some q from hq)
    exact ⟨q802, e⟩
  | 34 => by
    obtain ⟨a, e, c⟩ := strp_34 hs hA
    refine ⟨a, fun q hq => ?_, c⟩
    cases (show some ("WireSchemas$SchemaReader", 197, "repeated") = some q from hq)
    exact ⟨q811, e⟩
  | 35 => by
    obtain ⟨a, e, c⟩ := strp_35 hs hA
    refine ⟨a, fun q hq => ?_, c⟩
    cases (show some ("WireSchemas$SchemaReader", 199, "optional") = some q from hq)
    exact ⟨q812, e⟩
  | 36 => by
    obtain ⟨a, e, c⟩ := strp_36 hs hA
    refine ⟨a, fun q hq => ?_, c⟩
    cases (show some ("WireSchemas$Checker", 86, "int32") = some q from hq)
    exact ⟨q860, e⟩
  | 37 => by
    obtain ⟨a, e, c⟩ := strp_37 hs hA
    refine ⟨a, fun q hq => ?_, c⟩
    cases (show some ("WireSchemas$Checker", 92, "int64") = some q from hq)
    exact ⟨q867, e⟩
  | 38 => by
    obtain ⟨a, e, c⟩ := strp_38 hs hA
    refine ⟨a, fun q hq => ?_, c⟩
    cases (show some ("WireSchemas$Checker", 94, "uint32") = some q from hq)
    exact ⟨q868, e⟩
  | 39 => by
    obtain ⟨a, e, c⟩ := strp_39 hs hA
    refine ⟨a, fun q hq => ?_, c⟩
    cases (show some ("WireSchemas$Checker", 96, "uint64") = some q from hq)
    exact ⟨q869, e⟩
  | 40 => by
    obtain ⟨a, e, c⟩ := strp_40 hs hA
    refine ⟨a, fun q hq => ?_, c⟩
    cases (show some ("WireSchemas$Checker", 98, "sint32") = some q from hq)
    exact ⟨q870, e⟩
  | 41 => by
    obtain ⟨a, e, c⟩ := strp_41 hs hA
    refine ⟨a, fun q hq => ?_, c⟩
    cases (show some ("WireSchemas$Checker", 100, "sint64") = some q from hq)
    exact ⟨q871, e⟩
  | 42 => by
    obtain ⟨a, e, c⟩ := strp_42 hs hA
    refine ⟨a, fun q hq => ?_, c⟩
    cases (show some ("WireSchemas$Checker", 102, "fixed32") = some q from hq)
    exact ⟨q872, e⟩
  | 43 => by
    obtain ⟨a, e, c⟩ := strp_43 hs hA
    refine ⟨a, fun q hq => ?_, c⟩
    cases (show some ("WireSchemas$Checker", 104, "fixed64") = some q from hq)
    exact ⟨q873, e⟩
  | 44 => by
    obtain ⟨a, e, c⟩ := strp_44 hs hA
    refine ⟨a, fun q hq => ?_, c⟩
    cases (show some ("WireSchemas$Checker", 106, "bool") = some q from hq)
    exact ⟨q874, e⟩
  | 45 => by
    obtain ⟨a, e, c⟩ := strp_45 hs hA
    refine ⟨a, fun q hq => ?_, c⟩
    cases (show some ("WireSchemas$Checker", 108, "string") = some q from hq)
    exact ⟨q875, e⟩
  | 46 => by
    obtain ⟨a, e, c⟩ := strp_46 hs hA
    refine ⟨a, fun q hq => ?_, c⟩
    cases (show some ("WireSchemas$Checker", 110, "bytes") = some q from hq)
    exact ⟨q876, e⟩
  | k + 47 => by
    obtain ⟨a, -, c⟩ := strp_0 hs hA
    refine ⟨a, fun q hq => ?_, ?_⟩
    · rw [strn_big] at hq; cases hq
    · have e1 : slen (k + 47) = slen 0 := by unfold slen; rw [sx_big]
      have e2 : ∀ j, sch (k + 47) j = sch 0 j := fun j => by unfold sch; rw [sx_big]
      obtain ⟨v, c1, c2, c3, c4⟩ := c
      refine ⟨v, c1, c2, c3, ?_⟩
      rw [e1]
      simp only [e2]
      exact c4
end Cu
