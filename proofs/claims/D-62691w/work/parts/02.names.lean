set_option maxRecDepth 100000
/-! java/util/AbstractCollection -/
def RJ0 : String := "java/util/AbstractCollection"
abbrev cJ0_init : ByteArray := prog_33_method_1_code
def yJ0_init : MethodName := ⟨RJ0, "<init>", "()V"⟩
theorem q134 : (Jvm.Cond.initialized "java/util/AbstractCollection") ∈ lw_all := lw_g (lw_at lw_m1 4 rfl) rfl
theorem q195 : (Jvm.Cond.instanceMethod ({ cls := "java/util/AbstractCollection", name := "<init>", desc := "()V" } : Jvm.MethodName)) ∈ lw_all := lw_g (lw_at lw_m1 65 rfl) rfl
theorem q196 : (Jvm.Cond.code ({ cls := "java/util/AbstractCollection", name := "<init>", desc := "()V" } : Jvm.MethodName) prog_33_method_1_code (1 : Nat) (Option.none : Option Jvm.ClassFile.FieldType)) ∈ lw_all := lw_g (lw_at lw_m1 66 rfl) rfl
theorem q197 : (Jvm.Cond.methodLink "java/util/AbstractCollection" (1 : Nat) ({ cls := "java/lang/Object", name := "<init>", desc := "()V" } : Jvm.MethodName)) ∈ lw_all := lw_g (lw_at lw_m1 67 rfl) rfl
/-! java/util/AbstractList -/
def RJ1 : String := "java/util/AbstractList"
abbrev cJ1_init : ByteArray := prog_34_method_1_code
def yJ1_init : MethodName := ⟨RJ1, "<init>", "()V"⟩
theorem q135 : (Jvm.Cond.initialized "java/util/AbstractList") ∈ lw_all := lw_g (lw_at lw_m1 5 rfl) rfl
theorem q192 : (Jvm.Cond.instanceMethod ({ cls := "java/util/AbstractList", name := "<init>", desc := "()V" } : Jvm.MethodName)) ∈ lw_all := lw_g (lw_at lw_m1 62 rfl) rfl
theorem q193 : (Jvm.Cond.code ({ cls := "java/util/AbstractList", name := "<init>", desc := "()V" } : Jvm.MethodName) prog_34_method_1_code (1 : Nat) (Option.none : Option Jvm.ClassFile.FieldType)) ∈ lw_all := lw_g (lw_at lw_m1 63 rfl) rfl
theorem q194 : (Jvm.Cond.methodLink "java/util/AbstractList" (1 : Nat) ({ cls := "java/util/AbstractCollection", name := "<init>", desc := "()V" } : Jvm.MethodName)) ∈ lw_all := lw_g (lw_at lw_m1 64 rfl) rfl
theorem q202 : (Jvm.Cond.fieldLink "java/util/AbstractList" (7 : Nat) "java/util/AbstractList" "modCount" "I") ∈ lw_all := lw_g (lw_at lw_m1 72 rfl) rfl
theorem q210 : (Jvm.Cond.soleField "java/util/AbstractList" "modCount") ∈ lw_all := lw_g (lw_at lw_m1 80 rfl) rfl
/-! java/lang/IllegalArgumentException -/
def RJ10 : String := "java/lang/IllegalArgumentException"
def TJ10 : u_T := fun k => match k with
  | 0 => ("java/lang/Throwable", "cause", "Ljava/lang/Throwable;", false)
  | 1 => ("java/lang/Throwable", "stackTrace", "[Ljava/lang/StackTraceElement;", false)
  | 2 => ("java/lang/Throwable", "suppressedExceptions", "Ljava/util/List;", false)
  | 3 => ("java/lang/Throwable", "detailMessage", "Ljava/lang/String;", false)
  | 4 => ("java/lang/Throwable", "backtrace", "Ljava/lang/Object;", false)
  | _ => ("java/lang/Throwable", "depth", "I", false)
def tyJ10 : Nat → FieldType := fun k => match k with
  | 0 => .object "java/lang/Throwable"
  | 1 => .array (.object "java/lang/StackTraceElement")
  | 2 => .object "java/util/List"
  | 3 => .object "java/lang/String"
  | 4 => .object "java/lang/Object"
  | _ => .int
abbrev wsJ100 : List Cond := u_ws RJ10 TJ10 6
theorem nmJ10 : ∀ a, a < 6 → ∀ b, b < 6 → a ≠ b → (TJ10 a).2.1 ≠ (TJ10 b).2.1 := by decide +kernel
theorem tyJ10_ok : ∀ k, k < 6 → parseFieldDescriptor (TJ10 k).2.2.1 = some (tyJ10 k) := by decide +kernel
abbrev cJ10_init : ByteArray := prog_23_method_1_code
def yJ10_init : MethodName := ⟨RJ10, "<init>", "()V"⟩
theorem q148 : (Jvm.Cond.initialized "java/lang/IllegalArgumentException") ∈ lw_all := lw_g (lw_at lw_m1 18 rfl) rfl
theorem q445 : (Jvm.Cond.instantiable "java/lang/IllegalArgumentException" (6 : Nat)) ∈ lw_all := lw_g (lw_at lw_m2 75 rfl) rfl
theorem q446 : (Jvm.Cond.castable "java/lang/IllegalArgumentException" "java/lang/IllegalArgumentException") ∈ lw_tbl := lw_at lw_m2 76 rfl
theorem q453 : (Jvm.Cond.selects "java/lang/IllegalArgumentException" ({ cls := "java/lang/Throwable", name := "fillInStackTrace", desc := "(I)Ljava/lang/Throwable;" } : Jvm.MethodName) ({ cls := "java/lang/Throwable", name := "fillInStackTrace", desc := "(I)Ljava/lang/Throwable;" } : Jvm.MethodName)) ∈ lw_all := lw_g (lw_at lw_m2 83 rfl) rfl
theorem q454 : (Jvm.Cond.selects "java/lang/IllegalArgumentException" ({ cls := "java/lang/Throwable", name := "fillInStackTrace", desc := "()Ljava/lang/Throwable;" } : Jvm.MethodName) ({ cls := "java/lang/Throwable", name := "fillInStackTrace", desc := "()Ljava/lang/Throwable;" } : Jvm.MethodName)) ∈ lw_all := lw_g (lw_at lw_m2 84 rfl) rfl
theorem q455 : (Jvm.Cond.lays "java/lang/IllegalArgumentException" "java/lang/Throwable" "cause" "Ljava/lang/Throwable;") ∈ lw_all := lw_g (lw_at lw_m2 85 rfl) rfl
theorem q457 : (Jvm.Cond.lays "java/lang/IllegalArgumentException" "java/lang/Throwable" "stackTrace" "[Ljava/lang/StackTraceElement;") ∈ lw_all := lw_g (lw_at lw_m2 87 rfl) rfl
theorem q459 : (Jvm.Cond.lays "java/lang/IllegalArgumentException" "java/lang/Throwable" "suppressedExceptions" "Ljava/util/List;") ∈ lw_all := lw_g (lw_at lw_m2 89 rfl) rfl
theorem q461 : (Jvm.Cond.lays "java/lang/IllegalArgumentException" "java/lang/Throwable" "detailMessage" "Ljava/lang/String;") ∈ lw_all := lw_g (lw_at lw_m2 91 rfl) rfl
theorem q463 : (Jvm.Cond.lays "java/lang/IllegalArgumentException" "java/lang/Throwable" "backtrace" "Ljava/lang/Object;") ∈ lw_all := lw_g (lw_at lw_m2 93 rfl) rfl
theorem q484 : (Jvm.Cond.instanceMethod ({ cls := "java/lang/IllegalArgumentException", name := "<init>", desc := "()V" } : Jvm.MethodName)) ∈ lw_all := lw_g (lw_at lw_m2 114 rfl) rfl
theorem q485 : (Jvm.Cond.code ({ cls := "java/lang/IllegalArgumentException", name := "<init>", desc := "()V" } : Jvm.MethodName) prog_23_method_1_code (1 : Nat) (Option.none : Option Jvm.ClassFile.FieldType)) ∈ lw_all := lw_g (lw_at lw_m2 115 rfl) rfl
theorem q486 : (Jvm.Cond.methodLink "java/lang/IllegalArgumentException" (1 : Nat) ({ cls := "java/lang/RuntimeException", name := "<init>", desc := "()V" } : Jvm.MethodName)) ∈ lw_all := lw_g (lw_at lw_m2 116 rfl) rfl
theorem q501 : (Jvm.Cond.lays "java/lang/IllegalArgumentException" "java/lang/Throwable" "depth" "I") ∈ lw_all := lw_g (lw_at lw_m2 131 rfl) rfl
theorem q504 : (Jvm.Cond.superclass "java/lang/IllegalArgumentException" "java/lang/RuntimeException") ∈ lw_all := lw_g (lw_at lw_m2 134 rfl) rfl
theorem q637 : (Jvm.Cond.selects "java/lang/IllegalArgumentException" ({ cls := "java/lang/Object", name := "getClass", desc := "()Ljava/lang/Class;" } : Jvm.MethodName) ({ cls := "java/lang/Object", name := "getClass", desc := "()Ljava/lang/Class;" } : Jvm.MethodName)) ∈ lw_all := lw_g (lw_at lw_m3 27 rfl) rfl
theorem q2040 : (Jvm.Cond.castable "java/lang/IllegalArgumentException" "java/lang/Object") ∈ lw_tbl := lw_at lw_m8 230 rfl
theorem in_J10 : ∀ w ∈ wsJ100, w ∈ lw_all := lw_in wsJ100 [455, 457, 459, 461, 463, 501] (by decide +kernel) (by decide +kernel)
/-! java/lang/Math -/
def RJ11 : String := "java/lang/Math"
abbrev cJ11_max : ByteArray := prog_26_method_65_code
def yJ11_max : MethodName := ⟨RJ11, "max", "(II)I"⟩
abbrev cJ11_min : ByteArray := prog_26_method_69_code
def yJ11_min : MethodName := ⟨RJ11, "min", "(II)I"⟩
abbrev cJ11_min_2 : ByteArray := prog_26_method_70_code
def yJ11_min_2 : MethodName := ⟨RJ11, "min", "(JJ)J"⟩
theorem q150 : (Jvm.Cond.initialized "java/lang/Math") ∈ lw_all := lw_g (lw_at lw_m1 20 rfl) rfl
theorem q539 : (Jvm.Cond.static ({ cls := "java/lang/Math", name := "max", desc := "(II)I" } : Jvm.MethodName)) ∈ lw_all := lw_g (lw_at lw_m2 169 rfl) rfl
theorem q540 : (Jvm.Cond.code ({ cls := "java/lang/Math", name := "max", desc := "(II)I" } : Jvm.MethodName) prog_26_method_65_code (2 : Nat) (Option.some Jvm.ClassFile.FieldType.int)) ∈ lw_all := lw_g (lw_at lw_m2 170 rfl) rfl
theorem q647 : (Jvm.Cond.static ({ cls := "java/lang/Math", name := "min", desc := "(II)I" } : Jvm.MethodName)) ∈ lw_all := lw_g (lw_at lw_m3 37 rfl) rfl
theorem q648 : (Jvm.Cond.code ({ cls := "java/lang/Math", name := "min", desc := "(II)I" } : Jvm.MethodName) prog_26_method_69_code (2 : Nat) (Option.some Jvm.ClassFile.FieldType.int)) ∈ lw_all := lw_g (lw_at lw_m3 38 rfl) rfl
theorem q1347 : (Jvm.Cond.static ({ cls := "java/lang/Math", name := "min", desc := "(JJ)J" } : Jvm.MethodName)) ∈ lw_all := lw_g (lw_at lw_m6 17 rfl) rfl
theorem q1348 : (Jvm.Cond.code ({ cls := "java/lang/Math", name := "min", desc := "(JJ)J" } : Jvm.MethodName) prog_26_method_70_code (4 : Nat) (Option.some Jvm.ClassFile.FieldType.long)) ∈ lw_all := lw_g (lw_at lw_m6 18 rfl) rfl
/-! jdk/internal/util/ArraysSupport -/
def RJ12 : String := "jdk/internal/util/ArraysSupport"
abbrev cJ12_newLength : ByteArray := prog_42_method_27_code
def yJ12_newLength : MethodName := ⟨RJ12, "newLength", "(III)I"⟩
abbrev cJ12_hugeLength : ByteArray := prog_42_method_28_code
def yJ12_hugeLength : MethodName := ⟨RJ12, "hugeLength", "(II)I"⟩
theorem q151 : (Jvm.Cond.initialized "jdk/internal/util/ArraysSupport") ∈ lw_all := lw_g (lw_at lw_m1 21 rfl) rfl
theorem q609 : (Jvm.Cond.static ({ cls := "jdk/internal/util/ArraysSupport", name := "newLength", desc := "(III)I" } : Jvm.MethodName)) ∈ lw_all := lw_g (lw_at lw_m2 239 rfl) rfl
theorem q610 : (Jvm.Cond.code ({ cls := "jdk/internal/util/ArraysSupport", name := "newLength", desc := "(III)I" } : Jvm.MethodName) prog_42_method_27_code (4 : Nat) (Option.some Jvm.ClassFile.FieldType.int)) ∈ lw_all := lw_g (lw_at lw_m3 0 rfl) rfl
theorem q611 : (Jvm.Cond.methodLink "jdk/internal/util/ArraysSupport" (194 : Nat) ({ cls := "java/lang/Math", name := "max", desc := "(II)I" } : Jvm.MethodName)) ∈ lw_all := lw_g (lw_at lw_m3 1 rfl) rfl
theorem q612 : (Jvm.Cond.constant "jdk/internal/util/ArraysSupport" (200 : Nat) (2147483639 : Int32)) ∈ lw_all := lw_g (lw_at lw_m3 2 rfl) rfl
theorem q613 : (Jvm.Cond.methodLink "jdk/internal/util/ArraysSupport" (201 : Nat) ({ cls := "jdk/internal/util/ArraysSupport", name := "hugeLength", desc := "(II)I" } : Jvm.MethodName)) ∈ lw_all := lw_g (lw_at lw_m3 3 rfl) rfl
theorem q614 : (Jvm.Cond.static ({ cls := "jdk/internal/util/ArraysSupport", name := "hugeLength", desc := "(II)I" } : Jvm.MethodName)) ∈ lw_all := lw_g (lw_at lw_m3 4 rfl) rfl
theorem q615 : (Jvm.Cond.code ({ cls := "jdk/internal/util/ArraysSupport", name := "hugeLength", desc := "(II)I" } : Jvm.MethodName) prog_42_method_28_code (3 : Nat) (Option.some Jvm.ClassFile.FieldType.int)) ∈ lw_all := lw_g (lw_at lw_m3 5 rfl) rfl
/-! java/util/Arrays -/
def RJ13 : String := "java/util/Arrays"
abbrev cJ13_copyOf : ByteArray := prog_36_method_119_code
def yJ13_copyOf : MethodName := ⟨RJ13, "copyOf", "([Ljava/lang/Object;I)[Ljava/lang/Object;"⟩
abbrev cJ13_copyOf_2 : ByteArray := prog_36_method_120_code
def yJ13_copyOf_2 : MethodName := ⟨RJ13, "copyOf", "([Ljava/lang/Object;ILjava/lang/Class;)[Ljava/lang/Object;"⟩
theorem q152 : (Jvm.Cond.initialized "java/util/Arrays") ∈ lw_all := lw_g (lw_at lw_m1 22 rfl) rfl
theorem q617 : (Jvm.Cond.static ({ cls := "java/util/Arrays", name := "copyOf", desc := "([Ljava/lang/Object;I)[Ljava/lang/Object;" } : Jvm.MethodName)) ∈ lw_all := lw_g (lw_at lw_m3 7 rfl) rfl
theorem q618 : (Jvm.Cond.code ({ cls := "java/util/Arrays", name := "copyOf", desc := "([Ljava/lang/Object;I)[Ljava/lang/Object;" } : Jvm.MethodName) prog_36_method_119_code (2 : Nat) (Option.some (Jvm.ClassFile.FieldType.array (Jvm.ClassFile.FieldType.object "java/lang/Object")))) ∈ lw_all := lw_g (lw_at lw_m3 8 rfl) rfl
theorem q619 : (Jvm.Cond.methodLink "java/util/Arrays" (86 : Nat) ({ cls := "java/lang/Object", name := "getClass", desc := "()Ljava/lang/Class;" } : Jvm.MethodName)) ∈ lw_all := lw_g (lw_at lw_m3 9 rfl) rfl
theorem q640 : (Jvm.Cond.methodLink "java/util/Arrays" (300 : Nat) ({ cls := "java/util/Arrays", name := "copyOf", desc := "([Ljava/lang/Object;ILjava/lang/Class;)[Ljava/lang/Object;" } : Jvm.MethodName)) ∈ lw_all := lw_g (lw_at lw_m3 30 rfl) rfl
theorem q641 : (Jvm.Cond.static ({ cls := "java/util/Arrays", name := "copyOf", desc := "([Ljava/lang/Object;ILjava/lang/Class;)[Ljava/lang/Object;" } : Jvm.MethodName)) ∈ lw_all := lw_g (lw_at lw_m3 31 rfl) rfl
theorem q642 : (Jvm.Cond.code ({ cls := "java/util/Arrays", name := "copyOf", desc := "([Ljava/lang/Object;ILjava/lang/Class;)[Ljava/lang/Object;" } : Jvm.MethodName) prog_36_method_120_code (4 : Nat) (Option.some (Jvm.ClassFile.FieldType.array (Jvm.ClassFile.FieldType.object "java/lang/Object")))) ∈ lw_all := lw_g (lw_at lw_m3 32 rfl) rfl
theorem q643 : (Jvm.Cond.classLink "java/util/Arrays" (110 : Nat) "[Ljava/lang/Object;") ∈ lw_all := lw_g (lw_at lw_m3 33 rfl) rfl
theorem q645 : (Jvm.Cond.classLink "java/util/Arrays" (2 : Nat) "java/lang/Object") ∈ lw_all := lw_g (lw_at lw_m3 35 rfl) rfl
theorem q646 : (Jvm.Cond.methodLink "java/util/Arrays" (304 : Nat) ({ cls := "java/lang/Math", name := "min", desc := "(II)I" } : Jvm.MethodName)) ∈ lw_all := lw_g (lw_at lw_m3 36 rfl) rfl
theorem q649 : (Jvm.Cond.methodLink "java/util/Arrays" (150 : Nat) ({ cls := "java/lang/System", name := "arraycopy", desc := "(Ljava/lang/Object;ILjava/lang/Object;II)V" } : Jvm.MethodName)) ∈ lw_all := lw_g (lw_at lw_m3 39 rfl) rfl
/-! java/util/Objects -/
def RJ14 : String := "java/util/Objects"
abbrev cJ14_checkIndex : ByteArray := prog_39_method_17_code
def yJ14_checkIndex : MethodName := ⟨RJ14, "checkIndex", "(II)I"⟩
theorem q155 : (Jvm.Cond.initialized "java/util/Objects") ∈ lw_all := lw_g (lw_at lw_m1 25 rfl) rfl
theorem q795 : (Jvm.Cond.static ({ cls := "java/util/Objects", name := "checkIndex", desc := "(II)I" } : Jvm.MethodName)) ∈ lw_all := lw_g (lw_at lw_m3 185 rfl) rfl
theorem q796 : (Jvm.Cond.code ({ cls := "java/util/Objects", name := "checkIndex", desc := "(II)I" } : Jvm.MethodName) prog_39_method_17_code (2 : Nat) (Option.some Jvm.ClassFile.FieldType.int)) ∈ lw_all := lw_g (lw_at lw_m3 186 rfl) rfl
theorem q797 : (Jvm.Cond.methodLink "java/util/Objects" (105 : Nat) ({ cls := "jdk/internal/util/Preconditions", name := "checkIndex", desc := "(IILjava/util/function/BiFunction;)I" } : Jvm.MethodName)) ∈ lw_all := lw_g (lw_at lw_m3 187 rfl) rfl
/-! java/lang/Long -/
def RJ15 : String := "java/lang/Long"
abbrev cJ15_divideUnsigned : ByteArray := prog_25_method_44_code
def yJ15_divideUnsigned : MethodName := ⟨RJ15, "divideUnsigned", "(JJ)J"⟩
abbrev cJ15_compareUnsigned : ByteArray := prog_25_method_43_code
def yJ15_compareUnsigned : MethodName := ⟨RJ15, "compareUnsigned", "(JJ)I"⟩
abbrev cJ15_compare : ByteArray := prog_25_method_42_code
def yJ15_compare : MethodName := ⟨RJ15, "compare", "(JJ)I"⟩
abbrev cJ15_remainderUnsigned : ByteArray := prog_25_method_45_code
def yJ15_remainderUnsigned : MethodName := ⟨RJ15, "remainderUnsigned", "(JJ)J"⟩
theorem q161 : (Jvm.Cond.initialized "java/lang/Long") ∈ lw_all := lw_g (lw_at lw_m1 31 rfl) rfl
theorem q1148 : (Jvm.Cond.static ({ cls := "java/lang/Long", name := "divideUnsigned", desc := "(JJ)J" } : Jvm.MethodName)) ∈ lw_all := lw_g (lw_at lw_m5 58 rfl) rfl
theorem q1149 : (Jvm.Cond.code ({ cls := "java/lang/Long", name := "divideUnsigned", desc := "(JJ)J" } : Jvm.MethodName) prog_25_method_44_code (8 : Nat) (Option.some Jvm.ClassFile.FieldType.long)) ∈ lw_all := lw_g (lw_at lw_m5 59 rfl) rfl
theorem q1150 : (Jvm.Cond.constantLong "java/lang/Long" (306 : Nat) (-1 : Int64)) ∈ lw_all := lw_g (lw_at lw_m5 60 rfl) rfl
theorem q1153 : (Jvm.Cond.static ({ cls := "java/lang/Long", name := "compareUnsigned", desc := "(JJ)I" } : Jvm.MethodName)) ∈ lw_all := lw_g (lw_at lw_m5 63 rfl) rfl
theorem q1154 : (Jvm.Cond.code ({ cls := "java/lang/Long", name := "compareUnsigned", desc := "(JJ)I" } : Jvm.MethodName) prog_25_method_43_code (4 : Nat) (Option.some Jvm.ClassFile.FieldType.int)) ∈ lw_all := lw_g (lw_at lw_m5 64 rfl) rfl
theorem q1155 : (Jvm.Cond.constantLong "java/lang/Long" (168 : Nat) (-9223372036854775808 : Int64)) ∈ lw_all := lw_g (lw_at lw_m5 65 rfl) rfl
theorem q1156 : (Jvm.Cond.methodLink "java/lang/Long" (302 : Nat) ({ cls := "java/lang/Long", name := "compare", desc := "(JJ)I" } : Jvm.MethodName)) ∈ lw_all := lw_g (lw_at lw_m5 66 rfl) rfl
theorem q1157 : (Jvm.Cond.static ({ cls := "java/lang/Long", name := "compare", desc := "(JJ)I" } : Jvm.MethodName)) ∈ lw_all := lw_g (lw_at lw_m5 67 rfl) rfl
theorem q1158 : (Jvm.Cond.code ({ cls := "java/lang/Long", name := "compare", desc := "(JJ)I" } : Jvm.MethodName) prog_25_method_42_code (4 : Nat) (Option.some Jvm.ClassFile.FieldType.int)) ∈ lw_all := lw_g (lw_at lw_m5 68 rfl) rfl
theorem q1878 : (Jvm.Cond.static ({ cls := "java/lang/Long", name := "remainderUnsigned", desc := "(JJ)J" } : Jvm.MethodName)) ∈ lw_all := lw_g (lw_at lw_m8 68 rfl) rfl
theorem q1879 : (Jvm.Cond.code ({ cls := "java/lang/Long", name := "remainderUnsigned", desc := "(JJ)J" } : Jvm.MethodName) prog_25_method_45_code (8 : Nat) (Option.some Jvm.ClassFile.FieldType.long)) ∈ lw_all := lw_g (lw_at lw_m8 69 rfl) rfl
/-! java/lang/Object -/
def RJ16 : String := "java/lang/Object"
abbrev cJ16_init : ByteArray := object_method_1_code
def yJ16_init : MethodName := ⟨RJ16, "<init>", "()V"⟩
theorem q172 : (Jvm.Cond.instanceMethod ({ cls := "java/lang/Object", name := "<init>", desc := "()V" } : Jvm.MethodName)) ∈ lw_all := lw_g (lw_at lw_m1 42 rfl) rfl
theorem q173 : (Jvm.Cond.code ({ cls := "java/lang/Object", name := "<init>", desc := "()V" } : Jvm.MethodName) object_method_1_code (1 : Nat) (Option.none : Option Jvm.ClassFile.FieldType)) ∈ lw_all := lw_g (lw_at lw_m1 43 rfl) rfl
theorem q620 : (Jvm.Cond.instanceMethod ({ cls := "java/lang/Object", name := "getClass", desc := "()Ljava/lang/Class;" } : Jvm.MethodName)) ∈ lw_all := lw_g (lw_at lw_m3 10 rfl) rfl
theorem q621 : (Jvm.Cond.sameMethod "java/lang/Object" "java/lang/Object" "getClass" "()Ljava/lang/Class;") ∈ lw_all := lw_g (lw_at lw_m3 11 rfl) rfl
theorem q639 : (Jvm.Cond.native ({ cls := "java/lang/Object", name := "getClass", desc := "()Ljava/lang/Class;" } : Jvm.MethodName)) ∈ lw_all := lw_g (lw_at lw_m3 29 rfl) rfl
theorem q2053 : (Jvm.Cond.declares ({ cls := "java/lang/Object", name := "getClass", desc := "()Ljava/lang/Class;" } : Jvm.MethodName)) ∈ lw_tbl := lw_at lw_m9 3 rfl
/-! java/util/ArrayList -/
def RJ2 : String := "java/util/ArrayList"
def TJ2 : u_T := fun k => match k with
  | 0 => ("java/util/AbstractList", "modCount", "I", false)
  | 1 => ("java/util/ArrayList", "elementData", "[Ljava/lang/Object;", false)
  | _ => ("java/util/ArrayList", "size", "I", false)
def tyJ2 : Nat → FieldType := fun k => match k with
  | 0 => .int
  | 1 => .array (.object "java/lang/Object")
  | _ => .int
abbrev wsJ20 : List Cond := u_ws RJ2 TJ2 3
theorem nmJ2 : ∀ a, a < 3 → ∀ b, b < 3 → a ≠ b → (TJ2 a).2.1 ≠ (TJ2 b).2.1 := by decide +kernel
theorem tyJ2_ok : ∀ k, k < 3 → parseFieldDescriptor (TJ2 k).2.2.1 = some (tyJ2 k) := by decide +kernel
abbrev cJ2_init : ByteArray := prog_35_method_2_code
def yJ2_init : MethodName := ⟨RJ2, "<init>", "()V"⟩
abbrev cJ2_size : ByteArray := prog_35_method_8_code
def yJ2_size : MethodName := ⟨RJ2, "size", "()I"⟩
abbrev cJ2_add : ByteArray := prog_35_method_25_code
def yJ2_add : MethodName := ⟨RJ2, "add", "(Ljava/lang/Object;)Z"⟩
abbrev cJ2_add_2 : ByteArray := prog_35_method_24_code
def yJ2_add_2 : MethodName := ⟨RJ2, "add", "(Ljava/lang/Object;[Ljava/lang/Object;I)V"⟩
abbrev cJ2_grow : ByteArray := prog_35_method_7_code
def yJ2_grow : MethodName := ⟨RJ2, "grow", "()[Ljava/lang/Object;"⟩
abbrev cJ2_grow_2 : ByteArray := prog_35_method_6_code
def yJ2_grow_2 : MethodName := ⟨RJ2, "grow", "(I)[Ljava/lang/Object;"⟩
abbrev cJ2_get : ByteArray := prog_35_method_20_code
def yJ2_get : MethodName := ⟨RJ2, "get", "(I)Ljava/lang/Object;"⟩
abbrev cJ2_elementData : ByteArray := prog_35_method_18_code
def yJ2_elementData : MethodName := ⟨RJ2, "elementData", "(I)Ljava/lang/Object;"⟩
theorem q136 : (Jvm.Cond.initialized "java/util/ArrayList") ∈ lw_all := lw_g (lw_at lw_m1 6 rfl) rfl
theorem q187 : (Jvm.Cond.instantiable "java/util/ArrayList" (3 : Nat)) ∈ lw_all := lw_g (lw_at lw_m1 57 rfl) rfl
theorem q189 : (Jvm.Cond.instanceMethod ({ cls := "java/util/ArrayList", name := "<init>", desc := "()V" } : Jvm.MethodName)) ∈ lw_all := lw_g (lw_at lw_m1 59 rfl) rfl
theorem q190 : (Jvm.Cond.code ({ cls := "java/util/ArrayList", name := "<init>", desc := "()V" } : Jvm.MethodName) prog_35_method_2_code (1 : Nat) (Option.none : Option Jvm.ClassFile.FieldType)) ∈ lw_all := lw_g (lw_at lw_m1 60 rfl) rfl
theorem q191 : (Jvm.Cond.methodLink "java/util/ArrayList" (1 : Nat) ({ cls := "java/util/AbstractList", name := "<init>", desc := "()V" } : Jvm.MethodName)) ∈ lw_all := lw_g (lw_at lw_m1 61 rfl) rfl
theorem q198 : (Jvm.Cond.fieldLink "java/util/ArrayList" (39 : Nat) "java/util/ArrayList" "DEFAULTCAPACITY_EMPTY_ELEMENTDATA" "[Ljava/lang/Object;") ∈ lw_all := lw_g (lw_at lw_m1 68 rfl) rfl
theorem q199 : (Jvm.Cond.laysStatic "java/util/ArrayList" "DEFAULTCAPACITY_EMPTY_ELEMENTDATA" "[Ljava/lang/Object;") ∈ lw_tbl := lw_at lw_m1 69 rfl
theorem q200 : (Jvm.Cond.fieldLink "java/util/ArrayList" (9 : Nat) "java/util/ArrayList" "elementData" "[Ljava/lang/Object;") ∈ lw_all := lw_g (lw_at lw_m1 70 rfl) rfl
theorem q201 : (Jvm.Cond.fieldLink "java/util/ArrayList" (48 : Nat) "java/util/ArrayList" "size" "I") ∈ lw_all := lw_g (lw_at lw_m1 71 rfl) rfl
theorem q203 : (Jvm.Cond.fieldLink "java/util/ArrayList" (63 : Nat) "java/util/ArrayList" "modCount" "I") ∈ lw_all := lw_g (lw_at lw_m1 73 rfl) rfl
theorem q204 : (Jvm.Cond.sameField "java/util/ArrayList" "java/util/AbstractList" "modCount" "I") ∈ lw_all := lw_g (lw_at lw_m1 74 rfl) rfl
theorem q205 : (Jvm.Cond.lays "java/util/ArrayList" "java/util/ArrayList" "elementData" "[Ljava/lang/Object;") ∈ lw_all := lw_g (lw_at lw_m1 75 rfl) rfl
theorem q206 : (Jvm.Cond.soleField "java/util/ArrayList" "elementData") ∈ lw_all := lw_g (lw_at lw_m1 76 rfl) rfl
theorem q207 : (Jvm.Cond.lays "java/util/ArrayList" "java/util/ArrayList" "size" "I") ∈ lw_all := lw_g (lw_at lw_m1 77 rfl) rfl
theorem q208 : (Jvm.Cond.soleField "java/util/ArrayList" "size") ∈ lw_all := lw_g (lw_at lw_m1 78 rfl) rfl
theorem q209 : (Jvm.Cond.lays "java/util/ArrayList" "java/util/AbstractList" "modCount" "I") ∈ lw_all := lw_g (lw_at lw_m1 79 rfl) rfl
theorem q211 : (Jvm.Cond.superclass "java/util/ArrayList" "java/util/AbstractList") ∈ lw_all := lw_g (lw_at lw_m1 81 rfl) rfl
theorem q519 : (Jvm.Cond.instanceMethod ({ cls := "java/util/ArrayList", name := "size", desc := "()I" } : Jvm.MethodName)) ∈ lw_all := lw_g (lw_at lw_m2 149 rfl) rfl
theorem q520 : (Jvm.Cond.selects "java/util/ArrayList" ({ cls := "java/util/ArrayList", name := "size", desc := "()I" } : Jvm.MethodName) ({ cls := "java/util/ArrayList", name := "size", desc := "()I" } : Jvm.MethodName)) ∈ lw_all := lw_g (lw_at lw_m2 150 rfl) rfl
theorem q521 : (Jvm.Cond.code ({ cls := "java/util/ArrayList", name := "size", desc := "()I" } : Jvm.MethodName) prog_35_method_8_code (1 : Nat) (Option.some Jvm.ClassFile.FieldType.int)) ∈ lw_all := lw_g (lw_at lw_m2 151 rfl) rfl
theorem q593 : (Jvm.Cond.instanceMethod ({ cls := "java/util/ArrayList", name := "add", desc := "(Ljava/lang/Object;)Z" } : Jvm.MethodName)) ∈ lw_all := lw_g (lw_at lw_m2 223 rfl) rfl
theorem q594 : (Jvm.Cond.selects "java/util/ArrayList" ({ cls := "java/util/ArrayList", name := "add", desc := "(Ljava/lang/Object;)Z" } : Jvm.MethodName) ({ cls := "java/util/ArrayList", name := "add", desc := "(Ljava/lang/Object;)Z" } : Jvm.MethodName)) ∈ lw_all := lw_g (lw_at lw_m2 224 rfl) rfl
theorem q595 : (Jvm.Cond.code ({ cls := "java/util/ArrayList", name := "add", desc := "(Ljava/lang/Object;)Z" } : Jvm.MethodName) prog_35_method_25_code (2 : Nat) (Option.some Jvm.ClassFile.FieldType.boolean)) ∈ lw_all := lw_g (lw_at lw_m2 225 rfl) rfl
theorem q596 : (Jvm.Cond.methodLink "java/util/ArrayList" (131 : Nat) ({ cls := "java/util/ArrayList", name := "add", desc := "(Ljava/lang/Object;[Ljava/lang/Object;I)V" } : Jvm.MethodName)) ∈ lw_all := lw_g (lw_at lw_m2 226 rfl) rfl
theorem q597 : (Jvm.Cond.privateMethod ({ cls := "java/util/ArrayList", name := "add", desc := "(Ljava/lang/Object;[Ljava/lang/Object;I)V" } : Jvm.MethodName)) ∈ lw_tbl := lw_at lw_m2 227 rfl
theorem q598 : (Jvm.Cond.instanceMethod ({ cls := "java/util/ArrayList", name := "add", desc := "(Ljava/lang/Object;[Ljava/lang/Object;I)V" } : Jvm.MethodName)) ∈ lw_all := lw_g (lw_at lw_m2 228 rfl) rfl
theorem q599 : (Jvm.Cond.code ({ cls := "java/util/ArrayList", name := "add", desc := "(Ljava/lang/Object;[Ljava/lang/Object;I)V" } : Jvm.MethodName) prog_35_method_24_code (4 : Nat) (Option.none : Option Jvm.ClassFile.FieldType)) ∈ lw_all := lw_g (lw_at lw_m2 229 rfl) rfl
theorem q600 : (Jvm.Cond.methodLink "java/util/ArrayList" (129 : Nat) ({ cls := "java/util/ArrayList", name := "grow", desc := "()[Ljava/lang/Object;" } : Jvm.MethodName)) ∈ lw_all := lw_g (lw_at lw_m2 230 rfl) rfl
theorem q601 : (Jvm.Cond.privateMethod ({ cls := "java/util/ArrayList", name := "grow", desc := "()[Ljava/lang/Object;" } : Jvm.MethodName)) ∈ lw_tbl := lw_at lw_m2 231 rfl
theorem q602 : (Jvm.Cond.instanceMethod ({ cls := "java/util/ArrayList", name := "grow", desc := "()[Ljava/lang/Object;" } : Jvm.MethodName)) ∈ lw_all := lw_g (lw_at lw_m2 232 rfl) rfl
theorem q603 : (Jvm.Cond.code ({ cls := "java/util/ArrayList", name := "grow", desc := "()[Ljava/lang/Object;" } : Jvm.MethodName) prog_35_method_7_code (1 : Nat) (Option.some (Jvm.ClassFile.FieldType.array (Jvm.ClassFile.FieldType.object "java/lang/Object")))) ∈ lw_all := lw_g (lw_at lw_m2 233 rfl) rfl
theorem q604 : (Jvm.Cond.methodLink "java/util/ArrayList" (69 : Nat) ({ cls := "java/util/ArrayList", name := "grow", desc := "(I)[Ljava/lang/Object;" } : Jvm.MethodName)) ∈ lw_all := lw_g (lw_at lw_m2 234 rfl) rfl
theorem q605 : (Jvm.Cond.privateMethod ({ cls := "java/util/ArrayList", name := "grow", desc := "(I)[Ljava/lang/Object;" } : Jvm.MethodName)) ∈ lw_tbl := lw_at lw_m2 235 rfl
theorem q606 : (Jvm.Cond.instanceMethod ({ cls := "java/util/ArrayList", name := "grow", desc := "(I)[Ljava/lang/Object;" } : Jvm.MethodName)) ∈ lw_all := lw_g (lw_at lw_m2 236 rfl) rfl
theorem q607 : (Jvm.Cond.code ({ cls := "java/util/ArrayList", name := "grow", desc := "(I)[Ljava/lang/Object;" } : Jvm.MethodName) prog_35_method_6_code (4 : Nat) (Option.some (Jvm.ClassFile.FieldType.array (Jvm.ClassFile.FieldType.object "java/lang/Object")))) ∈ lw_all := lw_g (lw_at lw_m2 237 rfl) rfl
theorem q608 : (Jvm.Cond.methodLink "java/util/ArrayList" (73 : Nat) ({ cls := "jdk/internal/util/ArraysSupport", name := "newLength", desc := "(III)I" } : Jvm.MethodName)) ∈ lw_all := lw_g (lw_at lw_m2 238 rfl) rfl
theorem q616 : (Jvm.Cond.methodLink "java/util/ArrayList" (66 : Nat) ({ cls := "java/util/Arrays", name := "copyOf", desc := "([Ljava/lang/Object;I)[Ljava/lang/Object;" } : Jvm.MethodName)) ∈ lw_all := lw_g (lw_at lw_m3 6 rfl) rfl
theorem q638 : (Jvm.Cond.selects "java/util/ArrayList" ({ cls := "java/lang/Object", name := "getClass", desc := "()Ljava/lang/Class;" } : Jvm.MethodName) ({ cls := "java/lang/Object", name := "getClass", desc := "()Ljava/lang/Class;" } : Jvm.MethodName)) ∈ lw_all := lw_g (lw_at lw_m3 28 rfl) rfl
theorem q650 : (Jvm.Cond.methodLink "java/util/ArrayList" (79 : Nat) ({ cls := "java/lang/Math", name := "max", desc := "(II)I" } : Jvm.MethodName)) ∈ lw_all := lw_g (lw_at lw_m3 40 rfl) rfl
theorem q651 : (Jvm.Cond.classLink "java/util/ArrayList" (7 : Nat) "java/lang/Object") ∈ lw_all := lw_g (lw_at lw_m3 41 rfl) rfl
theorem q791 : (Jvm.Cond.instanceMethod ({ cls := "java/util/ArrayList", name := "get", desc := "(I)Ljava/lang/Object;" } : Jvm.MethodName)) ∈ lw_all := lw_g (lw_at lw_m3 181 rfl) rfl
theorem q792 : (Jvm.Cond.selects "java/util/ArrayList" ({ cls := "java/util/ArrayList", name := "get", desc := "(I)Ljava/lang/Object;" } : Jvm.MethodName) ({ cls := "java/util/ArrayList", name := "get", desc := "(I)Ljava/lang/Object;" } : Jvm.MethodName)) ∈ lw_all := lw_g (lw_at lw_m3 182 rfl) rfl
theorem q793 : (Jvm.Cond.code ({ cls := "java/util/ArrayList", name := "get", desc := "(I)Ljava/lang/Object;" } : Jvm.MethodName) prog_35_method_20_code (2 : Nat) (Option.some (Jvm.ClassFile.FieldType.object "java/lang/Object"))) ∈ lw_all := lw_g (lw_at lw_m3 183 rfl) rfl
theorem q794 : (Jvm.Cond.methodLink "java/util/ArrayList" (118 : Nat) ({ cls := "java/util/Objects", name := "checkIndex", desc := "(II)I" } : Jvm.MethodName)) ∈ lw_all := lw_g (lw_at lw_m3 184 rfl) rfl
theorem q798 : (Jvm.Cond.methodLink "java/util/ArrayList" (123 : Nat) ({ cls := "java/util/ArrayList", name := "elementData", desc := "(I)Ljava/lang/Object;" } : Jvm.MethodName)) ∈ lw_all := lw_g (lw_at lw_m3 188 rfl) rfl
theorem q799 : (Jvm.Cond.instanceMethod ({ cls := "java/util/ArrayList", name := "elementData", desc := "(I)Ljava/lang/Object;" } : Jvm.MethodName)) ∈ lw_all := lw_g (lw_at lw_m3 189 rfl) rfl
theorem q800 : (Jvm.Cond.selects "java/util/ArrayList" ({ cls := "java/util/ArrayList", name := "elementData", desc := "(I)Ljava/lang/Object;" } : Jvm.MethodName) ({ cls := "java/util/ArrayList", name := "elementData", desc := "(I)Ljava/lang/Object;" } : Jvm.MethodName)) ∈ lw_all := lw_g (lw_at lw_m3 190 rfl) rfl
theorem q801 : (Jvm.Cond.code ({ cls := "java/util/ArrayList", name := "elementData", desc := "(I)Ljava/lang/Object;" } : Jvm.MethodName) prog_35_method_18_code (2 : Nat) (Option.some (Jvm.ClassFile.FieldType.object "java/lang/Object"))) ∈ lw_all := lw_g (lw_at lw_m3 191 rfl) rfl
theorem q2036 : (Jvm.Cond.castable "java/util/ArrayList" "java/lang/Object") ∈ lw_tbl := lw_at lw_m8 226 rfl
theorem in_J2 : ∀ w ∈ wsJ20, w ∈ lw_all := lw_in wsJ20 [209, 205, 207] (by decide +kernel) (by decide +kernel)
/-! java/lang/String -/
def RJ3 : String := "java/lang/String"
abbrev cJ3_length : ByteArray := prog_28_method_54_code
def yJ3_length : MethodName := ⟨RJ3, "length", "()I"⟩
abbrev cJ3_coder : ByteArray := prog_28_method_152_code
def yJ3_coder : MethodName := ⟨RJ3, "coder", "()B"⟩
abbrev cJ3_charAt : ByteArray := prog_28_method_56_code
def yJ3_charAt : MethodName := ⟨RJ3, "charAt", "(I)C"⟩
abbrev cJ3_isLatin1 : ByteArray := prog_28_method_154_code
def yJ3_isLatin1 : MethodName := ⟨RJ3, "isLatin1", "()Z"⟩
abbrev cJ3_checkIndex : ByteArray := prog_28_method_155_code
def yJ3_checkIndex : MethodName := ⟨RJ3, "checkIndex", "(II)V"⟩
theorem q141 : (Jvm.Cond.initialized "java/lang/String") ∈ lw_all := lw_g (lw_at lw_m1 11 rfl) rfl
theorem q390 : (Jvm.Cond.instanceMethod ({ cls := "java/lang/String", name := "length", desc := "()I" } : Jvm.MethodName)) ∈ lw_all := lw_g (lw_at lw_m2 20 rfl) rfl
theorem q391 : (Jvm.Cond.selects "java/lang/String" ({ cls := "java/lang/String", name := "length", desc := "()I" } : Jvm.MethodName) ({ cls := "java/lang/String", name := "length", desc := "()I" } : Jvm.MethodName)) ∈ lw_all := lw_g (lw_at lw_m2 21 rfl) rfl
theorem q392 : (Jvm.Cond.code ({ cls := "java/lang/String", name := "length", desc := "()I" } : Jvm.MethodName) prog_28_method_54_code (1 : Nat) (Option.some Jvm.ClassFile.FieldType.int)) ∈ lw_all := lw_g (lw_at lw_m2 22 rfl) rfl
theorem q393 : (Jvm.Cond.methodLink "java/lang/String" (335 : Nat) ({ cls := "java/lang/String", name := "coder", desc := "()B" } : Jvm.MethodName)) ∈ lw_all := lw_g (lw_at lw_m2 23 rfl) rfl
theorem q394 : (Jvm.Cond.instanceMethod ({ cls := "java/lang/String", name := "coder", desc := "()B" } : Jvm.MethodName)) ∈ lw_all := lw_g (lw_at lw_m2 24 rfl) rfl
theorem q395 : (Jvm.Cond.selects "java/lang/String" ({ cls := "java/lang/String", name := "coder", desc := "()B" } : Jvm.MethodName) ({ cls := "java/lang/String", name := "coder", desc := "()B" } : Jvm.MethodName)) ∈ lw_all := lw_g (lw_at lw_m2 25 rfl) rfl
theorem q396 : (Jvm.Cond.code ({ cls := "java/lang/String", name := "coder", desc := "()B" } : Jvm.MethodName) prog_28_method_152_code (1 : Nat) (Option.some Jvm.ClassFile.FieldType.byte)) ∈ lw_all := lw_g (lw_at lw_m2 26 rfl) rfl
theorem q397 : (Jvm.Cond.fieldLink "java/lang/String" (38 : Nat) "java/lang/String" "COMPACT_STRINGS" "Z") ∈ lw_all := lw_g (lw_at lw_m2 27 rfl) rfl
theorem q398 : (Jvm.Cond.laysStatic "java/lang/String" "COMPACT_STRINGS" "Z") ∈ lw_tbl := lw_at lw_m2 28 rfl
theorem q400 : (Jvm.Cond.instanceMethod ({ cls := "java/lang/String", name := "charAt", desc := "(I)C" } : Jvm.MethodName)) ∈ lw_all := lw_g (lw_at lw_m2 30 rfl) rfl
theorem q401 : (Jvm.Cond.selects "java/lang/String" ({ cls := "java/lang/String", name := "charAt", desc := "(I)C" } : Jvm.MethodName) ({ cls := "java/lang/String", name := "charAt", desc := "(I)C" } : Jvm.MethodName)) ∈ lw_all := lw_g (lw_at lw_m2 31 rfl) rfl
theorem q402 : (Jvm.Cond.code ({ cls := "java/lang/String", name := "charAt", desc := "(I)C" } : Jvm.MethodName) prog_28_method_56_code (2 : Nat) (Option.some Jvm.ClassFile.FieldType.char)) ∈ lw_all := lw_g (lw_at lw_m2 32 rfl) rfl
theorem q403 : (Jvm.Cond.methodLink "java/lang/String" (492 : Nat) ({ cls := "java/lang/String", name := "isLatin1", desc := "()Z" } : Jvm.MethodName)) ∈ lw_all := lw_g (lw_at lw_m2 33 rfl) rfl
theorem q404 : (Jvm.Cond.instanceMethod ({ cls := "java/lang/String", name := "isLatin1", desc := "()Z" } : Jvm.MethodName)) ∈ lw_all := lw_g (lw_at lw_m2 34 rfl) rfl
theorem q405 : (Jvm.Cond.selects "java/lang/String" ({ cls := "java/lang/String", name := "isLatin1", desc := "()Z" } : Jvm.MethodName) ({ cls := "java/lang/String", name := "isLatin1", desc := "()Z" } : Jvm.MethodName)) ∈ lw_all := lw_g (lw_at lw_m2 35 rfl) rfl
theorem q406 : (Jvm.Cond.code ({ cls := "java/lang/String", name := "isLatin1", desc := "()Z" } : Jvm.MethodName) prog_28_method_154_code (1 : Nat) (Option.some Jvm.ClassFile.FieldType.boolean)) ∈ lw_all := lw_g (lw_at lw_m2 36 rfl) rfl
theorem q407 : (Jvm.Cond.methodLink "java/lang/String" (495 : Nat) ({ cls := "java/lang/StringLatin1", name := "charAt", desc := "([BI)C" } : Jvm.MethodName)) ∈ lw_all := lw_g (lw_at lw_m2 37 rfl) rfl
theorem q411 : (Jvm.Cond.static ({ cls := "java/lang/String", name := "checkIndex", desc := "(II)V" } : Jvm.MethodName)) ∈ lw_all := lw_g (lw_at lw_m2 41 rfl) rfl
theorem q412 : (Jvm.Cond.code ({ cls := "java/lang/String", name := "checkIndex", desc := "(II)V" } : Jvm.MethodName) prog_28_method_155_code (2 : Nat) (Option.none : Option Jvm.ClassFile.FieldType)) ∈ lw_all := lw_g (lw_at lw_m2 42 rfl) rfl
theorem q413 : (Jvm.Cond.fieldLink "java/lang/String" (1053 : Nat) "jdk/internal/util/Preconditions" "SIOOBE_FORMATTER" "Ljava/util/function/BiFunction;") ∈ lw_all := lw_g (lw_at lw_m2 43 rfl) rfl
theorem q415 : (Jvm.Cond.methodLink "java/lang/String" (1059 : Nat) ({ cls := "jdk/internal/util/Preconditions", name := "checkIndex", desc := "(IILjava/util/function/BiFunction;)I" } : Jvm.MethodName)) ∈ lw_all := lw_g (lw_at lw_m2 45 rfl) rfl
theorem q418 : (Jvm.Cond.methodLink "java/lang/String" (498 : Nat) ({ cls := "java/lang/StringUTF16", name := "charAt", desc := "([BI)C" } : Jvm.MethodName)) ∈ lw_all := lw_g (lw_at lw_m2 48 rfl) rfl
theorem q2050 : (Jvm.Cond.castable "java/lang/String" "java/lang/Object") ∈ lw_tbl := lw_at lw_m9 0 rfl
theorem q2059 : (Jvm.Cond.fieldLink "java/lang/String" (9 : Nat) "java/lang/String" "value" "[B") ∈ lw_all := lw_g (lw_at lw_m9 9 rfl) rfl
theorem q2060 : (Jvm.Cond.fieldLink "java/lang/String" (15 : Nat) "java/lang/String" "coder" "B") ∈ lw_all := lw_g (lw_at lw_m9 10 rfl) rfl
/-! java/lang/StringLatin1 -/
def RJ4 : String := "java/lang/StringLatin1"
abbrev cJ4_charAt : ByteArray := prog_29_method_2_code
def yJ4_charAt : MethodName := ⟨RJ4, "charAt", "([BI)C"⟩
theorem q142 : (Jvm.Cond.initialized "java/lang/StringLatin1") ∈ lw_all := lw_g (lw_at lw_m1 12 rfl) rfl
theorem q408 : (Jvm.Cond.static ({ cls := "java/lang/StringLatin1", name := "charAt", desc := "([BI)C" } : Jvm.MethodName)) ∈ lw_all := lw_g (lw_at lw_m2 38 rfl) rfl
theorem q409 : (Jvm.Cond.code ({ cls := "java/lang/StringLatin1", name := "charAt", desc := "([BI)C" } : Jvm.MethodName) prog_29_method_2_code (2 : Nat) (Option.some Jvm.ClassFile.FieldType.char)) ∈ lw_all := lw_g (lw_at lw_m2 39 rfl) rfl
theorem q410 : (Jvm.Cond.methodLink "java/lang/StringLatin1" (9 : Nat) ({ cls := "java/lang/String", name := "checkIndex", desc := "(II)V" } : Jvm.MethodName)) ∈ lw_all := lw_g (lw_at lw_m2 40 rfl) rfl
/-! jdk/internal/util/Preconditions -/
def RJ5 : String := "jdk/internal/util/Preconditions"
abbrev cJ5_checkIndex : ByteArray := prog_43_method_11_code
def yJ5_checkIndex : MethodName := ⟨RJ5, "checkIndex", "(IILjava/util/function/BiFunction;)I"⟩
theorem q143 : (Jvm.Cond.initialized "jdk/internal/util/Preconditions") ∈ lw_all := lw_g (lw_at lw_m1 13 rfl) rfl
theorem q414 : (Jvm.Cond.laysStatic "jdk/internal/util/Preconditions" "SIOOBE_FORMATTER" "Ljava/util/function/BiFunction;") ∈ lw_tbl := lw_at lw_m2 44 rfl
theorem q416 : (Jvm.Cond.static ({ cls := "jdk/internal/util/Preconditions", name := "checkIndex", desc := "(IILjava/util/function/BiFunction;)I" } : Jvm.MethodName)) ∈ lw_all := lw_g (lw_at lw_m2 46 rfl) rfl
theorem q417 : (Jvm.Cond.code ({ cls := "jdk/internal/util/Preconditions", name := "checkIndex", desc := "(IILjava/util/function/BiFunction;)I" } : Jvm.MethodName) prog_43_method_11_code (3 : Nat) (Option.some Jvm.ClassFile.FieldType.int)) ∈ lw_all := lw_g (lw_at lw_m2 47 rfl) rfl
/-! java/lang/StringUTF16 -/
def RJ6 : String := "java/lang/StringUTF16"
abbrev cJ6_charAt : ByteArray := prog_30_method_83_code
def yJ6_charAt : MethodName := ⟨RJ6, "charAt", "([BI)C"⟩
abbrev cJ6_checkIndex : ByteArray := prog_30_method_91_code
def yJ6_checkIndex : MethodName := ⟨RJ6, "checkIndex", "(I[B)V"⟩
abbrev cJ6_length : ByteArray := prog_30_method_6_code
def yJ6_length : MethodName := ⟨RJ6, "length", "([B)I"⟩
abbrev cJ6_getChar : ByteArray := prog_30_method_5_code
def yJ6_getChar : MethodName := ⟨RJ6, "getChar", "([BI)C"⟩
theorem q144 : (Jvm.Cond.initialized "java/lang/StringUTF16") ∈ lw_all := lw_g (lw_at lw_m1 14 rfl) rfl
theorem q419 : (Jvm.Cond.static ({ cls := "java/lang/StringUTF16", name := "charAt", desc := "([BI)C" } : Jvm.MethodName)) ∈ lw_all := lw_g (lw_at lw_m2 49 rfl) rfl
theorem q420 : (Jvm.Cond.code ({ cls := "java/lang/StringUTF16", name := "charAt", desc := "([BI)C" } : Jvm.MethodName) prog_30_method_83_code (2 : Nat) (Option.some Jvm.ClassFile.FieldType.char)) ∈ lw_all := lw_g (lw_at lw_m2 50 rfl) rfl
theorem q421 : (Jvm.Cond.methodLink "java/lang/StringUTF16" (67 : Nat) ({ cls := "java/lang/StringUTF16", name := "checkIndex", desc := "(I[B)V" } : Jvm.MethodName)) ∈ lw_all := lw_g (lw_at lw_m2 51 rfl) rfl
theorem q422 : (Jvm.Cond.static ({ cls := "java/lang/StringUTF16", name := "checkIndex", desc := "(I[B)V" } : Jvm.MethodName)) ∈ lw_all := lw_g (lw_at lw_m2 52 rfl) rfl
theorem q423 : (Jvm.Cond.code ({ cls := "java/lang/StringUTF16", name := "checkIndex", desc := "(I[B)V" } : Jvm.MethodName) prog_30_method_91_code (2 : Nat) (Option.none : Option Jvm.ClassFile.FieldType)) ∈ lw_all := lw_g (lw_at lw_m2 53 rfl) rfl
theorem q424 : (Jvm.Cond.methodLink "java/lang/StringUTF16" (48 : Nat) ({ cls := "java/lang/StringUTF16", name := "length", desc := "([B)I" } : Jvm.MethodName)) ∈ lw_all := lw_g (lw_at lw_m2 54 rfl) rfl
theorem q425 : (Jvm.Cond.static ({ cls := "java/lang/StringUTF16", name := "length", desc := "([B)I" } : Jvm.MethodName)) ∈ lw_all := lw_g (lw_at lw_m2 55 rfl) rfl
theorem q426 : (Jvm.Cond.code ({ cls := "java/lang/StringUTF16", name := "length", desc := "([B)I" } : Jvm.MethodName) prog_30_method_6_code (1 : Nat) (Option.some Jvm.ClassFile.FieldType.int)) ∈ lw_all := lw_g (lw_at lw_m2 56 rfl) rfl
theorem q427 : (Jvm.Cond.methodLink "java/lang/StringUTF16" (414 : Nat) ({ cls := "java/lang/String", name := "checkIndex", desc := "(II)V" } : Jvm.MethodName)) ∈ lw_all := lw_g (lw_at lw_m2 57 rfl) rfl
theorem q428 : (Jvm.Cond.methodLink "java/lang/StringUTF16" (71 : Nat) ({ cls := "java/lang/StringUTF16", name := "getChar", desc := "([BI)C" } : Jvm.MethodName)) ∈ lw_all := lw_g (lw_at lw_m2 58 rfl) rfl
theorem q429 : (Jvm.Cond.static ({ cls := "java/lang/StringUTF16", name := "getChar", desc := "([BI)C" } : Jvm.MethodName)) ∈ lw_all := lw_g (lw_at lw_m2 59 rfl) rfl
theorem q430 : (Jvm.Cond.code ({ cls := "java/lang/StringUTF16", name := "getChar", desc := "([BI)C" } : Jvm.MethodName) prog_30_method_5_code (2 : Nat) (Option.some Jvm.ClassFile.FieldType.char)) ∈ lw_all := lw_g (lw_at lw_m2 60 rfl) rfl
theorem q431 : (Jvm.Cond.fieldLink "java/lang/StringUTF16" (44 : Nat) "java/lang/StringUTF16" "$assertionsDisabled" "Z") ∈ lw_all := lw_g (lw_at lw_m2 61 rfl) rfl
theorem q432 : (Jvm.Cond.laysStatic "java/lang/StringUTF16" "$assertionsDisabled" "Z") ∈ lw_tbl := lw_at lw_m2 62 rfl
theorem q433 : (Jvm.Cond.fieldLink "java/lang/StringUTF16" (59 : Nat) "java/lang/StringUTF16" "HI_BYTE_SHIFT" "I") ∈ lw_all := lw_g (lw_at lw_m2 63 rfl) rfl
theorem q434 : (Jvm.Cond.laysStatic "java/lang/StringUTF16" "HI_BYTE_SHIFT" "I") ∈ lw_tbl := lw_at lw_m2 64 rfl
theorem q435 : (Jvm.Cond.fieldLink "java/lang/StringUTF16" (63 : Nat) "java/lang/StringUTF16" "LO_BYTE_SHIFT" "I") ∈ lw_all := lw_g (lw_at lw_m2 65 rfl) rfl
theorem q436 : (Jvm.Cond.laysStatic "java/lang/StringUTF16" "LO_BYTE_SHIFT" "I") ∈ lw_tbl := lw_at lw_m2 66 rfl
/-! java/lang/Throwable -/
def RJ7 : String := "java/lang/Throwable"
def TJ7 : u_T := fun k => match k with
  | 0 => ("java/lang/Throwable", "cause", "Ljava/lang/Throwable;", false)
  | 1 => ("java/lang/Throwable", "stackTrace", "[Ljava/lang/StackTraceElement;", false)
  | 2 => ("java/lang/Throwable", "suppressedExceptions", "Ljava/util/List;", false)
  | 3 => ("java/lang/Throwable", "detailMessage", "Ljava/lang/String;", false)
  | _ => ("java/lang/Throwable", "backtrace", "Ljava/lang/Object;", false)
def tyJ7 : Nat → FieldType := fun k => match k with
  | 0 => .object "java/lang/Throwable"
  | 1 => .array (.object "java/lang/StackTraceElement")
  | 2 => .object "java/util/List"
  | 3 => .object "java/lang/String"
  | _ => .object "java/lang/Object"
abbrev wsJ70 : List Cond := u_ws RJ7 TJ7 5
theorem nmJ7 : ∀ a, a < 5 → ∀ b, b < 5 → a ≠ b → (TJ7 a).2.1 ≠ (TJ7 b).2.1 := by decide +kernel
theorem tyJ7_ok : ∀ k, k < 5 → parseFieldDescriptor (TJ7 k).2.2.1 = some (tyJ7 k) := by decide +kernel
abbrev cJ7_init : ByteArray := prog_32_method_1_code
def yJ7_init : MethodName := ⟨RJ7, "<init>", "()V"⟩
theorem q145 : (Jvm.Cond.initialized "java/lang/Throwable") ∈ lw_all := lw_g (lw_at lw_m1 15 rfl) rfl
theorem q451 : (Jvm.Cond.declares ({ cls := "java/lang/Throwable", name := "<init>", desc := "()V" } : Jvm.MethodName)) ∈ lw_tbl := lw_at lw_m2 81 rfl
theorem q452 : (Jvm.Cond.declares ({ cls := "java/lang/Throwable", name := "<init>", desc := "(Ljava/lang/String;)V" } : Jvm.MethodName)) ∈ lw_tbl := lw_at lw_m2 82 rfl
theorem q456 : (Jvm.Cond.lays "java/lang/Throwable" "java/lang/Throwable" "cause" "Ljava/lang/Throwable;") ∈ lw_all := lw_g (lw_at lw_m2 86 rfl) rfl
theorem q458 : (Jvm.Cond.lays "java/lang/Throwable" "java/lang/Throwable" "stackTrace" "[Ljava/lang/StackTraceElement;") ∈ lw_all := lw_g (lw_at lw_m2 88 rfl) rfl
theorem q460 : (Jvm.Cond.lays "java/lang/Throwable" "java/lang/Throwable" "suppressedExceptions" "Ljava/util/List;") ∈ lw_all := lw_g (lw_at lw_m2 90 rfl) rfl
theorem q462 : (Jvm.Cond.lays "java/lang/Throwable" "java/lang/Throwable" "detailMessage" "Ljava/lang/String;") ∈ lw_all := lw_g (lw_at lw_m2 92 rfl) rfl
theorem q464 : (Jvm.Cond.lays "java/lang/Throwable" "java/lang/Throwable" "backtrace" "Ljava/lang/Object;") ∈ lw_all := lw_g (lw_at lw_m2 94 rfl) rfl
theorem q465 : (Jvm.Cond.fieldLink "java/lang/Throwable" (198 : Nat) "java/lang/Throwable" "backtrace" "Ljava/lang/Object;") ∈ lw_all := lw_g (lw_at lw_m2 95 rfl) rfl
theorem q466 : (Jvm.Cond.superclass "java/lang/Throwable" "java/lang/Object") ∈ lw_all := lw_g (lw_at lw_m2 96 rfl) rfl
theorem q467 : (Jvm.Cond.instanceMethod ({ cls := "java/lang/Throwable", name := "<init>", desc := "()V" } : Jvm.MethodName)) ∈ lw_all := lw_g (lw_at lw_m2 97 rfl) rfl
theorem q468 : (Jvm.Cond.code ({ cls := "java/lang/Throwable", name := "<init>", desc := "()V" } : Jvm.MethodName) prog_32_method_1_code (1 : Nat) (Option.none : Option Jvm.ClassFile.FieldType)) ∈ lw_all := lw_g (lw_at lw_m2 98 rfl) rfl
theorem q469 : (Jvm.Cond.methodLink "java/lang/Throwable" (1 : Nat) ({ cls := "java/lang/Object", name := "<init>", desc := "()V" } : Jvm.MethodName)) ∈ lw_all := lw_g (lw_at lw_m2 99 rfl) rfl
theorem q470 : (Jvm.Cond.fieldLink "java/lang/Throwable" (13 : Nat) "java/lang/Throwable" "UNASSIGNED_STACK" "[Ljava/lang/StackTraceElement;") ∈ lw_all := lw_g (lw_at lw_m2 100 rfl) rfl
theorem q471 : (Jvm.Cond.laysStatic "java/lang/Throwable" "UNASSIGNED_STACK" "[Ljava/lang/StackTraceElement;") ∈ lw_tbl := lw_at lw_m2 101 rfl
theorem q472 : (Jvm.Cond.fieldLink "java/lang/Throwable" (20 : Nat) "java/lang/Throwable" "SUPPRESSED_SENTINEL" "Ljava/util/List;") ∈ lw_all := lw_g (lw_at lw_m2 102 rfl) rfl
theorem q473 : (Jvm.Cond.laysStatic "java/lang/Throwable" "SUPPRESSED_SENTINEL" "Ljava/util/List;") ∈ lw_tbl := lw_at lw_m2 103 rfl
theorem q474 : (Jvm.Cond.methodLink "java/lang/Throwable" (27 : Nat) ({ cls := "java/lang/Throwable", name := "fillInStackTrace", desc := "()Ljava/lang/Throwable;" } : Jvm.MethodName)) ∈ lw_all := lw_g (lw_at lw_m2 104 rfl) rfl
theorem q475 : (Jvm.Cond.instanceMethod ({ cls := "java/lang/Throwable", name := "fillInStackTrace", desc := "()Ljava/lang/Throwable;" } : Jvm.MethodName)) ∈ lw_all := lw_g (lw_at lw_m2 105 rfl) rfl
theorem q476 : (Jvm.Cond.sameMethod "java/lang/Throwable" "java/lang/Throwable" "fillInStackTrace" "()Ljava/lang/Throwable;") ∈ lw_all := lw_g (lw_at lw_m2 106 rfl) rfl
theorem q477 : (Jvm.Cond.codeSync ({ cls := "java/lang/Throwable", name := "fillInStackTrace", desc := "()Ljava/lang/Throwable;" } : Jvm.MethodName) prog_32_method_18_code (1 : Nat) (Option.some (Jvm.ClassFile.FieldType.object "java/lang/Throwable"))) ∈ lw_all := lw_g (lw_at lw_m2 107 rfl) rfl
theorem q478 : (Jvm.Cond.methodLink "java/lang/Throwable" (202 : Nat) ({ cls := "java/lang/Throwable", name := "fillInStackTrace", desc := "(I)Ljava/lang/Throwable;" } : Jvm.MethodName)) ∈ lw_all := lw_g (lw_at lw_m2 108 rfl) rfl
theorem q479 : (Jvm.Cond.privateMethod ({ cls := "java/lang/Throwable", name := "fillInStackTrace", desc := "(I)Ljava/lang/Throwable;" } : Jvm.MethodName)) ∈ lw_tbl := lw_at lw_m2 109 rfl
theorem q480 : (Jvm.Cond.instanceMethod ({ cls := "java/lang/Throwable", name := "fillInStackTrace", desc := "(I)Ljava/lang/Throwable;" } : Jvm.MethodName)) ∈ lw_all := lw_g (lw_at lw_m2 110 rfl) rfl
theorem q481 : (Jvm.Cond.instantiable "java/lang/Throwable" (6 : Nat)) ∈ lw_all := lw_g (lw_at lw_m2 111 rfl) rfl
theorem q482 : (Jvm.Cond.native ({ cls := "java/lang/Throwable", name := "fillInStackTrace", desc := "(I)Ljava/lang/Throwable;" } : Jvm.MethodName)) ∈ lw_all := lw_g (lw_at lw_m2 112 rfl) rfl
theorem q493 : (Jvm.Cond.fieldLink "java/lang/Throwable" (198 : Nat) "java/lang/Throwable" "backtrace" "Ljava/lang/Object;") ∈ lw_all := lw_g (lw_at lw_m2 123 rfl) rfl
theorem q494 : (Jvm.Cond.fieldLink "java/lang/Throwable" (7 : Nat) "java/lang/Throwable" "cause" "Ljava/lang/Throwable;") ∈ lw_all := lw_g (lw_at lw_m2 124 rfl) rfl
theorem q495 : (Jvm.Cond.fieldLink "java/lang/Throwable" (17 : Nat) "java/lang/Throwable" "stackTrace" "[Ljava/lang/StackTraceElement;") ∈ lw_all := lw_g (lw_at lw_m2 125 rfl) rfl
theorem q496 : (Jvm.Cond.fieldLink "java/lang/Throwable" (24 : Nat) "java/lang/Throwable" "suppressedExceptions" "Ljava/util/List;") ∈ lw_all := lw_g (lw_at lw_m2 126 rfl) rfl
theorem q497 : (Jvm.Cond.soleField "java/lang/Throwable" "backtrace") ∈ lw_all := lw_g (lw_at lw_m2 127 rfl) rfl
theorem q498 : (Jvm.Cond.soleField "java/lang/Throwable" "detailMessage") ∈ lw_all := lw_g (lw_at lw_m2 128 rfl) rfl
theorem q499 : (Jvm.Cond.soleField "java/lang/Throwable" "cause") ∈ lw_all := lw_g (lw_at lw_m2 129 rfl) rfl
theorem q500 : (Jvm.Cond.soleField "java/lang/Throwable" "stackTrace") ∈ lw_all := lw_g (lw_at lw_m2 130 rfl) rfl
theorem q502 : (Jvm.Cond.soleField "java/lang/Throwable" "depth") ∈ lw_all := lw_g (lw_at lw_m2 132 rfl) rfl
theorem q503 : (Jvm.Cond.soleField "java/lang/Throwable" "suppressedExceptions") ∈ lw_all := lw_g (lw_at lw_m2 133 rfl) rfl
theorem q2031 : (Jvm.Cond.sameMethod "java/lang/Throwable" "java/lang/Throwable" "fillInStackTrace" "(I)Ljava/lang/Throwable;") ∈ lw_all := lw_g (lw_at lw_m8 221 rfl) rfl
theorem q2049 : (Jvm.Cond.castable "java/lang/Throwable" "java/lang/Object") ∈ lw_tbl := lw_at lw_m8 239 rfl
theorem in_J7 : ∀ w ∈ wsJ70, w ∈ lw_all := lw_in wsJ70 [456, 458, 460, 462, 464] (by decide +kernel) (by decide +kernel)
/-! java/lang/Exception -/
def RJ8 : String := "java/lang/Exception"
abbrev cJ8_init : ByteArray := prog_22_method_1_code
def yJ8_init : MethodName := ⟨RJ8, "<init>", "()V"⟩
theorem q146 : (Jvm.Cond.initialized "java/lang/Exception") ∈ lw_all := lw_g (lw_at lw_m1 16 rfl) rfl
theorem q449 : (Jvm.Cond.declares ({ cls := "java/lang/Exception", name := "<init>", desc := "()V" } : Jvm.MethodName)) ∈ lw_tbl := lw_at lw_m2 79 rfl
theorem q450 : (Jvm.Cond.declares ({ cls := "java/lang/Exception", name := "<init>", desc := "(Ljava/lang/String;)V" } : Jvm.MethodName)) ∈ lw_tbl := lw_at lw_m2 80 rfl
theorem q490 : (Jvm.Cond.instanceMethod ({ cls := "java/lang/Exception", name := "<init>", desc := "()V" } : Jvm.MethodName)) ∈ lw_all := lw_g (lw_at lw_m2 120 rfl) rfl
theorem q491 : (Jvm.Cond.code ({ cls := "java/lang/Exception", name := "<init>", desc := "()V" } : Jvm.MethodName) prog_22_method_1_code (1 : Nat) (Option.none : Option Jvm.ClassFile.FieldType)) ∈ lw_all := lw_g (lw_at lw_m2 121 rfl) rfl
theorem q492 : (Jvm.Cond.methodLink "java/lang/Exception" (1 : Nat) ({ cls := "java/lang/Throwable", name := "<init>", desc := "()V" } : Jvm.MethodName)) ∈ lw_all := lw_g (lw_at lw_m2 122 rfl) rfl
/-! java/lang/RuntimeException -/
def RJ9 : String := "java/lang/RuntimeException"
abbrev cJ9_init : ByteArray := prog_27_method_1_code
def yJ9_init : MethodName := ⟨RJ9, "<init>", "()V"⟩
theorem q147 : (Jvm.Cond.initialized "java/lang/RuntimeException") ∈ lw_all := lw_g (lw_at lw_m1 17 rfl) rfl
theorem q447 : (Jvm.Cond.declares ({ cls := "java/lang/RuntimeException", name := "<init>", desc := "()V" } : Jvm.MethodName)) ∈ lw_tbl := lw_at lw_m2 77 rfl
theorem q448 : (Jvm.Cond.declares ({ cls := "java/lang/RuntimeException", name := "<init>", desc := "(Ljava/lang/String;)V" } : Jvm.MethodName)) ∈ lw_tbl := lw_at lw_m2 78 rfl
theorem q487 : (Jvm.Cond.instanceMethod ({ cls := "java/lang/RuntimeException", name := "<init>", desc := "()V" } : Jvm.MethodName)) ∈ lw_all := lw_g (lw_at lw_m2 117 rfl) rfl
theorem q488 : (Jvm.Cond.code ({ cls := "java/lang/RuntimeException", name := "<init>", desc := "()V" } : Jvm.MethodName) prog_27_method_1_code (1 : Nat) (Option.none : Option Jvm.ClassFile.FieldType)) ∈ lw_all := lw_g (lw_at lw_m2 118 rfl) rfl
theorem q489 : (Jvm.Cond.methodLink "java/lang/RuntimeException" (1 : Nat) ({ cls := "java/lang/Exception", name := "<init>", desc := "()V" } : Jvm.MethodName)) ∈ lw_all := lw_g (lw_at lw_m2 119 rfl) rfl
/-! the law's own entry -/
abbrev cL_law : ByteArray := code
/-! WireSchemas -/
def RX0 : String := "WireSchemas"
def TX0 : u_T := fun k => match k with
  | 0 => ("WireSchemas", "tape", "[B", true)
  | 1 => ("WireSchemas", "input", "[B", true)
  | 2 => ("WireSchemas", "taped", "I", false)
  | 3 => ("WireSchemas", "size", "I", false)
  | 4 => ("WireSchemas", "schema", "LWireSchemas$Schema;", false)
  | 5 => ("WireSchemas", "out", "LWireSchemas$Row;", false)
  | _ => ("WireSchemas", "other", "LWireSchemas$Row;", false)
def tyX0 : Nat → FieldType := fun k => match k with
  | 0 => .array .byte
  | 1 => .array .byte
  | 2 => .int
  | 3 => .int
  | 4 => .object "WireSchemas$Schema"
  | 5 => .object "WireSchemas$Row"
  | _ => .object "WireSchemas$Row"
abbrev wsX00 : List Cond := u_ws RX0 TX0 7
theorem nmX0 : ∀ a, a < 7 → ∀ b, b < 7 → a ≠ b → (TX0 a).2.1 ≠ (TX0 b).2.1 := by decide +kernel
theorem tyX0_ok : ∀ k, k < 7 → parseFieldDescriptor (TX0 k).2.2.1 = some (tyX0 k) := by decide +kernel
abbrev cX0_init : ByteArray := prog_1_method_1_code
def yX0_init : MethodName := ⟨RX0, "<init>", "()V"⟩
abbrev cX0_feed : ByteArray := prog_1_method_3_code
def yX0_feed : MethodName := ⟨RX0, "feed", "(IIIII)Z"⟩
abbrev cX0_putFour : ByteArray := prog_1_method_2_code
def yX0_putFour : MethodName := ⟨RX0, "putFour", "(I)V"⟩
abbrev cX0_end : ByteArray := prog_1_method_4_code
def yX0_end : MethodName := ⟨RX0, "end", "(I)Z"⟩
abbrev cX0_schema : ByteArray := prog_1_method_5_code
def yX0_schema : MethodName := ⟨RX0, "schema", "()I"⟩
abbrev cX0_count : ByteArray := prog_1_method_6_code
def yX0_count : MethodName := ⟨RX0, "count", "(I)I"⟩
abbrev cX0_field : ByteArray := prog_1_method_8_code
def yX0_field : MethodName := ⟨RX0, "field", "(II)I"⟩
abbrev cX0_isField : ByteArray := prog_1_method_7_code
def yX0_isField : MethodName := ⟨RX0, "isField", "(I)Z"⟩
abbrev cX0_letter : ByteArray := prog_1_method_9_code
def yX0_letter : MethodName := ⟨RX0, "letter", "(II)I"⟩
abbrev cX0_toJson : ByteArray := prog_1_method_14_code
def yX0_toJson : MethodName := ⟨RX0, "toJson", "(I)I"⟩
abbrev cX0_isMessage : ByteArray := prog_1_method_10_code
def yX0_isMessage : MethodName := ⟨RX0, "isMessage", "(I)Z"⟩
abbrev cX0_json : ByteArray := prog_1_method_11_code
def yX0_json : MethodName := ⟨RX0, "json", "(LWireSchemas$MessageType;)LWireSchemas$Row;"⟩
abbrev cX0_tell : ByteArray := prog_1_method_13_code
def yX0_tell : MethodName := ⟨RX0, "tell", "(LWireSchemas$Row;I)I"⟩
abbrev cX0_toWire : ByteArray := prog_1_method_15_code
def yX0_toWire : MethodName := ⟨RX0, "toWire", "(I)I"⟩
abbrev cX0_wire : ByteArray := prog_1_method_12_code
def yX0_wire : MethodName := ⟨RX0, "wire", "(LWireSchemas$MessageType;)LWireSchemas$Row;"⟩
abbrev cX0_turn : ByteArray := prog_1_method_16_code
def yX0_turn : MethodName := ⟨RX0, "turn", "()Z"⟩
abbrev cX0_output : ByteArray := prog_1_method_17_code
def yX0_output : MethodName := ⟨RX0, "output", "(I)I"⟩
theorem q131 : (Jvm.Cond.initialized "WireSchemas") ∈ lw_all := lw_g (lw_at lw_m1 1 rfl) rfl
theorem q167 : (Jvm.Cond.instantiable "WireSchemas" (7 : Nat)) ∈ lw_all := lw_g (lw_at lw_m1 37 rfl) rfl
theorem q169 : (Jvm.Cond.instanceMethod ({ cls := "WireSchemas", name := "<init>", desc := "()V" } : Jvm.MethodName)) ∈ lw_all := lw_g (lw_at lw_m1 39 rfl) rfl
theorem q170 : (Jvm.Cond.code ({ cls := "WireSchemas", name := "<init>", desc := "()V" } : Jvm.MethodName) prog_1_method_1_code (1 : Nat) (Option.none : Option Jvm.ClassFile.FieldType)) ∈ lw_all := lw_g (lw_at lw_m1 40 rfl) rfl
theorem q171 : (Jvm.Cond.methodLink "WireSchemas" (1 : Nat) ({ cls := "java/lang/Object", name := "<init>", desc := "()V" } : Jvm.MethodName)) ∈ lw_all := lw_g (lw_at lw_m1 41 rfl) rfl
theorem q174 : (Jvm.Cond.classLink "WireSchemas" (16 : Nat) "WireSchemas$Schema") ∈ lw_all := lw_g (lw_at lw_m1 44 rfl) rfl
theorem q176 : (Jvm.Cond.methodLinkNest "WireSchemas" (18 : Nat) ({ cls := "WireSchemas$Schema", name := "<init>", desc := "()V" } : Jvm.MethodName) "WireSchemas") ∈ lw_tbl := lw_at lw_m1 46 rfl
theorem q238 : (Jvm.Cond.fieldLinkNest "WireSchemas" (70 : Nat) "WireSchemas$Schema" "messages" "Ljava/util/ArrayList;" "WireSchemas") ∈ lw_tbl := lw_at lw_m1 108 rfl
theorem q241 : (Jvm.Cond.fieldLinkNest "WireSchemas" (78 : Nat) "WireSchemas$Schema" "enums" "Ljava/util/ArrayList;" "WireSchemas") ∈ lw_tbl := lw_at lw_m1 111 rfl
theorem q245 : (Jvm.Cond.fieldLinkNest "WireSchemas" (81 : Nat) "WireSchemas$Schema" "fields" "Ljava/util/ArrayList;" "WireSchemas") ∈ lw_tbl := lw_at lw_m1 115 rfl
theorem q266 : (Jvm.Cond.classLink "WireSchemas" (23 : Nat) "WireSchemas$Row") ∈ lw_all := lw_g (lw_at lw_m1 136 rfl) rfl
theorem q268 : (Jvm.Cond.methodLinkNest "WireSchemas" (25 : Nat) ({ cls := "WireSchemas$Row", name := "<init>", desc := "()V" } : Jvm.MethodName) "WireSchemas") ∈ lw_tbl := lw_at lw_m1 138 rfl
theorem q276 : (Jvm.Cond.fieldLinkNest "WireSchemas" (184 : Nat) "WireSchemas$Row" "cells" "[B" "WireSchemas") ∈ lw_tbl := lw_at lw_m1 146 rfl
theorem q284 : (Jvm.Cond.fieldLinkNest "WireSchemas" (130 : Nat) "WireSchemas$Row" "size" "I" "WireSchemas") ∈ lw_tbl := lw_at lw_m1 154 rfl
theorem q290 : (Jvm.Cond.fieldLink "WireSchemas" (9 : Nat) "WireSchemas" "tape" "[B") ∈ lw_all := lw_g (lw_at lw_m1 160 rfl) rfl
theorem q291 : (Jvm.Cond.fieldLink "WireSchemas" (13 : Nat) "WireSchemas" "input" "[B") ∈ lw_all := lw_g (lw_at lw_m1 161 rfl) rfl
theorem q292 : (Jvm.Cond.fieldLink "WireSchemas" (33 : Nat) "WireSchemas" "taped" "I") ∈ lw_all := lw_g (lw_at lw_m1 162 rfl) rfl
theorem q293 : (Jvm.Cond.fieldLink "WireSchemas" (47 : Nat) "WireSchemas" "size" "I") ∈ lw_all := lw_g (lw_at lw_m1 163 rfl) rfl
theorem q294 : (Jvm.Cond.fieldLink "WireSchemas" (19 : Nat) "WireSchemas" "schema" "LWireSchemas$Schema;") ∈ lw_all := lw_g (lw_at lw_m1 164 rfl) rfl
theorem q295 : (Jvm.Cond.fieldLink "WireSchemas" (26 : Nat) "WireSchemas" "out" "LWireSchemas$Row;") ∈ lw_all := lw_g (lw_at lw_m1 165 rfl) rfl
theorem q296 : (Jvm.Cond.fieldLink "WireSchemas" (30 : Nat) "WireSchemas" "other" "LWireSchemas$Row;") ∈ lw_all := lw_g (lw_at lw_m1 166 rfl) rfl
theorem q297 : (Jvm.Cond.laysFinal "WireSchemas" "WireSchemas" "tape" "[B") ∈ lw_all := lw_g (lw_at lw_m1 167 rfl) rfl
theorem q298 : (Jvm.Cond.soleField "WireSchemas" "tape") ∈ lw_all := lw_g (lw_at lw_m1 168 rfl) rfl
theorem q299 : (Jvm.Cond.laysFinal "WireSchemas" "WireSchemas" "input" "[B") ∈ lw_all := lw_g (lw_at lw_m1 169 rfl) rfl
theorem q300 : (Jvm.Cond.soleField "WireSchemas" "input") ∈ lw_all := lw_g (lw_at lw_m1 170 rfl) rfl
theorem q301 : (Jvm.Cond.lays "WireSchemas" "WireSchemas" "taped" "I") ∈ lw_all := lw_g (lw_at lw_m1 171 rfl) rfl
theorem q302 : (Jvm.Cond.soleField "WireSchemas" "taped") ∈ lw_all := lw_g (lw_at lw_m1 172 rfl) rfl
theorem q303 : (Jvm.Cond.lays "WireSchemas" "WireSchemas" "size" "I") ∈ lw_all := lw_g (lw_at lw_m1 173 rfl) rfl
theorem q304 : (Jvm.Cond.soleField "WireSchemas" "size") ∈ lw_all := lw_g (lw_at lw_m1 174 rfl) rfl
theorem q305 : (Jvm.Cond.lays "WireSchemas" "WireSchemas" "schema" "LWireSchemas$Schema;") ∈ lw_all := lw_g (lw_at lw_m1 175 rfl) rfl
theorem q306 : (Jvm.Cond.soleField "WireSchemas" "schema") ∈ lw_all := lw_g (lw_at lw_m1 176 rfl) rfl
theorem q307 : (Jvm.Cond.lays "WireSchemas" "WireSchemas" "out" "LWireSchemas$Row;") ∈ lw_all := lw_g (lw_at lw_m1 177 rfl) rfl
theorem q308 : (Jvm.Cond.soleField "WireSchemas" "out") ∈ lw_all := lw_g (lw_at lw_m1 178 rfl) rfl
theorem q309 : (Jvm.Cond.lays "WireSchemas" "WireSchemas" "other" "LWireSchemas$Row;") ∈ lw_all := lw_g (lw_at lw_m1 179 rfl) rfl
theorem q310 : (Jvm.Cond.soleField "WireSchemas" "other") ∈ lw_all := lw_g (lw_at lw_m1 180 rfl) rfl
theorem q311 : (Jvm.Cond.superclass "WireSchemas" "java/lang/Object") ∈ lw_all := lw_g (lw_at lw_m1 181 rfl) rfl
theorem q313 : (Jvm.Cond.instanceMethod ({ cls := "WireSchemas", name := "feed", desc := "(IIIII)Z" } : Jvm.MethodName)) ∈ lw_all := lw_g (lw_at lw_m1 183 rfl) rfl
theorem q314 : (Jvm.Cond.selects "WireSchemas" ({ cls := "WireSchemas", name := "feed", desc := "(IIIII)Z" } : Jvm.MethodName) ({ cls := "WireSchemas", name := "feed", desc := "(IIIII)Z" } : Jvm.MethodName)) ∈ lw_all := lw_g (lw_at lw_m1 184 rfl) rfl
theorem q315 : (Jvm.Cond.code ({ cls := "WireSchemas", name := "feed", desc := "(IIIII)Z" } : Jvm.MethodName) prog_1_method_3_code (6 : Nat) (Option.some Jvm.ClassFile.FieldType.boolean)) ∈ lw_all := lw_g (lw_at lw_m1 185 rfl) rfl
theorem q316 : (Jvm.Cond.methodLink "WireSchemas" (37 : Nat) ({ cls := "WireSchemas", name := "putFour", desc := "(I)V" } : Jvm.MethodName)) ∈ lw_all := lw_g (lw_at lw_m1 186 rfl) rfl
theorem q317 : (Jvm.Cond.privateMethod ({ cls := "WireSchemas", name := "putFour", desc := "(I)V" } : Jvm.MethodName)) ∈ lw_tbl := lw_at lw_m1 187 rfl
theorem q318 : (Jvm.Cond.instanceMethod ({ cls := "WireSchemas", name := "putFour", desc := "(I)V" } : Jvm.MethodName)) ∈ lw_all := lw_g (lw_at lw_m1 188 rfl) rfl
theorem q319 : (Jvm.Cond.code ({ cls := "WireSchemas", name := "putFour", desc := "(I)V" } : Jvm.MethodName) prog_1_method_2_code (3 : Nat) (Option.none : Option Jvm.ClassFile.FieldType)) ∈ lw_all := lw_g (lw_at lw_m1 189 rfl) rfl
theorem q321 : (Jvm.Cond.instanceMethod ({ cls := "WireSchemas", name := "end", desc := "(I)Z" } : Jvm.MethodName)) ∈ lw_all := lw_g (lw_at lw_m1 191 rfl) rfl
theorem q322 : (Jvm.Cond.selects "WireSchemas" ({ cls := "WireSchemas", name := "end", desc := "(I)Z" } : Jvm.MethodName) ({ cls := "WireSchemas", name := "end", desc := "(I)Z" } : Jvm.MethodName)) ∈ lw_all := lw_g (lw_at lw_m1 192 rfl) rfl
theorem q323 : (Jvm.Cond.code ({ cls := "WireSchemas", name := "end", desc := "(I)Z" } : Jvm.MethodName) prog_1_method_4_code (2 : Nat) (Option.some Jvm.ClassFile.FieldType.boolean)) ∈ lw_all := lw_g (lw_at lw_m1 193 rfl) rfl
theorem q324 : (Jvm.Cond.methodLink "WireSchemas" (41 : Nat) ({ cls := "java/lang/System", name := "arraycopy", desc := "(Ljava/lang/Object;ILjava/lang/Object;II)V" } : Jvm.MethodName)) ∈ lw_all := lw_g (lw_at lw_m1 194 rfl) rfl
theorem q328 : (Jvm.Cond.instanceMethod ({ cls := "WireSchemas", name := "schema", desc := "()I" } : Jvm.MethodName)) ∈ lw_all := lw_g (lw_at lw_m1 198 rfl) rfl
theorem q329 : (Jvm.Cond.selects "WireSchemas" ({ cls := "WireSchemas", name := "schema", desc := "()I" } : Jvm.MethodName) ({ cls := "WireSchemas", name := "schema", desc := "()I" } : Jvm.MethodName)) ∈ lw_all := lw_g (lw_at lw_m1 199 rfl) rfl
theorem q330 : (Jvm.Cond.codeWith ({ cls := "WireSchemas", name := "schema", desc := "()I" } : Jvm.MethodName) prog_1_method_5_code (3 : Nat) (Option.some Jvm.ClassFile.FieldType.int) [((11 : Nat), (30 : Nat), (33 : Nat), (59 : Nat))]) ∈ lw_all := lw_g (lw_at lw_m1 200 rfl) rfl
theorem q331 : (Jvm.Cond.classLink "WireSchemas" (59 : Nat) "java/lang/IllegalArgumentException") ∈ lw_all := lw_g (lw_at lw_m1 201 rfl) rfl
theorem q332 : (Jvm.Cond.classLink "WireSchemas" (50 : Nat) "WireSchemas$SchemaReader") ∈ lw_all := lw_g (lw_at lw_m1 202 rfl) rfl
theorem q334 : (Jvm.Cond.methodLink "WireSchemas" (52 : Nat) ({ cls := "WireSchemas$SchemaReader", name := "<init>", desc := "([BI)V" } : Jvm.MethodName)) ∈ lw_all := lw_g (lw_at lw_m1 204 rfl) rfl
theorem q362 : (Jvm.Cond.methodLink "WireSchemas" (55 : Nat) ({ cls := "WireSchemas$SchemaReader", name := "read", desc := "()LWireSchemas$Schema;" } : Jvm.MethodName)) ∈ lw_all := lw_g (lw_at lw_m1 232 rfl) rfl
theorem q553 : (Jvm.Cond.fieldLinkNest "WireSchemas" (98 : Nat) "WireSchemas$MessageType" "number" "I" "WireSchemas") ∈ lw_tbl := lw_at lw_m2 183 rfl
theorem q622 : (Jvm.Cond.selects "WireSchemas" ({ cls := "java/lang/Object", name := "getClass", desc := "()Ljava/lang/Class;" } : Jvm.MethodName) ({ cls := "java/lang/Object", name := "getClass", desc := "()Ljava/lang/Class;" } : Jvm.MethodName)) ∈ lw_all := lw_g (lw_at lw_m3 12 rfl) rfl
theorem q666 : (Jvm.Cond.fieldLinkNest "WireSchemas" (111 : Nat) "WireSchemas$EnumType" "number" "I" "WireSchemas") ∈ lw_tbl := lw_at lw_m3 56 rfl
theorem q716 : (Jvm.Cond.fieldLinkNest "WireSchemas" (94 : Nat) "WireSchemas$Field" "of" "LWireSchemas$MessageType;" "WireSchemas") ∈ lw_tbl := lw_at lw_m3 106 rfl
theorem q724 : (Jvm.Cond.fieldLinkNest "WireSchemas" (127 : Nat) "WireSchemas$Field" "json" "LWireSchemas$Row;" "WireSchemas") ∈ lw_tbl := lw_at lw_m3 114 rfl
theorem q728 : (Jvm.Cond.fieldLinkNest "WireSchemas" (103 : Nat) "WireSchemas$Field" "number" "I" "WireSchemas") ∈ lw_tbl := lw_at lw_m3 118 rfl
theorem q735 : (Jvm.Cond.fieldLinkNest "WireSchemas" (114 : Nat) "WireSchemas$Field" "kind" "I" "WireSchemas") ∈ lw_tbl := lw_at lw_m3 125 rfl
theorem q739 : (Jvm.Cond.fieldLinkNest "WireSchemas" (124 : Nat) "WireSchemas$Field" "oneof" "I" "WireSchemas") ∈ lw_tbl := lw_at lw_m3 129 rfl
theorem q747 : (Jvm.Cond.fieldLinkNest "WireSchemas" (117 : Nat) "WireSchemas$Field" "repeated" "Z" "WireSchemas") ∈ lw_tbl := lw_at lw_m3 137 rfl
theorem q751 : (Jvm.Cond.fieldLinkNest "WireSchemas" (121 : Nat) "WireSchemas$Field" "optional" "Z" "WireSchemas") ∈ lw_tbl := lw_at lw_m3 141 rfl
theorem q756 : (Jvm.Cond.fieldLinkNest "WireSchemas" (104 : Nat) "WireSchemas$Field" "message" "LWireSchemas$MessageType;" "WireSchemas") ∈ lw_tbl := lw_at lw_m3 146 rfl
theorem q760 : (Jvm.Cond.fieldLinkNest "WireSchemas" (107 : Nat) "WireSchemas$Field" "enumType" "LWireSchemas$EnumType;" "WireSchemas") ∈ lw_tbl := lw_at lw_m3 150 rfl
theorem q813 : (Jvm.Cond.classLink "WireSchemas" (61 : Nat) "WireSchemas$Checker") ∈ lw_all := lw_g (lw_at lw_m3 203 rfl) rfl
theorem q815 : (Jvm.Cond.methodLink "WireSchemas" (63 : Nat) ({ cls := "WireSchemas$Checker", name := "<init>", desc := "(LWireSchemas$Schema;)V" } : Jvm.MethodName)) ∈ lw_all := lw_g (lw_at lw_m3 205 rfl) rfl
theorem q823 : (Jvm.Cond.methodLink "WireSchemas" (66 : Nat) ({ cls := "WireSchemas$Checker", name := "fault", desc := "()I" } : Jvm.MethodName)) ∈ lw_all := lw_g (lw_at lw_m3 213 rfl) rfl
theorem q907 : (Jvm.Cond.instanceMethod ({ cls := "WireSchemas", name := "count", desc := "(I)I" } : Jvm.MethodName)) ∈ lw_all := lw_g (lw_at lw_m4 57 rfl) rfl
theorem q908 : (Jvm.Cond.selects "WireSchemas" ({ cls := "WireSchemas", name := "count", desc := "(I)I" } : Jvm.MethodName) ({ cls := "WireSchemas", name := "count", desc := "(I)I" } : Jvm.MethodName)) ∈ lw_all := lw_g (lw_at lw_m4 58 rfl) rfl
theorem q909 : (Jvm.Cond.code ({ cls := "WireSchemas", name := "count", desc := "(I)I" } : Jvm.MethodName) prog_1_method_6_code (2 : Nat) (Option.some Jvm.ClassFile.FieldType.int)) ∈ lw_all := lw_g (lw_at lw_m4 59 rfl) rfl
theorem q910 : (Jvm.Cond.methodLink "WireSchemas" (74 : Nat) ({ cls := "java/util/ArrayList", name := "size", desc := "()I" } : Jvm.MethodName)) ∈ lw_all := lw_g (lw_at lw_m4 60 rfl) rfl
theorem q912 : (Jvm.Cond.instanceMethod ({ cls := "WireSchemas", name := "field", desc := "(II)I" } : Jvm.MethodName)) ∈ lw_all := lw_g (lw_at lw_m4 62 rfl) rfl
theorem q913 : (Jvm.Cond.selects "WireSchemas" ({ cls := "WireSchemas", name := "field", desc := "(II)I" } : Jvm.MethodName) ({ cls := "WireSchemas", name := "field", desc := "(II)I" } : Jvm.MethodName)) ∈ lw_all := lw_g (lw_at lw_m4 63 rfl) rfl
theorem q914 : (Jvm.Cond.code ({ cls := "WireSchemas", name := "field", desc := "(II)I" } : Jvm.MethodName) prog_1_method_8_code (4 : Nat) (Option.some Jvm.ClassFile.FieldType.int)) ∈ lw_all := lw_g (lw_at lw_m4 64 rfl) rfl
theorem q915 : (Jvm.Cond.methodLink "WireSchemas" (84 : Nat) ({ cls := "WireSchemas", name := "isField", desc := "(I)Z" } : Jvm.MethodName)) ∈ lw_all := lw_g (lw_at lw_m4 65 rfl) rfl
theorem q916 : (Jvm.Cond.privateMethod ({ cls := "WireSchemas", name := "isField", desc := "(I)Z" } : Jvm.MethodName)) ∈ lw_tbl := lw_at lw_m4 66 rfl
theorem q917 : (Jvm.Cond.instanceMethod ({ cls := "WireSchemas", name := "isField", desc := "(I)Z" } : Jvm.MethodName)) ∈ lw_all := lw_g (lw_at lw_m4 67 rfl) rfl
theorem q918 : (Jvm.Cond.code ({ cls := "WireSchemas", name := "isField", desc := "(I)Z" } : Jvm.MethodName) prog_1_method_7_code (2 : Nat) (Option.some Jvm.ClassFile.FieldType.boolean)) ∈ lw_all := lw_g (lw_at lw_m4 68 rfl) rfl
theorem q919 : (Jvm.Cond.methodLink "WireSchemas" (88 : Nat) ({ cls := "java/util/ArrayList", name := "get", desc := "(I)Ljava/lang/Object;" } : Jvm.MethodName)) ∈ lw_all := lw_g (lw_at lw_m4 69 rfl) rfl
theorem q920 : (Jvm.Cond.classLink "WireSchemas" (92 : Nat) "WireSchemas$Field") ∈ lw_all := lw_g (lw_at lw_m4 70 rfl) rfl
theorem q922 : (Jvm.Cond.instanceMethod ({ cls := "WireSchemas", name := "letter", desc := "(II)I" } : Jvm.MethodName)) ∈ lw_all := lw_g (lw_at lw_m4 72 rfl) rfl
theorem q923 : (Jvm.Cond.selects "WireSchemas" ({ cls := "WireSchemas", name := "letter", desc := "(II)I" } : Jvm.MethodName) ({ cls := "WireSchemas", name := "letter", desc := "(II)I" } : Jvm.MethodName)) ∈ lw_all := lw_g (lw_at lw_m4 73 rfl) rfl
theorem q924 : (Jvm.Cond.code ({ cls := "WireSchemas", name := "letter", desc := "(II)I" } : Jvm.MethodName) prog_1_method_9_code (3 : Nat) (Option.some Jvm.ClassFile.FieldType.int)) ∈ lw_all := lw_g (lw_at lw_m4 74 rfl) rfl
theorem q925 : (Jvm.Cond.methodLink "WireSchemas" (131 : Nat) ({ cls := "WireSchemas$Row", name := "at", desc := "(I)I" } : Jvm.MethodName)) ∈ lw_all := lw_g (lw_at lw_m4 75 rfl) rfl
theorem q927 : (Jvm.Cond.instanceMethod ({ cls := "WireSchemas", name := "toJson", desc := "(I)I" } : Jvm.MethodName)) ∈ lw_all := lw_g (lw_at lw_m4 77 rfl) rfl
theorem q928 : (Jvm.Cond.selects "WireSchemas" ({ cls := "WireSchemas", name := "toJson", desc := "(I)I" } : Jvm.MethodName) ({ cls := "WireSchemas", name := "toJson", desc := "(I)I" } : Jvm.MethodName)) ∈ lw_all := lw_g (lw_at lw_m4 78 rfl) rfl
theorem q929 : (Jvm.Cond.code ({ cls := "WireSchemas", name := "toJson", desc := "(I)I" } : Jvm.MethodName) prog_1_method_14_code (2 : Nat) (Option.some Jvm.ClassFile.FieldType.int)) ∈ lw_all := lw_g (lw_at lw_m4 79 rfl) rfl
theorem q930 : (Jvm.Cond.methodLink "WireSchemas" (168 : Nat) ({ cls := "WireSchemas", name := "isMessage", desc := "(I)Z" } : Jvm.MethodName)) ∈ lw_all := lw_g (lw_at lw_m4 80 rfl) rfl
theorem q931 : (Jvm.Cond.privateMethod ({ cls := "WireSchemas", name := "isMessage", desc := "(I)Z" } : Jvm.MethodName)) ∈ lw_tbl := lw_at lw_m4 81 rfl
theorem q932 : (Jvm.Cond.instanceMethod ({ cls := "WireSchemas", name := "isMessage", desc := "(I)Z" } : Jvm.MethodName)) ∈ lw_all := lw_g (lw_at lw_m4 82 rfl) rfl
theorem q933 : (Jvm.Cond.code ({ cls := "WireSchemas", name := "isMessage", desc := "(I)Z" } : Jvm.MethodName) prog_1_method_10_code (2 : Nat) (Option.some Jvm.ClassFile.FieldType.boolean)) ∈ lw_all := lw_g (lw_at lw_m4 83 rfl) rfl
theorem q934 : (Jvm.Cond.classLink "WireSchemas" (99 : Nat) "WireSchemas$MessageType") ∈ lw_all := lw_g (lw_at lw_m4 84 rfl) rfl
theorem q935 : (Jvm.Cond.methodLink "WireSchemas" (171 : Nat) ({ cls := "WireSchemas", name := "json", desc := "(LWireSchemas$MessageType;)LWireSchemas$Row;" } : Jvm.MethodName)) ∈ lw_all := lw_g (lw_at lw_m4 85 rfl) rfl
theorem q936 : (Jvm.Cond.privateMethod ({ cls := "WireSchemas", name := "json", desc := "(LWireSchemas$MessageType;)LWireSchemas$Row;" } : Jvm.MethodName)) ∈ lw_tbl := lw_at lw_m4 86 rfl
theorem q937 : (Jvm.Cond.instanceMethod ({ cls := "WireSchemas", name := "json", desc := "(LWireSchemas$MessageType;)LWireSchemas$Row;" } : Jvm.MethodName)) ∈ lw_all := lw_g (lw_at lw_m4 87 rfl) rfl
theorem q938 : (Jvm.Cond.codeWith ({ cls := "WireSchemas", name := "json", desc := "(LWireSchemas$MessageType;)LWireSchemas$Row;" } : Jvm.MethodName) prog_1_method_11_code (4 : Nat) (Option.some (Jvm.ClassFile.FieldType.object "WireSchemas$Row")) [((9 : Nat), (29 : Nat), (32 : Nat), (59 : Nat))]) ∈ lw_all := lw_g (lw_at lw_m4 88 rfl) rfl
theorem q939 : (Jvm.Cond.classLink "WireSchemas" (135 : Nat) "WireSchemas$Value") ∈ lw_all := lw_g (lw_at lw_m4 89 rfl) rfl
theorem q941 : (Jvm.Cond.methodLink "WireSchemas" (137 : Nat) ({ cls := "WireSchemas$Value", name := "<init>", desc := "(LWireSchemas$MessageType;)V" } : Jvm.MethodName)) ∈ lw_all := lw_g (lw_at lw_m4 91 rfl) rfl
theorem q964 : (Jvm.Cond.classLink "WireSchemas" (140 : Nat) "WireSchemas$WireReader") ∈ lw_all := lw_g (lw_at lw_m4 114 rfl) rfl
theorem q966 : (Jvm.Cond.methodLink "WireSchemas" (142 : Nat) ({ cls := "WireSchemas$WireReader", name := "<init>", desc := "([B)V" } : Jvm.MethodName)) ∈ lw_all := lw_g (lw_at lw_m4 116 rfl) rfl
theorem q977 : (Jvm.Cond.methodLinkNest "WireSchemas" (145 : Nat) ({ cls := "WireSchemas$WireReader", name := "read", desc := "(LWireSchemas$WireReader;LWireSchemas$Value;II)V" } : Jvm.MethodName) "WireSchemas") ∈ lw_tbl := lw_at lw_m4 127 rfl
theorem q1098 : (Jvm.Cond.methodLink "WireSchemas" (148 : Nat) ({ cls := "WireSchemas$Row", name := "clear", desc := "()V" } : Jvm.MethodName)) ∈ lw_all := lw_g (lw_at lw_m5 8 rfl) rfl
theorem q1102 : (Jvm.Cond.methodLink "WireSchemas" (151 : Nat) ({ cls := "WireSchemas$JsonWriter", name := "write", desc := "(LWireSchemas$Row;LWireSchemas$Value;)V" } : Jvm.MethodName)) ∈ lw_all := lw_g (lw_at lw_m5 12 rfl) rfl
theorem q1161 : (Jvm.Cond.methodLink "WireSchemas" (174 : Nat) ({ cls := "WireSchemas", name := "tell", desc := "(LWireSchemas$Row;I)I" } : Jvm.MethodName)) ∈ lw_all := lw_g (lw_at lw_m5 71 rfl) rfl
theorem q1162 : (Jvm.Cond.privateMethod ({ cls := "WireSchemas", name := "tell", desc := "(LWireSchemas$Row;I)I" } : Jvm.MethodName)) ∈ lw_tbl := lw_at lw_m5 72 rfl
theorem q1163 : (Jvm.Cond.instanceMethod ({ cls := "WireSchemas", name := "tell", desc := "(LWireSchemas$Row;I)I" } : Jvm.MethodName)) ∈ lw_all := lw_g (lw_at lw_m5 73 rfl) rfl
theorem q1164 : (Jvm.Cond.code ({ cls := "WireSchemas", name := "tell", desc := "(LWireSchemas$Row;I)I" } : Jvm.MethodName) prog_1_method_13_code (3 : Nat) (Option.some Jvm.ClassFile.FieldType.int)) ∈ lw_all := lw_g (lw_at lw_m5 74 rfl) rfl
theorem q1166 : (Jvm.Cond.instanceMethod ({ cls := "WireSchemas", name := "toWire", desc := "(I)I" } : Jvm.MethodName)) ∈ lw_all := lw_g (lw_at lw_m5 76 rfl) rfl
theorem q1167 : (Jvm.Cond.selects "WireSchemas" ({ cls := "WireSchemas", name := "toWire", desc := "(I)I" } : Jvm.MethodName) ({ cls := "WireSchemas", name := "toWire", desc := "(I)I" } : Jvm.MethodName)) ∈ lw_all := lw_g (lw_at lw_m5 77 rfl) rfl
theorem q1168 : (Jvm.Cond.code ({ cls := "WireSchemas", name := "toWire", desc := "(I)I" } : Jvm.MethodName) prog_1_method_15_code (2 : Nat) (Option.some Jvm.ClassFile.FieldType.int)) ∈ lw_all := lw_g (lw_at lw_m5 78 rfl) rfl
theorem q1169 : (Jvm.Cond.methodLink "WireSchemas" (178 : Nat) ({ cls := "WireSchemas", name := "wire", desc := "(LWireSchemas$MessageType;)LWireSchemas$Row;" } : Jvm.MethodName)) ∈ lw_all := lw_g (lw_at lw_m5 79 rfl) rfl
theorem q1170 : (Jvm.Cond.privateMethod ({ cls := "WireSchemas", name := "wire", desc := "(LWireSchemas$MessageType;)LWireSchemas$Row;" } : Jvm.MethodName)) ∈ lw_tbl := lw_at lw_m5 80 rfl
theorem q1171 : (Jvm.Cond.instanceMethod ({ cls := "WireSchemas", name := "wire", desc := "(LWireSchemas$MessageType;)LWireSchemas$Row;" } : Jvm.MethodName)) ∈ lw_all := lw_g (lw_at lw_m5 81 rfl) rfl
theorem q1172 : (Jvm.Cond.codeWith ({ cls := "WireSchemas", name := "wire", desc := "(LWireSchemas$MessageType;)LWireSchemas$Row;" } : Jvm.MethodName) prog_1_method_12_code (4 : Nat) (Option.some (Jvm.ClassFile.FieldType.object "WireSchemas$Row")) [((0 : Nat), (20 : Nat), (23 : Nat), (59 : Nat))]) ∈ lw_all := lw_g (lw_at lw_m5 82 rfl) rfl
theorem q1173 : (Jvm.Cond.classLink "WireSchemas" (157 : Nat) "WireSchemas$JsonReader") ∈ lw_all := lw_g (lw_at lw_m5 83 rfl) rfl
theorem q1175 : (Jvm.Cond.methodLink "WireSchemas" (159 : Nat) ({ cls := "WireSchemas$JsonReader", name := "<init>", desc := "([BI)V" } : Jvm.MethodName)) ∈ lw_all := lw_g (lw_at lw_m5 85 rfl) rfl
theorem q1216 : (Jvm.Cond.methodLink "WireSchemas" (160 : Nat) ({ cls := "WireSchemas$JsonReader", name := "read", desc := "(LWireSchemas$MessageType;)LWireSchemas$Value;" } : Jvm.MethodName)) ∈ lw_all := lw_g (lw_at lw_m5 126 rfl) rfl
theorem q1372 : (Jvm.Cond.methodLink "WireSchemas" (163 : Nat) ({ cls := "WireSchemas$WireWriter", name := "write", desc := "(LWireSchemas$Value;)LWireSchemas$Row;" } : Jvm.MethodName)) ∈ lw_all := lw_g (lw_at lw_m6 42 rfl) rfl
theorem q1403 : (Jvm.Cond.constant "WireSchemas" (183 : Nat) (2147483647 : Int32)) ∈ lw_all := lw_g (lw_at lw_m6 73 rfl) rfl
theorem q1405 : (Jvm.Cond.instanceMethod ({ cls := "WireSchemas", name := "turn", desc := "()Z" } : Jvm.MethodName)) ∈ lw_all := lw_g (lw_at lw_m6 75 rfl) rfl
theorem q1406 : (Jvm.Cond.selects "WireSchemas" ({ cls := "WireSchemas", name := "turn", desc := "()Z" } : Jvm.MethodName) ({ cls := "WireSchemas", name := "turn", desc := "()Z" } : Jvm.MethodName)) ∈ lw_all := lw_g (lw_at lw_m6 76 rfl) rfl
theorem q1407 : (Jvm.Cond.code ({ cls := "WireSchemas", name := "turn", desc := "()Z" } : Jvm.MethodName) prog_1_method_16_code (1 : Nat) (Option.some Jvm.ClassFile.FieldType.boolean)) ∈ lw_all := lw_g (lw_at lw_m6 77 rfl) rfl
theorem q1409 : (Jvm.Cond.instanceMethod ({ cls := "WireSchemas", name := "output", desc := "(I)I" } : Jvm.MethodName)) ∈ lw_all := lw_g (lw_at lw_m6 79 rfl) rfl
theorem q1410 : (Jvm.Cond.selects "WireSchemas" ({ cls := "WireSchemas", name := "output", desc := "(I)I" } : Jvm.MethodName) ({ cls := "WireSchemas", name := "output", desc := "(I)I" } : Jvm.MethodName)) ∈ lw_all := lw_g (lw_at lw_m6 80 rfl) rfl
theorem q1411 : (Jvm.Cond.code ({ cls := "WireSchemas", name := "output", desc := "(I)I" } : Jvm.MethodName) prog_1_method_17_code (2 : Nat) (Option.some Jvm.ClassFile.FieldType.int)) ∈ lw_all := lw_g (lw_at lw_m6 81 rfl) rfl
theorem q2033 : (Jvm.Cond.castable "WireSchemas" "java/lang/Object") ∈ lw_tbl := lw_at lw_m8 223 rfl
theorem in_X0 : ∀ w ∈ wsX00, w ∈ lw_all := lw_in wsX00 [297, 299, 301, 303, 305, 307, 309] (by decide +kernel) (by decide +kernel)
/-! WireSchemas$Schema -/
def RX1 : String := "WireSchemas$Schema"
def TX1 : u_T := fun k => match k with
  | 0 => ("WireSchemas$Schema", "scope", "LWireSchemas$Scope;", true)
  | 1 => ("WireSchemas$Schema", "messages", "Ljava/util/ArrayList;", true)
  | 2 => ("WireSchemas$Schema", "enums", "Ljava/util/ArrayList;", true)
  | 3 => ("WireSchemas$Schema", "fields", "Ljava/util/ArrayList;", true)
  | 4 => ("WireSchemas$Schema", "values", "I", false)
  | 5 => ("WireSchemas$Schema", "oneofs", "I", false)
  | _ => ("WireSchemas$Schema", "reserved", "I", false)
def tyX1 : Nat → FieldType := fun k => match k with
  | 0 => .object "WireSchemas$Scope"
  | 1 => .object "java/util/ArrayList"
  | 2 => .object "java/util/ArrayList"
  | 3 => .object "java/util/ArrayList"
  | 4 => .int
  | 5 => .int
  | _ => .int
abbrev wsX10 : List Cond := u_ws RX1 TX1 7
theorem nmX1 : ∀ a, a < 7 → ∀ b, b < 7 → a ≠ b → (TX1 a).2.1 ≠ (TX1 b).2.1 := by decide +kernel
theorem tyX1_ok : ∀ k, k < 7 → parseFieldDescriptor (TX1 k).2.2.1 = some (tyX1 k) := by decide +kernel
abbrev cX1_init : ByteArray := prog_10_method_1_code
def yX1_init : MethodName := ⟨RX1, "<init>", "()V"⟩
theorem q132 : (Jvm.Cond.initialized "WireSchemas$Schema") ∈ lw_all := lw_g (lw_at lw_m1 2 rfl) rfl
theorem q175 : (Jvm.Cond.instantiable "WireSchemas$Schema" (7 : Nat)) ∈ lw_all := lw_g (lw_at lw_m1 45 rfl) rfl
theorem q177 : (Jvm.Cond.instanceMethod ({ cls := "WireSchemas$Schema", name := "<init>", desc := "()V" } : Jvm.MethodName)) ∈ lw_all := lw_g (lw_at lw_m1 47 rfl) rfl
theorem q178 : (Jvm.Cond.code ({ cls := "WireSchemas$Schema", name := "<init>", desc := "()V" } : Jvm.MethodName) prog_10_method_1_code (1 : Nat) (Option.none : Option Jvm.ClassFile.FieldType)) ∈ lw_all := lw_g (lw_at lw_m1 48 rfl) rfl
theorem q179 : (Jvm.Cond.methodLink "WireSchemas$Schema" (1 : Nat) ({ cls := "java/lang/Object", name := "<init>", desc := "()V" } : Jvm.MethodName)) ∈ lw_all := lw_g (lw_at lw_m1 49 rfl) rfl
theorem q180 : (Jvm.Cond.classLink "WireSchemas$Schema" (7 : Nat) "WireSchemas$Scope") ∈ lw_all := lw_g (lw_at lw_m1 50 rfl) rfl
theorem q182 : (Jvm.Cond.methodLink "WireSchemas$Schema" (9 : Nat) ({ cls := "WireSchemas$Scope", name := "<init>", desc := "(LWireSchemas$Scope;)V" } : Jvm.MethodName)) ∈ lw_all := lw_g (lw_at lw_m1 52 rfl) rfl
theorem q231 : (Jvm.Cond.classLink "WireSchemas$Schema" (18 : Nat) "java/util/ArrayList") ∈ lw_all := lw_g (lw_at lw_m1 101 rfl) rfl
theorem q232 : (Jvm.Cond.methodLink "WireSchemas$Schema" (20 : Nat) ({ cls := "java/util/ArrayList", name := "<init>", desc := "()V" } : Jvm.MethodName)) ∈ lw_all := lw_g (lw_at lw_m1 102 rfl) rfl
theorem q233 : (Jvm.Cond.fieldLink "WireSchemas$Schema" (12 : Nat) "WireSchemas$Schema" "scope" "LWireSchemas$Scope;") ∈ lw_all := lw_g (lw_at lw_m1 103 rfl) rfl
theorem q236 : (Jvm.Cond.fieldLink "WireSchemas$Schema" (21 : Nat) "WireSchemas$Schema" "messages" "Ljava/util/ArrayList;") ∈ lw_all := lw_g (lw_at lw_m1 106 rfl) rfl
theorem q240 : (Jvm.Cond.fieldLink "WireSchemas$Schema" (25 : Nat) "WireSchemas$Schema" "enums" "Ljava/util/ArrayList;") ∈ lw_all := lw_g (lw_at lw_m1 110 rfl) rfl
theorem q244 : (Jvm.Cond.fieldLink "WireSchemas$Schema" (28 : Nat) "WireSchemas$Schema" "fields" "Ljava/util/ArrayList;") ∈ lw_all := lw_g (lw_at lw_m1 114 rfl) rfl
theorem q251 : (Jvm.Cond.laysFinal "WireSchemas$Schema" "WireSchemas$Schema" "scope" "LWireSchemas$Scope;") ∈ lw_all := lw_g (lw_at lw_m1 121 rfl) rfl
theorem q252 : (Jvm.Cond.soleField "WireSchemas$Schema" "scope") ∈ lw_all := lw_g (lw_at lw_m1 122 rfl) rfl
theorem q253 : (Jvm.Cond.laysFinal "WireSchemas$Schema" "WireSchemas$Schema" "messages" "Ljava/util/ArrayList;") ∈ lw_all := lw_g (lw_at lw_m1 123 rfl) rfl
theorem q254 : (Jvm.Cond.soleField "WireSchemas$Schema" "messages") ∈ lw_all := lw_g (lw_at lw_m1 124 rfl) rfl
theorem q255 : (Jvm.Cond.laysFinal "WireSchemas$Schema" "WireSchemas$Schema" "enums" "Ljava/util/ArrayList;") ∈ lw_all := lw_g (lw_at lw_m1 125 rfl) rfl
theorem q256 : (Jvm.Cond.soleField "WireSchemas$Schema" "enums") ∈ lw_all := lw_g (lw_at lw_m1 126 rfl) rfl
theorem q257 : (Jvm.Cond.laysFinal "WireSchemas$Schema" "WireSchemas$Schema" "fields" "Ljava/util/ArrayList;") ∈ lw_all := lw_g (lw_at lw_m1 127 rfl) rfl
theorem q258 : (Jvm.Cond.soleField "WireSchemas$Schema" "fields") ∈ lw_all := lw_g (lw_at lw_m1 128 rfl) rfl
theorem q259 : (Jvm.Cond.lays "WireSchemas$Schema" "WireSchemas$Schema" "values" "I") ∈ lw_all := lw_g (lw_at lw_m1 129 rfl) rfl
theorem q260 : (Jvm.Cond.soleField "WireSchemas$Schema" "values") ∈ lw_all := lw_g (lw_at lw_m1 130 rfl) rfl
theorem q261 : (Jvm.Cond.lays "WireSchemas$Schema" "WireSchemas$Schema" "oneofs" "I") ∈ lw_all := lw_g (lw_at lw_m1 131 rfl) rfl
theorem q262 : (Jvm.Cond.soleField "WireSchemas$Schema" "oneofs") ∈ lw_all := lw_g (lw_at lw_m1 132 rfl) rfl
theorem q263 : (Jvm.Cond.lays "WireSchemas$Schema" "WireSchemas$Schema" "reserved" "I") ∈ lw_all := lw_g (lw_at lw_m1 133 rfl) rfl
theorem q264 : (Jvm.Cond.soleField "WireSchemas$Schema" "reserved") ∈ lw_all := lw_g (lw_at lw_m1 134 rfl) rfl
theorem q265 : (Jvm.Cond.superclass "WireSchemas$Schema" "java/lang/Object") ∈ lw_all := lw_g (lw_at lw_m1 135 rfl) rfl
theorem q629 : (Jvm.Cond.selects "WireSchemas$Schema" ({ cls := "java/lang/Object", name := "getClass", desc := "()Ljava/lang/Class;" } : Jvm.MethodName) ({ cls := "java/lang/Object", name := "getClass", desc := "()Ljava/lang/Class;" } : Jvm.MethodName)) ∈ lw_all := lw_g (lw_at lw_m3 19 rfl) rfl
theorem q2034 : (Jvm.Cond.castable "WireSchemas$Schema" "java/lang/Object") ∈ lw_tbl := lw_at lw_m8 224 rfl
theorem in_X1 : ∀ w ∈ wsX10, w ∈ lw_all := lw_in wsX10 [251, 253, 255, 257, 259, 261, 263] (by decide +kernel) (by decide +kernel)
/-! WireSchemas$Value -/
def RX10 : String := "WireSchemas$Value"
def TX10 : u_T := fun k => match k with
  | 0 => ("WireSchemas$Value", "type", "LWireSchemas$MessageType;", true)
  | 1 => ("WireSchemas$Value", "singles", "LWireSchemas$Slot;", false)
  | 2 => ("WireSchemas$Value", "first", "LWireSchemas$Slot;", false)
  | _ => ("WireSchemas$Value", "last", "LWireSchemas$Slot;", false)
def tyX10 : Nat → FieldType := fun k => match k with
  | 0 => .object "WireSchemas$MessageType"
  | 1 => .object "WireSchemas$Slot"
  | 2 => .object "WireSchemas$Slot"
  | _ => .object "WireSchemas$Slot"
abbrev wsX100 : List Cond := u_ws RX10 TX10 4
theorem nmX10 : ∀ a, a < 4 → ∀ b, b < 4 → a ≠ b → (TX10 a).2.1 ≠ (TX10 b).2.1 := by decide +kernel
theorem tyX10_ok : ∀ k, k < 4 → parseFieldDescriptor (TX10 k).2.2.1 = some (tyX10 k) := by decide +kernel
abbrev cX10_init : ByteArray := prog_14_method_1_code
def yX10_init : MethodName := ⟨RX10, "<init>", "(LWireSchemas$MessageType;)V"⟩
abbrev cX10_put : ByteArray := prog_14_method_5_code
def yX10_put : MethodName := ⟨RX10, "put", "(LWireSchemas$Slot;)V"⟩
abbrev cX10_drop : ByteArray := prog_14_method_4_code
def yX10_drop : MethodName := ⟨RX10, "drop", "(LWireSchemas$Field;)V"⟩
abbrev cX10_get : ByteArray := prog_14_method_2_code
def yX10_get : MethodName := ⟨RX10, "get", "(LWireSchemas$Field;)LWireSchemas$Slot;"⟩
abbrev cX10_of : ByteArray := prog_14_method_3_code
def yX10_of : MethodName := ⟨RX10, "of", "(LWireSchemas$Field;LWireSchemas$Slot;)LWireSchemas$Slot;"⟩
abbrev cX10_hasOther : ByteArray := prog_14_method_6_code
def yX10_hasOther : MethodName := ⟨RX10, "hasOther", "(LWireSchemas$Field;)Z"⟩
theorem q157 : (Jvm.Cond.initialized "WireSchemas$Value") ∈ lw_all := lw_g (lw_at lw_m1 27 rfl) rfl
theorem q633 : (Jvm.Cond.selects "WireSchemas$Value" ({ cls := "java/lang/Object", name := "getClass", desc := "()Ljava/lang/Class;" } : Jvm.MethodName) ({ cls := "java/lang/Object", name := "getClass", desc := "()Ljava/lang/Class;" } : Jvm.MethodName)) ∈ lw_all := lw_g (lw_at lw_m3 23 rfl) rfl
theorem q738 : (Jvm.Cond.fieldLinkNest "WireSchemas$Value" (26 : Nat) "WireSchemas$Field" "oneof" "I" "WireSchemas") ∈ lw_tbl := lw_at lw_m3 128 rfl
theorem q743 : (Jvm.Cond.fieldLinkNest "WireSchemas$Value" (32 : Nat) "WireSchemas$Field" "repeated" "Z" "WireSchemas") ∈ lw_tbl := lw_at lw_m3 133 rfl
theorem q940 : (Jvm.Cond.instantiable "WireSchemas$Value" (4 : Nat)) ∈ lw_all := lw_g (lw_at lw_m4 90 rfl) rfl
theorem q942 : (Jvm.Cond.instanceMethod ({ cls := "WireSchemas$Value", name := "<init>", desc := "(LWireSchemas$MessageType;)V" } : Jvm.MethodName)) ∈ lw_all := lw_g (lw_at lw_m4 92 rfl) rfl
theorem q943 : (Jvm.Cond.code ({ cls := "WireSchemas$Value", name := "<init>", desc := "(LWireSchemas$MessageType;)V" } : Jvm.MethodName) prog_14_method_1_code (2 : Nat) (Option.none : Option Jvm.ClassFile.FieldType)) ∈ lw_all := lw_g (lw_at lw_m4 93 rfl) rfl
theorem q944 : (Jvm.Cond.methodLink "WireSchemas$Value" (1 : Nat) ({ cls := "java/lang/Object", name := "<init>", desc := "()V" } : Jvm.MethodName)) ∈ lw_all := lw_g (lw_at lw_m4 94 rfl) rfl
theorem q945 : (Jvm.Cond.fieldLink "WireSchemas$Value" (7 : Nat) "WireSchemas$Value" "type" "LWireSchemas$MessageType;") ∈ lw_all := lw_g (lw_at lw_m4 95 rfl) rfl
theorem q950 : (Jvm.Cond.fieldLink "WireSchemas$Value" (13 : Nat) "WireSchemas$Value" "singles" "LWireSchemas$Slot;") ∈ lw_all := lw_g (lw_at lw_m4 100 rfl) rfl
theorem q951 : (Jvm.Cond.fieldLink "WireSchemas$Value" (36 : Nat) "WireSchemas$Value" "first" "LWireSchemas$Slot;") ∈ lw_all := lw_g (lw_at lw_m4 101 rfl) rfl
theorem q954 : (Jvm.Cond.fieldLink "WireSchemas$Value" (39 : Nat) "WireSchemas$Value" "last" "LWireSchemas$Slot;") ∈ lw_all := lw_g (lw_at lw_m4 104 rfl) rfl
theorem q955 : (Jvm.Cond.laysFinal "WireSchemas$Value" "WireSchemas$Value" "type" "LWireSchemas$MessageType;") ∈ lw_all := lw_g (lw_at lw_m4 105 rfl) rfl
theorem q956 : (Jvm.Cond.soleField "WireSchemas$Value" "type") ∈ lw_all := lw_g (lw_at lw_m4 106 rfl) rfl
theorem q957 : (Jvm.Cond.lays "WireSchemas$Value" "WireSchemas$Value" "singles" "LWireSchemas$Slot;") ∈ lw_all := lw_g (lw_at lw_m4 107 rfl) rfl
theorem q958 : (Jvm.Cond.soleField "WireSchemas$Value" "singles") ∈ lw_all := lw_g (lw_at lw_m4 108 rfl) rfl
theorem q959 : (Jvm.Cond.lays "WireSchemas$Value" "WireSchemas$Value" "first" "LWireSchemas$Slot;") ∈ lw_all := lw_g (lw_at lw_m4 109 rfl) rfl
theorem q960 : (Jvm.Cond.soleField "WireSchemas$Value" "first") ∈ lw_all := lw_g (lw_at lw_m4 110 rfl) rfl
theorem q961 : (Jvm.Cond.lays "WireSchemas$Value" "WireSchemas$Value" "last" "LWireSchemas$Slot;") ∈ lw_all := lw_g (lw_at lw_m4 111 rfl) rfl
theorem q962 : (Jvm.Cond.soleField "WireSchemas$Value" "last") ∈ lw_all := lw_g (lw_at lw_m4 112 rfl) rfl
theorem q963 : (Jvm.Cond.superclass "WireSchemas$Value" "java/lang/Object") ∈ lw_all := lw_g (lw_at lw_m4 113 rfl) rfl
theorem q1018 : (Jvm.Cond.fieldLinkNest "WireSchemas$Value" (17 : Nat) "WireSchemas$Slot" "field" "LWireSchemas$Field;" "WireSchemas") ∈ lw_tbl := lw_at lw_m4 168 rfl
theorem q1036 : (Jvm.Cond.fieldLinkNest "WireSchemas$Value" (23 : Nat) "WireSchemas$Slot" "next" "LWireSchemas$Slot;" "WireSchemas") ∈ lw_tbl := lw_at lw_m4 186 rfl
theorem q1056 : (Jvm.Cond.instanceMethod ({ cls := "WireSchemas$Value", name := "put", desc := "(LWireSchemas$Slot;)V" } : Jvm.MethodName)) ∈ lw_all := lw_g (lw_at lw_m4 206 rfl) rfl
theorem q1057 : (Jvm.Cond.selects "WireSchemas$Value" ({ cls := "WireSchemas$Value", name := "put", desc := "(LWireSchemas$Slot;)V" } : Jvm.MethodName) ({ cls := "WireSchemas$Value", name := "put", desc := "(LWireSchemas$Slot;)V" } : Jvm.MethodName)) ∈ lw_all := lw_g (lw_at lw_m4 207 rfl) rfl
theorem q1058 : (Jvm.Cond.code ({ cls := "WireSchemas$Value", name := "put", desc := "(LWireSchemas$Slot;)V" } : Jvm.MethodName) prog_14_method_5_code (3 : Nat) (Option.none : Option Jvm.ClassFile.FieldType)) ∈ lw_all := lw_g (lw_at lw_m4 208 rfl) rfl
theorem q1059 : (Jvm.Cond.methodLink "WireSchemas$Value" (42 : Nat) ({ cls := "WireSchemas$Value", name := "drop", desc := "(LWireSchemas$Field;)V" } : Jvm.MethodName)) ∈ lw_all := lw_g (lw_at lw_m4 209 rfl) rfl
theorem q1060 : (Jvm.Cond.privateMethod ({ cls := "WireSchemas$Value", name := "drop", desc := "(LWireSchemas$Field;)V" } : Jvm.MethodName)) ∈ lw_tbl := lw_at lw_m4 210 rfl
theorem q1061 : (Jvm.Cond.instanceMethod ({ cls := "WireSchemas$Value", name := "drop", desc := "(LWireSchemas$Field;)V" } : Jvm.MethodName)) ∈ lw_all := lw_g (lw_at lw_m4 211 rfl) rfl
theorem q1062 : (Jvm.Cond.code ({ cls := "WireSchemas$Value", name := "drop", desc := "(LWireSchemas$Field;)V" } : Jvm.MethodName) prog_14_method_4_code (6 : Nat) (Option.none : Option Jvm.ClassFile.FieldType)) ∈ lw_all := lw_g (lw_at lw_m4 212 rfl) rfl
theorem q1063 : (Jvm.Cond.methodLink "WireSchemas$Value" (46 : Nat) ({ cls := "WireSchemas$Slot", name := "isDefault", desc := "()Z" } : Jvm.MethodName)) ∈ lw_all := lw_g (lw_at lw_m4 213 rfl) rfl
theorem q1067 : (Jvm.Cond.methodLink "WireSchemas$Value" (50 : Nat) ({ cls := "WireSchemas$Field", name := "keepsDefault", desc := "()Z" } : Jvm.MethodName)) ∈ lw_all := lw_g (lw_at lw_m4 217 rfl) rfl
theorem q1088 : (Jvm.Cond.instanceMethod ({ cls := "WireSchemas$Value", name := "get", desc := "(LWireSchemas$Field;)LWireSchemas$Slot;" } : Jvm.MethodName)) ∈ lw_all := lw_g (lw_at lw_m4 238 rfl) rfl
theorem q1089 : (Jvm.Cond.selects "WireSchemas$Value" ({ cls := "WireSchemas$Value", name := "get", desc := "(LWireSchemas$Field;)LWireSchemas$Slot;" } : Jvm.MethodName) ({ cls := "WireSchemas$Value", name := "get", desc := "(LWireSchemas$Field;)LWireSchemas$Slot;" } : Jvm.MethodName)) ∈ lw_all := lw_g (lw_at lw_m4 239 rfl) rfl
theorem q1090 : (Jvm.Cond.code ({ cls := "WireSchemas$Value", name := "get", desc := "(LWireSchemas$Field;)LWireSchemas$Slot;" } : Jvm.MethodName) prog_14_method_2_code (3 : Nat) (Option.some (Jvm.ClassFile.FieldType.object "WireSchemas$Slot"))) ∈ lw_all := lw_g (lw_at lw_m5 0 rfl) rfl
theorem q1107 : (Jvm.Cond.static ({ cls := "WireSchemas$Value", name := "of", desc := "(LWireSchemas$Field;LWireSchemas$Slot;)LWireSchemas$Slot;" } : Jvm.MethodName)) ∈ lw_all := lw_g (lw_at lw_m5 17 rfl) rfl
theorem q1108 : (Jvm.Cond.code ({ cls := "WireSchemas$Value", name := "of", desc := "(LWireSchemas$Field;LWireSchemas$Slot;)LWireSchemas$Slot;" } : Jvm.MethodName) prog_14_method_3_code (3 : Nat) (Option.some (Jvm.ClassFile.FieldType.object "WireSchemas$Slot"))) ∈ lw_all := lw_g (lw_at lw_m5 18 rfl) rfl
theorem q1291 : (Jvm.Cond.instanceMethod ({ cls := "WireSchemas$Value", name := "hasOther", desc := "(LWireSchemas$Field;)Z" } : Jvm.MethodName)) ∈ lw_all := lw_g (lw_at lw_m5 201 rfl) rfl
theorem q1292 : (Jvm.Cond.selects "WireSchemas$Value" ({ cls := "WireSchemas$Value", name := "hasOther", desc := "(LWireSchemas$Field;)Z" } : Jvm.MethodName) ({ cls := "WireSchemas$Value", name := "hasOther", desc := "(LWireSchemas$Field;)Z" } : Jvm.MethodName)) ∈ lw_all := lw_g (lw_at lw_m5 202 rfl) rfl
theorem q1293 : (Jvm.Cond.code ({ cls := "WireSchemas$Value", name := "hasOther", desc := "(LWireSchemas$Field;)Z" } : Jvm.MethodName) prog_14_method_6_code (4 : Nat) (Option.some Jvm.ClassFile.FieldType.boolean)) ∈ lw_all := lw_g (lw_at lw_m5 203 rfl) rfl
theorem q2044 : (Jvm.Cond.castable "WireSchemas$Value" "java/lang/Object") ∈ lw_tbl := lw_at lw_m8 234 rfl
theorem in_X10 : ∀ w ∈ wsX100, w ∈ lw_all := lw_in wsX100 [955, 957, 959, 961] (by decide +kernel) (by decide +kernel)
/-! WireSchemas$WireReader -/
def RX11 : String := "WireSchemas$WireReader"
def TX11 : u_T := fun k => match k with
  | 0 => ("WireSchemas$WireReader", "bytes", "[B", true)
  | _ => ("WireSchemas$WireReader", "at", "I", false)
def tyX11 : Nat → FieldType := fun k => match k with
  | 0 => .array .byte
  | _ => .int
abbrev wsX110 : List Cond := u_ws RX11 TX11 2
theorem nmX11 : ∀ a, a < 2 → ∀ b, b < 2 → a ≠ b → (TX11 a).2.1 ≠ (TX11 b).2.1 := by decide +kernel
theorem tyX11_ok : ∀ k, k < 2 → parseFieldDescriptor (TX11 k).2.2.1 = some (tyX11 k) := by decide +kernel
abbrev cX11_init : ByteArray := prog_16_method_1_code
def yX11_init : MethodName := ⟨RX11, "<init>", "([B)V"⟩
abbrev cX11_read : ByteArray := prog_16_method_9_code
def yX11_read : MethodName := ⟨RX11, "read", "(LWireSchemas$WireReader;LWireSchemas$Value;II)V"⟩
abbrev cX11_varint : ByteArray := prog_16_method_3_code
def yX11_varint : MethodName := ⟨RX11, "varint", "(I)J"⟩
abbrev cX11_must : ByteArray := prog_16_method_2_code
def yX11_must : MethodName := ⟨RX11, "must", "(Z)V"⟩
abbrev cX11_take : ByteArray := prog_16_method_8_code
def yX11_take : MethodName := ⟨RX11, "take", "(LWireSchemas$WireReader;LWireSchemas$Field;LWireSchemas$Value;II)V"⟩
abbrev cX11_number : ByteArray := prog_16_method_6_code
def yX11_number : MethodName := ⟨RX11, "number", "(LWireSchemas$Field;I)LWireSchemas$Slot;"⟩
abbrev cX11_fixed : ByteArray := prog_16_method_4_code
def yX11_fixed : MethodName := ⟨RX11, "fixed", "(II)J"⟩
abbrev cX11_length : ByteArray := prog_16_method_5_code
def yX11_length : MethodName := ⟨RX11, "length", "(I)I"⟩
abbrev cX11_skip : ByteArray := prog_16_method_7_code
def yX11_skip : MethodName := ⟨RX11, "skip", "(II)V"⟩
theorem q158 : (Jvm.Cond.initialized "WireSchemas$WireReader") ∈ lw_all := lw_g (lw_at lw_m1 28 rfl) rfl
theorem q635 : (Jvm.Cond.selects "WireSchemas$WireReader" ({ cls := "java/lang/Object", name := "getClass", desc := "()Ljava/lang/Class;" } : Jvm.MethodName) ({ cls := "java/lang/Object", name := "getClass", desc := "()Ljava/lang/Class;" } : Jvm.MethodName)) ∈ lw_all := lw_g (lw_at lw_m3 25 rfl) rfl
theorem q734 : (Jvm.Cond.fieldLinkNest "WireSchemas$WireReader" (45 : Nat) "WireSchemas$Field" "kind" "I" "WireSchemas") ∈ lw_tbl := lw_at lw_m3 124 rfl
theorem q746 : (Jvm.Cond.fieldLinkNest "WireSchemas$WireReader" (88 : Nat) "WireSchemas$Field" "repeated" "Z" "WireSchemas") ∈ lw_tbl := lw_at lw_m3 136 rfl
theorem q755 : (Jvm.Cond.fieldLinkNest "WireSchemas$WireReader" (71 : Nat) "WireSchemas$Field" "message" "LWireSchemas$MessageType;" "WireSchemas") ∈ lw_tbl := lw_at lw_m3 145 rfl
theorem q948 : (Jvm.Cond.fieldLinkNest "WireSchemas$WireReader" (110 : Nat) "WireSchemas$Value" "type" "LWireSchemas$MessageType;" "WireSchemas") ∈ lw_tbl := lw_at lw_m4 98 rfl
theorem q965 : (Jvm.Cond.instantiable "WireSchemas$WireReader" (2 : Nat)) ∈ lw_all := lw_g (lw_at lw_m4 115 rfl) rfl
theorem q967 : (Jvm.Cond.instanceMethod ({ cls := "WireSchemas$WireReader", name := "<init>", desc := "([B)V" } : Jvm.MethodName)) ∈ lw_all := lw_g (lw_at lw_m4 117 rfl) rfl
theorem q968 : (Jvm.Cond.code ({ cls := "WireSchemas$WireReader", name := "<init>", desc := "([B)V" } : Jvm.MethodName) prog_16_method_1_code (2 : Nat) (Option.none : Option Jvm.ClassFile.FieldType)) ∈ lw_all := lw_g (lw_at lw_m4 118 rfl) rfl
theorem q969 : (Jvm.Cond.methodLink "WireSchemas$WireReader" (3 : Nat) ({ cls := "java/lang/Object", name := "<init>", desc := "()V" } : Jvm.MethodName)) ∈ lw_all := lw_g (lw_at lw_m4 119 rfl) rfl
theorem q970 : (Jvm.Cond.fieldLink "WireSchemas$WireReader" (9 : Nat) "WireSchemas$WireReader" "bytes" "[B") ∈ lw_all := lw_g (lw_at lw_m4 120 rfl) rfl
theorem q971 : (Jvm.Cond.fieldLink "WireSchemas$WireReader" (18 : Nat) "WireSchemas$WireReader" "at" "I") ∈ lw_all := lw_g (lw_at lw_m4 121 rfl) rfl
theorem q972 : (Jvm.Cond.laysFinal "WireSchemas$WireReader" "WireSchemas$WireReader" "bytes" "[B") ∈ lw_all := lw_g (lw_at lw_m4 122 rfl) rfl
theorem q973 : (Jvm.Cond.soleField "WireSchemas$WireReader" "bytes") ∈ lw_all := lw_g (lw_at lw_m4 123 rfl) rfl
theorem q974 : (Jvm.Cond.lays "WireSchemas$WireReader" "WireSchemas$WireReader" "at" "I") ∈ lw_all := lw_g (lw_at lw_m4 124 rfl) rfl
theorem q975 : (Jvm.Cond.soleField "WireSchemas$WireReader" "at") ∈ lw_all := lw_g (lw_at lw_m4 125 rfl) rfl
theorem q976 : (Jvm.Cond.superclass "WireSchemas$WireReader" "java/lang/Object") ∈ lw_all := lw_g (lw_at lw_m4 126 rfl) rfl
theorem q978 : (Jvm.Cond.static ({ cls := "WireSchemas$WireReader", name := "read", desc := "(LWireSchemas$WireReader;LWireSchemas$Value;II)V" } : Jvm.MethodName)) ∈ lw_all := lw_g (lw_at lw_m4 128 rfl) rfl
theorem q979 : (Jvm.Cond.code ({ cls := "WireSchemas$WireReader", name := "read", desc := "(LWireSchemas$WireReader;LWireSchemas$Value;II)V" } : Jvm.MethodName) prog_16_method_9_code (11 : Nat) (Option.none : Option Jvm.ClassFile.FieldType)) ∈ lw_all := lw_g (lw_at lw_m4 129 rfl) rfl
theorem q980 : (Jvm.Cond.methodLink "WireSchemas$WireReader" (26 : Nat) ({ cls := "WireSchemas$WireReader", name := "varint", desc := "(I)J" } : Jvm.MethodName)) ∈ lw_all := lw_g (lw_at lw_m4 130 rfl) rfl
theorem q981 : (Jvm.Cond.privateMethod ({ cls := "WireSchemas$WireReader", name := "varint", desc := "(I)J" } : Jvm.MethodName)) ∈ lw_tbl := lw_at lw_m4 131 rfl
theorem q982 : (Jvm.Cond.instanceMethod ({ cls := "WireSchemas$WireReader", name := "varint", desc := "(I)J" } : Jvm.MethodName)) ∈ lw_all := lw_g (lw_at lw_m4 132 rfl) rfl
theorem q983 : (Jvm.Cond.code ({ cls := "WireSchemas$WireReader", name := "varint", desc := "(I)J" } : Jvm.MethodName) prog_16_method_3_code (6 : Nat) (Option.some Jvm.ClassFile.FieldType.long)) ∈ lw_all := lw_g (lw_at lw_m4 133 rfl) rfl
theorem q984 : (Jvm.Cond.methodLink "WireSchemas$WireReader" (22 : Nat) ({ cls := "WireSchemas$WireReader", name := "must", desc := "(Z)V" } : Jvm.MethodName)) ∈ lw_all := lw_g (lw_at lw_m4 134 rfl) rfl
theorem q985 : (Jvm.Cond.static ({ cls := "WireSchemas$WireReader", name := "must", desc := "(Z)V" } : Jvm.MethodName)) ∈ lw_all := lw_g (lw_at lw_m4 135 rfl) rfl
theorem q986 : (Jvm.Cond.code ({ cls := "WireSchemas$WireReader", name := "must", desc := "(Z)V" } : Jvm.MethodName) prog_16_method_2_code (1 : Nat) (Option.none : Option Jvm.ClassFile.FieldType)) ∈ lw_all := lw_g (lw_at lw_m4 136 rfl) rfl
theorem q987 : (Jvm.Cond.classLink "WireSchemas$WireReader" (15 : Nat) "java/lang/IllegalArgumentException") ∈ lw_all := lw_g (lw_at lw_m4 137 rfl) rfl
theorem q988 : (Jvm.Cond.methodLink "WireSchemas$WireReader" (17 : Nat) ({ cls := "java/lang/IllegalArgumentException", name := "<init>", desc := "()V" } : Jvm.MethodName)) ∈ lw_all := lw_g (lw_at lw_m4 138 rfl) rfl
theorem q989 : (Jvm.Cond.constantLong "WireSchemas$WireReader" (106 : Nat) (7 : Int64)) ∈ lw_all := lw_g (lw_at lw_m4 139 rfl) rfl
theorem q990 : (Jvm.Cond.constantLong "WireSchemas$WireReader" (108 : Nat) (536870911 : Int64)) ∈ lw_all := lw_g (lw_at lw_m4 140 rfl) rfl
theorem q991 : (Jvm.Cond.methodLink "WireSchemas$WireReader" (113 : Nat) ({ cls := "WireSchemas$MessageType", name := "byNumber", desc := "(J)LWireSchemas$Field;" } : Jvm.MethodName)) ∈ lw_all := lw_g (lw_at lw_m4 141 rfl) rfl
theorem q995 : (Jvm.Cond.methodLink "WireSchemas$WireReader" (35 : Nat) ({ cls := "WireSchemas$Field", name := "wire", desc := "()I" } : Jvm.MethodName)) ∈ lw_all := lw_g (lw_at lw_m4 145 rfl) rfl
theorem q1003 : (Jvm.Cond.methodLink "WireSchemas$WireReader" (119 : Nat) ({ cls := "WireSchemas$WireReader", name := "take", desc := "(LWireSchemas$WireReader;LWireSchemas$Field;LWireSchemas$Value;II)V" } : Jvm.MethodName)) ∈ lw_all := lw_g (lw_at lw_m4 153 rfl) rfl
theorem q1004 : (Jvm.Cond.static ({ cls := "WireSchemas$WireReader", name := "take", desc := "(LWireSchemas$WireReader;LWireSchemas$Field;LWireSchemas$Value;II)V" } : Jvm.MethodName)) ∈ lw_all := lw_g (lw_at lw_m4 154 rfl) rfl
theorem q1005 : (Jvm.Cond.code ({ cls := "WireSchemas$WireReader", name := "take", desc := "(LWireSchemas$WireReader;LWireSchemas$Field;LWireSchemas$Value;II)V" } : Jvm.MethodName) prog_16_method_8_code (8 : Nat) (Option.none : Option Jvm.ClassFile.FieldType)) ∈ lw_all := lw_g (lw_at lw_m4 155 rfl) rfl
theorem q1006 : (Jvm.Cond.methodLink "WireSchemas$WireReader" (58 : Nat) ({ cls := "WireSchemas$Field", name := "isPlain", desc := "()Z" } : Jvm.MethodName)) ∈ lw_all := lw_g (lw_at lw_m4 156 rfl) rfl
theorem q1007 : (Jvm.Cond.methodLink "WireSchemas$WireReader" (62 : Nat) ({ cls := "WireSchemas$WireReader", name := "number", desc := "(LWireSchemas$Field;I)LWireSchemas$Slot;" } : Jvm.MethodName)) ∈ lw_all := lw_g (lw_at lw_m4 157 rfl) rfl
theorem q1008 : (Jvm.Cond.privateMethod ({ cls := "WireSchemas$WireReader", name := "number", desc := "(LWireSchemas$Field;I)LWireSchemas$Slot;" } : Jvm.MethodName)) ∈ lw_tbl := lw_at lw_m4 158 rfl
theorem q1009 : (Jvm.Cond.instanceMethod ({ cls := "WireSchemas$WireReader", name := "number", desc := "(LWireSchemas$Field;I)LWireSchemas$Slot;" } : Jvm.MethodName)) ∈ lw_all := lw_g (lw_at lw_m4 159 rfl) rfl
theorem q1010 : (Jvm.Cond.code ({ cls := "WireSchemas$WireReader", name := "number", desc := "(LWireSchemas$Field;I)LWireSchemas$Slot;" } : Jvm.MethodName) prog_16_method_6_code (7 : Nat) (Option.some (Jvm.ClassFile.FieldType.object "WireSchemas$Slot"))) ∈ lw_all := lw_g (lw_at lw_m4 160 rfl) rfl
theorem q1011 : (Jvm.Cond.classLink "WireSchemas$WireReader" (30 : Nat) "WireSchemas$Slot") ∈ lw_all := lw_g (lw_at lw_m4 161 rfl) rfl
theorem q1013 : (Jvm.Cond.methodLink "WireSchemas$WireReader" (32 : Nat) ({ cls := "WireSchemas$Slot", name := "<init>", desc := "(LWireSchemas$Field;)V" } : Jvm.MethodName)) ∈ lw_all := lw_g (lw_at lw_m4 163 rfl) rfl
theorem q1024 : (Jvm.Cond.fieldLinkNest "WireSchemas$WireReader" (50 : Nat) "WireSchemas$Slot" "number" "J" "WireSchemas") ∈ lw_tbl := lw_at lw_m4 174 rfl
theorem q1029 : (Jvm.Cond.fieldLinkNest "WireSchemas$WireReader" (78 : Nat) "WireSchemas$Slot" "bytes" "LWireSchemas$Row;" "WireSchemas") ∈ lw_tbl := lw_at lw_m4 179 rfl
theorem q1034 : (Jvm.Cond.fieldLinkNest "WireSchemas$WireReader" (99 : Nat) "WireSchemas$Slot" "message" "LWireSchemas$Value;" "WireSchemas") ∈ lw_tbl := lw_at lw_m4 184 rfl
theorem q1050 : (Jvm.Cond.methodLink "WireSchemas$WireReader" (41 : Nat) ({ cls := "WireSchemas$WireReader", name := "fixed", desc := "(II)J" } : Jvm.MethodName)) ∈ lw_all := lw_g (lw_at lw_m4 200 rfl) rfl
theorem q1051 : (Jvm.Cond.privateMethod ({ cls := "WireSchemas$WireReader", name := "fixed", desc := "(II)J" } : Jvm.MethodName)) ∈ lw_tbl := lw_at lw_m4 201 rfl
theorem q1052 : (Jvm.Cond.instanceMethod ({ cls := "WireSchemas$WireReader", name := "fixed", desc := "(II)J" } : Jvm.MethodName)) ∈ lw_all := lw_g (lw_at lw_m4 202 rfl) rfl
theorem q1053 : (Jvm.Cond.code ({ cls := "WireSchemas$WireReader", name := "fixed", desc := "(II)J" } : Jvm.MethodName) prog_16_method_4_code (6 : Nat) (Option.some Jvm.ClassFile.FieldType.long)) ∈ lw_all := lw_g (lw_at lw_m4 203 rfl) rfl
theorem q1054 : (Jvm.Cond.constantLong "WireSchemas$WireReader" (48 : Nat) (4294967295 : Int64)) ∈ lw_all := lw_g (lw_at lw_m4 204 rfl) rfl
theorem q1055 : (Jvm.Cond.methodLink "WireSchemas$WireReader" (65 : Nat) ({ cls := "WireSchemas$Value", name := "put", desc := "(LWireSchemas$Slot;)V" } : Jvm.MethodName)) ∈ lw_all := lw_g (lw_at lw_m4 205 rfl) rfl
theorem q1071 : (Jvm.Cond.methodLink "WireSchemas$WireReader" (54 : Nat) ({ cls := "WireSchemas$WireReader", name := "length", desc := "(I)I" } : Jvm.MethodName)) ∈ lw_all := lw_g (lw_at lw_m4 221 rfl) rfl
theorem q1072 : (Jvm.Cond.privateMethod ({ cls := "WireSchemas$WireReader", name := "length", desc := "(I)I" } : Jvm.MethodName)) ∈ lw_tbl := lw_at lw_m4 222 rfl
theorem q1073 : (Jvm.Cond.instanceMethod ({ cls := "WireSchemas$WireReader", name := "length", desc := "(I)I" } : Jvm.MethodName)) ∈ lw_all := lw_g (lw_at lw_m4 223 rfl) rfl
theorem q1074 : (Jvm.Cond.code ({ cls := "WireSchemas$WireReader", name := "length", desc := "(I)I" } : Jvm.MethodName) prog_16_method_5_code (4 : Nat) (Option.some Jvm.ClassFile.FieldType.int)) ∈ lw_all := lw_g (lw_at lw_m4 224 rfl) rfl
theorem q1075 : (Jvm.Cond.classLink "WireSchemas$WireReader" (75 : Nat) "WireSchemas$Row") ∈ lw_all := lw_g (lw_at lw_m4 225 rfl) rfl
theorem q1076 : (Jvm.Cond.methodLinkNest "WireSchemas$WireReader" (77 : Nat) ({ cls := "WireSchemas$Row", name := "<init>", desc := "()V" } : Jvm.MethodName) "WireSchemas") ∈ lw_tbl := lw_at lw_m4 226 rfl
theorem q1077 : (Jvm.Cond.methodLink "WireSchemas$WireReader" (81 : Nat) ({ cls := "WireSchemas$Row", name := "addAll", desc := "([BII)V" } : Jvm.MethodName)) ∈ lw_all := lw_g (lw_at lw_m4 227 rfl) rfl
theorem q1078 : (Jvm.Cond.methodLink "WireSchemas$WireReader" (85 : Nat) ({ cls := "WireSchemas$Row", name := "isText", desc := "()Z" } : Jvm.MethodName)) ∈ lw_all := lw_g (lw_at lw_m4 228 rfl) rfl
theorem q1087 : (Jvm.Cond.methodLink "WireSchemas$WireReader" (92 : Nat) ({ cls := "WireSchemas$Value", name := "get", desc := "(LWireSchemas$Field;)LWireSchemas$Slot;" } : Jvm.MethodName)) ∈ lw_all := lw_g (lw_at lw_m4 237 rfl) rfl
theorem q1091 : (Jvm.Cond.classLink "WireSchemas$WireReader" (66 : Nat) "WireSchemas$Value") ∈ lw_all := lw_g (lw_at lw_m5 1 rfl) rfl
theorem q1092 : (Jvm.Cond.methodLink "WireSchemas$WireReader" (96 : Nat) ({ cls := "WireSchemas$Value", name := "<init>", desc := "(LWireSchemas$MessageType;)V" } : Jvm.MethodName)) ∈ lw_all := lw_g (lw_at lw_m5 2 rfl) rfl
theorem q1093 : (Jvm.Cond.methodLink "WireSchemas$WireReader" (102 : Nat) ({ cls := "WireSchemas$WireReader", name := "read", desc := "(LWireSchemas$WireReader;LWireSchemas$Value;II)V" } : Jvm.MethodName)) ∈ lw_all := lw_g (lw_at lw_m5 3 rfl) rfl
theorem q1094 : (Jvm.Cond.methodLink "WireSchemas$WireReader" (123 : Nat) ({ cls := "WireSchemas$WireReader", name := "skip", desc := "(II)V" } : Jvm.MethodName)) ∈ lw_all := lw_g (lw_at lw_m5 4 rfl) rfl
theorem q1095 : (Jvm.Cond.privateMethod ({ cls := "WireSchemas$WireReader", name := "skip", desc := "(II)V" } : Jvm.MethodName)) ∈ lw_tbl := lw_at lw_m5 5 rfl
theorem q1096 : (Jvm.Cond.instanceMethod ({ cls := "WireSchemas$WireReader", name := "skip", desc := "(II)V" } : Jvm.MethodName)) ∈ lw_all := lw_g (lw_at lw_m5 6 rfl) rfl
theorem q1097 : (Jvm.Cond.code ({ cls := "WireSchemas$WireReader", name := "skip", desc := "(II)V" } : Jvm.MethodName) prog_16_method_7_code (3 : Nat) (Option.none : Option Jvm.ClassFile.FieldType)) ∈ lw_all := lw_g (lw_at lw_m5 7 rfl) rfl
theorem q2045 : (Jvm.Cond.castable "WireSchemas$WireReader" "java/lang/Object") ∈ lw_tbl := lw_at lw_m8 235 rfl
theorem in_X11 : ∀ w ∈ wsX110, w ∈ lw_all := lw_in wsX110 [972, 974] (by decide +kernel) (by decide +kernel)
/-! WireSchemas$Slot -/
def RX12 : String := "WireSchemas$Slot"
def TX12 : u_T := fun k => match k with
  | 0 => ("WireSchemas$Slot", "field", "LWireSchemas$Field;", true)
  | 1 => ("WireSchemas$Slot", "number", "J", false)
  | 2 => ("WireSchemas$Slot", "bytes", "LWireSchemas$Row;", false)
  | 3 => ("WireSchemas$Slot", "message", "LWireSchemas$Value;", false)
  | _ => ("WireSchemas$Slot", "next", "LWireSchemas$Slot;", false)
def tyX12 : Nat → FieldType := fun k => match k with
  | 0 => .object "WireSchemas$Field"
  | 1 => .long
  | 2 => .object "WireSchemas$Row"
  | 3 => .object "WireSchemas$Value"
  | _ => .object "WireSchemas$Slot"
abbrev wsX120 : List Cond := u_ws RX12 TX12 5
theorem nmX12 : ∀ a, a < 5 → ∀ b, b < 5 → a ≠ b → (TX12 a).2.1 ≠ (TX12 b).2.1 := by decide +kernel
theorem tyX12_ok : ∀ k, k < 5 → parseFieldDescriptor (TX12 k).2.2.1 = some (tyX12 k) := by decide +kernel
abbrev cX12_init : ByteArray := prog_13_method_1_code
def yX12_init : MethodName := ⟨RX12, "<init>", "(LWireSchemas$Field;)V"⟩
abbrev cX12_isDefault : ByteArray := prog_13_method_2_code
def yX12_isDefault : MethodName := ⟨RX12, "isDefault", "()Z"⟩
theorem q159 : (Jvm.Cond.initialized "WireSchemas$Slot") ∈ lw_all := lw_g (lw_at lw_m1 29 rfl) rfl
theorem q279 : (Jvm.Cond.fieldLinkNest "WireSchemas$Slot" (25 : Nat) "WireSchemas$Row" "size" "I" "WireSchemas") ∈ lw_tbl := lw_at lw_m1 149 rfl
theorem q632 : (Jvm.Cond.selects "WireSchemas$Slot" ({ cls := "java/lang/Object", name := "getClass", desc := "()Ljava/lang/Class;" } : Jvm.MethodName) ({ cls := "java/lang/Object", name := "getClass", desc := "()Ljava/lang/Class;" } : Jvm.MethodName)) ∈ lw_all := lw_g (lw_at lw_m3 22 rfl) rfl
theorem q1012 : (Jvm.Cond.instantiable "WireSchemas$Slot" (5 : Nat)) ∈ lw_all := lw_g (lw_at lw_m4 162 rfl) rfl
theorem q1014 : (Jvm.Cond.instanceMethod ({ cls := "WireSchemas$Slot", name := "<init>", desc := "(LWireSchemas$Field;)V" } : Jvm.MethodName)) ∈ lw_all := lw_g (lw_at lw_m4 164 rfl) rfl
theorem q1015 : (Jvm.Cond.code ({ cls := "WireSchemas$Slot", name := "<init>", desc := "(LWireSchemas$Field;)V" } : Jvm.MethodName) prog_13_method_1_code (2 : Nat) (Option.none : Option Jvm.ClassFile.FieldType)) ∈ lw_all := lw_g (lw_at lw_m4 165 rfl) rfl
theorem q1016 : (Jvm.Cond.methodLink "WireSchemas$Slot" (1 : Nat) ({ cls := "java/lang/Object", name := "<init>", desc := "()V" } : Jvm.MethodName)) ∈ lw_all := lw_g (lw_at lw_m4 166 rfl) rfl
theorem q1017 : (Jvm.Cond.fieldLink "WireSchemas$Slot" (7 : Nat) "WireSchemas$Slot" "field" "LWireSchemas$Field;") ∈ lw_all := lw_g (lw_at lw_m4 167 rfl) rfl
theorem q1021 : (Jvm.Cond.fieldLink "WireSchemas$Slot" (17 : Nat) "WireSchemas$Slot" "number" "J") ∈ lw_all := lw_g (lw_at lw_m4 171 rfl) rfl
theorem q1026 : (Jvm.Cond.fieldLink "WireSchemas$Slot" (21 : Nat) "WireSchemas$Slot" "bytes" "LWireSchemas$Row;") ∈ lw_all := lw_g (lw_at lw_m4 176 rfl) rfl
theorem q1031 : (Jvm.Cond.fieldLink "WireSchemas$Slot" (13 : Nat) "WireSchemas$Slot" "message" "LWireSchemas$Value;") ∈ lw_all := lw_g (lw_at lw_m4 181 rfl) rfl
theorem q1039 : (Jvm.Cond.laysFinal "WireSchemas$Slot" "WireSchemas$Slot" "field" "LWireSchemas$Field;") ∈ lw_all := lw_g (lw_at lw_m4 189 rfl) rfl
theorem q1040 : (Jvm.Cond.soleField "WireSchemas$Slot" "field") ∈ lw_all := lw_g (lw_at lw_m4 190 rfl) rfl
theorem q1041 : (Jvm.Cond.lays "WireSchemas$Slot" "WireSchemas$Slot" "number" "J") ∈ lw_all := lw_g (lw_at lw_m4 191 rfl) rfl
theorem q1042 : (Jvm.Cond.soleField "WireSchemas$Slot" "number") ∈ lw_all := lw_g (lw_at lw_m4 192 rfl) rfl
theorem q1043 : (Jvm.Cond.lays "WireSchemas$Slot" "WireSchemas$Slot" "bytes" "LWireSchemas$Row;") ∈ lw_all := lw_g (lw_at lw_m4 193 rfl) rfl
theorem q1044 : (Jvm.Cond.soleField "WireSchemas$Slot" "bytes") ∈ lw_all := lw_g (lw_at lw_m4 194 rfl) rfl
theorem q1045 : (Jvm.Cond.lays "WireSchemas$Slot" "WireSchemas$Slot" "message" "LWireSchemas$Value;") ∈ lw_all := lw_g (lw_at lw_m4 195 rfl) rfl
theorem q1046 : (Jvm.Cond.soleField "WireSchemas$Slot" "message") ∈ lw_all := lw_g (lw_at lw_m4 196 rfl) rfl
theorem q1047 : (Jvm.Cond.lays "WireSchemas$Slot" "WireSchemas$Slot" "next" "LWireSchemas$Slot;") ∈ lw_all := lw_g (lw_at lw_m4 197 rfl) rfl
theorem q1048 : (Jvm.Cond.soleField "WireSchemas$Slot" "next") ∈ lw_all := lw_g (lw_at lw_m4 198 rfl) rfl
theorem q1049 : (Jvm.Cond.superclass "WireSchemas$Slot" "java/lang/Object") ∈ lw_all := lw_g (lw_at lw_m4 199 rfl) rfl
theorem q1064 : (Jvm.Cond.instanceMethod ({ cls := "WireSchemas$Slot", name := "isDefault", desc := "()Z" } : Jvm.MethodName)) ∈ lw_all := lw_g (lw_at lw_m4 214 rfl) rfl
theorem q1065 : (Jvm.Cond.selects "WireSchemas$Slot" ({ cls := "WireSchemas$Slot", name := "isDefault", desc := "()Z" } : Jvm.MethodName) ({ cls := "WireSchemas$Slot", name := "isDefault", desc := "()Z" } : Jvm.MethodName)) ∈ lw_all := lw_g (lw_at lw_m4 215 rfl) rfl
theorem q1066 : (Jvm.Cond.code ({ cls := "WireSchemas$Slot", name := "isDefault", desc := "()Z" } : Jvm.MethodName) prog_13_method_2_code (1 : Nat) (Option.some Jvm.ClassFile.FieldType.boolean)) ∈ lw_all := lw_g (lw_at lw_m4 216 rfl) rfl
theorem q2046 : (Jvm.Cond.castable "WireSchemas$Slot" "java/lang/Object") ∈ lw_tbl := lw_at lw_m8 236 rfl
theorem in_X12 : ∀ w ∈ wsX120, w ∈ lw_all := lw_in wsX120 [1039, 1041, 1043, 1045, 1047] (by decide +kernel) (by decide +kernel)
/-! WireSchemas$JsonWriter -/
def RX13 : String := "WireSchemas$JsonWriter"
abbrev cX13_write : ByteArray := prog_7_method_8_code
def yX13_write : MethodName := ⟨RX13, "write", "(LWireSchemas$Row;LWireSchemas$Value;)V"⟩
abbrev cX13_text : ByteArray := prog_7_method_4_code
def yX13_text : MethodName := ⟨RX13, "text", "(LWireSchemas$Row;LWireSchemas$Row;)V"⟩
abbrev cX13_control : ByteArray := prog_7_method_5_code
def yX13_control : MethodName := ⟨RX13, "control", "(LWireSchemas$Row;I)V"⟩
abbrev cX13_row : ByteArray := prog_7_method_7_code
def yX13_row : MethodName := ⟨RX13, "row", "(LWireSchemas$Row;LWireSchemas$Slot;)V"⟩
abbrev cX13_slot : ByteArray := prog_7_method_6_code
def yX13_slot : MethodName := ⟨RX13, "slot", "(LWireSchemas$Row;LWireSchemas$Slot;)V"⟩
abbrev cX13_base64 : ByteArray := prog_7_method_3_code
def yX13_base64 : MethodName := ⟨RX13, "base64", "(LWireSchemas$Row;LWireSchemas$Row;)V"⟩
abbrev cX13_number : ByteArray := prog_7_method_2_code
def yX13_number : MethodName := ⟨RX13, "number", "(LWireSchemas$Row;JZ)V"⟩
theorem q160 : (Jvm.Cond.initialized "WireSchemas$JsonWriter") ∈ lw_all := lw_g (lw_at lw_m1 30 rfl) rfl
theorem q282 : (Jvm.Cond.fieldLinkNest "WireSchemas$JsonWriter" (31 : Nat) "WireSchemas$Row" "size" "I" "WireSchemas") ∈ lw_tbl := lw_at lw_m1 152 rfl
theorem q573 : (Jvm.Cond.fieldLinkNest "WireSchemas$JsonWriter" (136 : Nat) "WireSchemas$MessageType" "ordered" "[LWireSchemas$Field;" "WireSchemas") ∈ lw_tbl := lw_at lw_m2 203 rfl
theorem q723 : (Jvm.Cond.fieldLinkNest "WireSchemas$JsonWriter" (153 : Nat) "WireSchemas$Field" "json" "LWireSchemas$Row;" "WireSchemas") ∈ lw_tbl := lw_at lw_m3 113 rfl
theorem q732 : (Jvm.Cond.fieldLinkNest "WireSchemas$JsonWriter" (73 : Nat) "WireSchemas$Field" "kind" "I" "WireSchemas") ∈ lw_tbl := lw_at lw_m3 122 rfl
theorem q745 : (Jvm.Cond.fieldLinkNest "WireSchemas$JsonWriter" (142 : Nat) "WireSchemas$Field" "repeated" "Z" "WireSchemas") ∈ lw_tbl := lw_at lw_m3 135 rfl
theorem q758 : (Jvm.Cond.fieldLinkNest "WireSchemas$JsonWriter" (78 : Nat) "WireSchemas$Field" "enumType" "LWireSchemas$EnumType;" "WireSchemas") ∈ lw_tbl := lw_at lw_m3 148 rfl
theorem q947 : (Jvm.Cond.fieldLinkNest "WireSchemas$JsonWriter" (132 : Nat) "WireSchemas$Value" "type" "LWireSchemas$MessageType;" "WireSchemas") ∈ lw_tbl := lw_at lw_m4 97 rfl
theorem q953 : (Jvm.Cond.fieldLinkNest "WireSchemas$JsonWriter" (146 : Nat) "WireSchemas$Value" "first" "LWireSchemas$Slot;" "WireSchemas") ∈ lw_tbl := lw_at lw_m4 103 rfl
theorem q1019 : (Jvm.Cond.fieldLinkNest "WireSchemas$JsonWriter" (67 : Nat) "WireSchemas$Slot" "field" "LWireSchemas$Field;" "WireSchemas") ∈ lw_tbl := lw_at lw_m4 169 rfl
theorem q1023 : (Jvm.Cond.fieldLinkNest "WireSchemas$JsonWriter" (82 : Nat) "WireSchemas$Slot" "number" "J" "WireSchemas") ∈ lw_tbl := lw_at lw_m4 173 rfl
theorem q1028 : (Jvm.Cond.fieldLinkNest "WireSchemas$JsonWriter" (100 : Nat) "WireSchemas$Slot" "bytes" "LWireSchemas$Row;" "WireSchemas") ∈ lw_tbl := lw_at lw_m4 178 rfl
theorem q1033 : (Jvm.Cond.fieldLinkNest "WireSchemas$JsonWriter" (92 : Nat) "WireSchemas$Slot" "message" "LWireSchemas$Value;" "WireSchemas") ∈ lw_tbl := lw_at lw_m4 183 rfl
theorem q1037 : (Jvm.Cond.fieldLinkNest "WireSchemas$JsonWriter" (122 : Nat) "WireSchemas$Slot" "next" "LWireSchemas$Slot;" "WireSchemas") ∈ lw_tbl := lw_at lw_m4 187 rfl
theorem q1103 : (Jvm.Cond.static ({ cls := "WireSchemas$JsonWriter", name := "write", desc := "(LWireSchemas$Row;LWireSchemas$Value;)V" } : Jvm.MethodName)) ∈ lw_all := lw_g (lw_at lw_m5 13 rfl) rfl
theorem q1104 : (Jvm.Cond.code ({ cls := "WireSchemas$JsonWriter", name := "write", desc := "(LWireSchemas$Row;LWireSchemas$Value;)V" } : Jvm.MethodName) prog_7_method_8_code (8 : Nat) (Option.none : Option Jvm.ClassFile.FieldType)) ∈ lw_all := lw_g (lw_at lw_m5 14 rfl) rfl
theorem q1105 : (Jvm.Cond.methodLink "WireSchemas$JsonWriter" (9 : Nat) ({ cls := "WireSchemas$Row", name := "add", desc := "(I)V" } : Jvm.MethodName)) ∈ lw_all := lw_g (lw_at lw_m5 15 rfl) rfl
theorem q1106 : (Jvm.Cond.methodLink "WireSchemas$JsonWriter" (126 : Nat) ({ cls := "WireSchemas$Value", name := "of", desc := "(LWireSchemas$Field;LWireSchemas$Slot;)LWireSchemas$Slot;" } : Jvm.MethodName)) ∈ lw_all := lw_g (lw_at lw_m5 16 rfl) rfl
theorem q1109 : (Jvm.Cond.methodLink "WireSchemas$JsonWriter" (149 : Nat) ({ cls := "WireSchemas$Value", name := "get", desc := "(LWireSchemas$Field;)LWireSchemas$Slot;" } : Jvm.MethodName)) ∈ lw_all := lw_g (lw_at lw_m5 19 rfl) rfl
theorem q1110 : (Jvm.Cond.methodLink "WireSchemas$JsonWriter" (104 : Nat) ({ cls := "WireSchemas$JsonWriter", name := "text", desc := "(LWireSchemas$Row;LWireSchemas$Row;)V" } : Jvm.MethodName)) ∈ lw_all := lw_g (lw_at lw_m5 20 rfl) rfl
theorem q1111 : (Jvm.Cond.static ({ cls := "WireSchemas$JsonWriter", name := "text", desc := "(LWireSchemas$Row;LWireSchemas$Row;)V" } : Jvm.MethodName)) ∈ lw_all := lw_g (lw_at lw_m5 21 rfl) rfl
theorem q1112 : (Jvm.Cond.code ({ cls := "WireSchemas$JsonWriter", name := "text", desc := "(LWireSchemas$Row;LWireSchemas$Row;)V" } : Jvm.MethodName) prog_7_method_4_code (4 : Nat) (Option.none : Option Jvm.ClassFile.FieldType)) ∈ lw_all := lw_g (lw_at lw_m5 22 rfl) rfl
theorem q1113 : (Jvm.Cond.methodLink "WireSchemas$JsonWriter" (41 : Nat) ({ cls := "WireSchemas$Row", name := "at", desc := "(I)I" } : Jvm.MethodName)) ∈ lw_all := lw_g (lw_at lw_m5 23 rfl) rfl
theorem q1114 : (Jvm.Cond.methodLink "WireSchemas$JsonWriter" (55 : Nat) ({ cls := "WireSchemas$JsonWriter", name := "control", desc := "(LWireSchemas$Row;I)V" } : Jvm.MethodName)) ∈ lw_all := lw_g (lw_at lw_m5 24 rfl) rfl
theorem q1115 : (Jvm.Cond.static ({ cls := "WireSchemas$JsonWriter", name := "control", desc := "(LWireSchemas$Row;I)V" } : Jvm.MethodName)) ∈ lw_all := lw_g (lw_at lw_m5 25 rfl) rfl
theorem q1116 : (Jvm.Cond.code ({ cls := "WireSchemas$JsonWriter", name := "control", desc := "(LWireSchemas$Row;I)V" } : Jvm.MethodName) prog_7_method_5_code (2 : Nat) (Option.none : Option Jvm.ClassFile.FieldType)) ∈ lw_all := lw_g (lw_at lw_m5 26 rfl) rfl
theorem q1117 : (Jvm.Cond.stringRef "WireSchemas$JsonWriter" (59 : Nat) "u00") ∈ lw_tbl := lw_at lw_m5 27 rfl
theorem q1118 : (Jvm.Cond.methodLink "WireSchemas$JsonWriter" (61 : Nat) ({ cls := "WireSchemas$Row", name := "addText", desc := "(Ljava/lang/String;)V" } : Jvm.MethodName)) ∈ lw_all := lw_g (lw_at lw_m5 28 rfl) rfl
theorem q1122 : (Jvm.Cond.stringRef "WireSchemas$JsonWriter" (65 : Nat) "0123456789abcdef") ∈ lw_tbl := lw_at lw_m5 32 rfl
theorem q1123 : (Jvm.Cond.methodLink "WireSchemas$JsonWriter" (49 : Nat) ({ cls := "java/lang/String", name := "charAt", desc := "(I)C" } : Jvm.MethodName)) ∈ lw_all := lw_g (lw_at lw_m5 33 rfl) rfl
theorem q1124 : (Jvm.Cond.methodLink "WireSchemas$JsonWriter" (156 : Nat) ({ cls := "WireSchemas$JsonWriter", name := "row", desc := "(LWireSchemas$Row;LWireSchemas$Slot;)V" } : Jvm.MethodName)) ∈ lw_all := lw_g (lw_at lw_m5 34 rfl) rfl
theorem q1125 : (Jvm.Cond.static ({ cls := "WireSchemas$JsonWriter", name := "row", desc := "(LWireSchemas$Row;LWireSchemas$Slot;)V" } : Jvm.MethodName)) ∈ lw_all := lw_g (lw_at lw_m5 35 rfl) rfl
theorem q1126 : (Jvm.Cond.code ({ cls := "WireSchemas$JsonWriter", name := "row", desc := "(LWireSchemas$Row;LWireSchemas$Slot;)V" } : Jvm.MethodName) prog_7_method_7_code (3 : Nat) (Option.none : Option Jvm.ClassFile.FieldType)) ∈ lw_all := lw_g (lw_at lw_m5 36 rfl) rfl
theorem q1127 : (Jvm.Cond.methodLink "WireSchemas$JsonWriter" (118 : Nat) ({ cls := "WireSchemas$JsonWriter", name := "slot", desc := "(LWireSchemas$Row;LWireSchemas$Slot;)V" } : Jvm.MethodName)) ∈ lw_all := lw_g (lw_at lw_m5 37 rfl) rfl
theorem q1128 : (Jvm.Cond.static ({ cls := "WireSchemas$JsonWriter", name := "slot", desc := "(LWireSchemas$Row;LWireSchemas$Slot;)V" } : Jvm.MethodName)) ∈ lw_all := lw_g (lw_at lw_m5 38 rfl) rfl
theorem q1129 : (Jvm.Cond.code ({ cls := "WireSchemas$JsonWriter", name := "slot", desc := "(LWireSchemas$Row;LWireSchemas$Slot;)V" } : Jvm.MethodName) prog_7_method_6_code (5 : Nat) (Option.none : Option Jvm.ClassFile.FieldType)) ∈ lw_all := lw_g (lw_at lw_m5 39 rfl) rfl
theorem q1130 : (Jvm.Cond.methodLink "WireSchemas$JsonWriter" (86 : Nat) ({ cls := "WireSchemas$EnumType", name := "nameOf", desc := "(J)LWireSchemas$Row;" } : Jvm.MethodName)) ∈ lw_all := lw_g (lw_at lw_m5 40 rfl) rfl
theorem q1136 : (Jvm.Cond.methodLink "WireSchemas$JsonWriter" (96 : Nat) ({ cls := "WireSchemas$JsonWriter", name := "write", desc := "(LWireSchemas$Row;LWireSchemas$Value;)V" } : Jvm.MethodName)) ∈ lw_all := lw_g (lw_at lw_m5 46 rfl) rfl
theorem q1137 : (Jvm.Cond.methodLink "WireSchemas$JsonWriter" (108 : Nat) ({ cls := "WireSchemas$JsonWriter", name := "base64", desc := "(LWireSchemas$Row;LWireSchemas$Row;)V" } : Jvm.MethodName)) ∈ lw_all := lw_g (lw_at lw_m5 47 rfl) rfl
theorem q1138 : (Jvm.Cond.static ({ cls := "WireSchemas$JsonWriter", name := "base64", desc := "(LWireSchemas$Row;LWireSchemas$Row;)V" } : Jvm.MethodName)) ∈ lw_all := lw_g (lw_at lw_m5 48 rfl) rfl
theorem q1139 : (Jvm.Cond.code ({ cls := "WireSchemas$JsonWriter", name := "base64", desc := "(LWireSchemas$Row;LWireSchemas$Row;)V" } : Jvm.MethodName) prog_7_method_3_code (6 : Nat) (Option.none : Option Jvm.ClassFile.FieldType)) ∈ lw_all := lw_g (lw_at lw_m5 49 rfl) rfl
theorem q1140 : (Jvm.Cond.methodLink "WireSchemas$JsonWriter" (35 : Nat) ({ cls := "java/lang/Math", name := "min", desc := "(II)I" } : Jvm.MethodName)) ∈ lw_all := lw_g (lw_at lw_m5 50 rfl) rfl
theorem q1141 : (Jvm.Cond.stringRef "WireSchemas$JsonWriter" (47 : Nat) "ABCDEFGHIJKLMNOPQRSTUVWXYZabcdefghijklmnopqrstuvwxyz0123456789+/") ∈ lw_tbl := lw_at lw_m5 51 rfl
theorem q1142 : (Jvm.Cond.stringRef "WireSchemas$JsonWriter" (111 : Nat) "true") ∈ lw_tbl := lw_at lw_m5 52 rfl
theorem q1143 : (Jvm.Cond.stringRef "WireSchemas$JsonWriter" (113 : Nat) "false") ∈ lw_tbl := lw_at lw_m5 53 rfl
theorem q1144 : (Jvm.Cond.methodLink "WireSchemas$JsonWriter" (115 : Nat) ({ cls := "WireSchemas$JsonWriter", name := "number", desc := "(LWireSchemas$Row;JZ)V" } : Jvm.MethodName)) ∈ lw_all := lw_g (lw_at lw_m5 54 rfl) rfl
theorem q1145 : (Jvm.Cond.static ({ cls := "WireSchemas$JsonWriter", name := "number", desc := "(LWireSchemas$Row;JZ)V" } : Jvm.MethodName)) ∈ lw_all := lw_g (lw_at lw_m5 55 rfl) rfl
theorem q1146 : (Jvm.Cond.code ({ cls := "WireSchemas$JsonWriter", name := "number", desc := "(LWireSchemas$Row;JZ)V" } : Jvm.MethodName) prog_7_method_2_code (10 : Nat) (Option.none : Option Jvm.ClassFile.FieldType)) ∈ lw_all := lw_g (lw_at lw_m5 56 rfl) rfl
theorem q1147 : (Jvm.Cond.methodLink "WireSchemas$JsonWriter" (15 : Nat) ({ cls := "java/lang/Long", name := "divideUnsigned", desc := "(JJ)J" } : Jvm.MethodName)) ∈ lw_all := lw_g (lw_at lw_m5 57 rfl) rfl
theorem q1151 : (Jvm.Cond.constantLong "WireSchemas$JsonWriter" (21 : Nat) (9 : Int64)) ∈ lw_all := lw_g (lw_at lw_m5 61 rfl) rfl
theorem q1152 : (Jvm.Cond.methodLink "WireSchemas$JsonWriter" (23 : Nat) ({ cls := "java/lang/Long", name := "compareUnsigned", desc := "(JJ)I" } : Jvm.MethodName)) ∈ lw_all := lw_g (lw_at lw_m5 62 rfl) rfl
theorem q1159 : (Jvm.Cond.constantLong "WireSchemas$JsonWriter" (27 : Nat) (10 : Int64)) ∈ lw_all := lw_g (lw_at lw_m5 69 rfl) rfl
theorem q1160 : (Jvm.Cond.constantLong "WireSchemas$JsonWriter" (29 : Nat) (48 : Int64)) ∈ lw_all := lw_g (lw_at lw_m5 70 rfl) rfl
/-! WireSchemas$JsonReader -/
def RX14 : String := "WireSchemas$JsonReader"
def TX14 : u_T := fun k => match k with
  | 0 => ("WireSchemas$JsonReader", "text", "[B", true)
  | 1 => ("WireSchemas$JsonReader", "size", "I", true)
  | 2 => ("WireSchemas$JsonReader", "at", "I", false)
  | 3 => ("WireSchemas$JsonReader", "said", "LWireSchemas$Row;", true)
  | _ => ("WireSchemas$JsonReader", "whole", "LWireSchemas$Whole;", true)
def tyX14 : Nat → FieldType := fun k => match k with
  | 0 => .array .byte
  | 1 => .int
  | 2 => .int
  | 3 => .object "WireSchemas$Row"
  | _ => .object "WireSchemas$Whole"
abbrev wsX140 : List Cond := u_ws RX14 TX14 5
theorem nmX14 : ∀ a, a < 5 → ∀ b, b < 5 → a ≠ b → (TX14 a).2.1 ≠ (TX14 b).2.1 := by decide +kernel
theorem tyX14_ok : ∀ k, k < 5 → parseFieldDescriptor (TX14 k).2.2.1 = some (tyX14 k) := by decide +kernel
abbrev cX14_init : ByteArray := prog_6_method_1_code
def yX14_init : MethodName := ⟨RX14, "<init>", "([BI)V"⟩
abbrev cX14_read : ByteArray := prog_6_method_19_code
def yX14_read : MethodName := ⟨RX14, "read", "(LWireSchemas$MessageType;)LWireSchemas$Value;"⟩
abbrev cX14_object : ByteArray := prog_6_method_18_code
def yX14_object : MethodName := ⟨RX14, "object", "(LWireSchemas$JsonReader;LWireSchemas$MessageType;I)LWireSchemas$Value;"⟩
abbrev cX14_sign : ByteArray := prog_6_method_5_code
def yX14_sign : MethodName := ⟨RX14, "sign", "(I)V"⟩
abbrev cX14_blanks : ByteArray := prog_6_method_4_code
def yX14_blanks : MethodName := ⟨RX14, "blanks", "()V"⟩
abbrev cX14_look : ByteArray := prog_6_method_3_code
def yX14_look : MethodName := ⟨RX14, "look", "()I"⟩
abbrev cX14_must : ByteArray := prog_6_method_2_code
def yX14_must : MethodName := ⟨RX14, "must", "(Z)V"⟩
abbrev cX14_passes : ByteArray := prog_6_method_6_code
def yX14_passes : MethodName := ⟨RX14, "passes", "(I)Z"⟩
abbrev cX14_field : ByteArray := prog_6_method_17_code
def yX14_field : MethodName := ⟨RX14, "field", "(LWireSchemas$Value;JI)J"⟩
abbrev cX14_string : ByteArray := prog_6_method_11_code
def yX14_string : MethodName := ⟨RX14, "string", "()LWireSchemas$Row;"⟩
abbrev cX14_escape : ByteArray := prog_6_method_10_code
def yX14_escape : MethodName := ⟨RX14, "escape", "(LWireSchemas$Row;)V"⟩
abbrev cX14_told : ByteArray := prog_6_method_9_code
def yX14_told : MethodName := ⟨RX14, "told", "()I"⟩
abbrev cX14_hex : ByteArray := prog_6_method_8_code
def yX14_hex : MethodName := ⟨RX14, "hex", "()I"⟩
abbrev cX14_passesWord : ByteArray := prog_6_method_7_code
def yX14_passesWord : MethodName := ⟨RX14, "passesWord", "(Ljava/lang/String;)Z"⟩
abbrev cX14_row : ByteArray := prog_6_method_15_code
def yX14_row : MethodName := ⟨RX14, "row", "(LWireSchemas$Field;LWireSchemas$Value;I)V"⟩
abbrev cX14_slot : ByteArray := prog_6_method_14_code
def yX14_slot : MethodName := ⟨RX14, "slot", "(LWireSchemas$Field;)LWireSchemas$Slot;"⟩
abbrev cX14_number : ByteArray := prog_6_method_12_code
def yX14_number : MethodName := ⟨RX14, "number", "()LWireSchemas$Row;"⟩
abbrev cX14_isNumberSign : ByteArray := prog_6_method_13_code
def yX14_isNumberSign : MethodName := ⟨RX14, "isNumberSign", "(I)Z"⟩
abbrev cX14_inner : ByteArray := prog_6_method_16_code
def yX14_inner : MethodName := ⟨RX14, "inner", "(LWireSchemas$JsonReader;LWireSchemas$Field;I)LWireSchemas$Slot;"⟩
theorem q162 : (Jvm.Cond.initialized "WireSchemas$JsonReader") ∈ lw_all := lw_g (lw_at lw_m1 32 rfl) rfl
theorem q626 : (Jvm.Cond.selects "WireSchemas$JsonReader" ({ cls := "java/lang/Object", name := "getClass", desc := "()Ljava/lang/Class;" } : Jvm.MethodName) ({ cls := "java/lang/Object", name := "getClass", desc := "()Ljava/lang/Class;" } : Jvm.MethodName)) ∈ lw_all := lw_g (lw_at lw_m3 16 rfl) rfl
theorem q673 : (Jvm.Cond.fieldLinkNest "WireSchemas$JsonReader" (142 : Nat) "WireSchemas$EnumType" "values" "[I" "WireSchemas") ∈ lw_tbl := lw_at lw_m3 63 rfl
theorem q736 : (Jvm.Cond.fieldLinkNest "WireSchemas$JsonReader" (99 : Nat) "WireSchemas$Field" "kind" "I" "WireSchemas") ∈ lw_tbl := lw_at lw_m3 126 rfl
theorem q742 : (Jvm.Cond.fieldLinkNest "WireSchemas$JsonReader" (199 : Nat) "WireSchemas$Field" "place" "I" "WireSchemas") ∈ lw_tbl := lw_at lw_m3 132 rfl
theorem q748 : (Jvm.Cond.fieldLinkNest "WireSchemas$JsonReader" (208 : Nat) "WireSchemas$Field" "repeated" "Z" "WireSchemas") ∈ lw_tbl := lw_at lw_m3 138 rfl
theorem q757 : (Jvm.Cond.fieldLinkNest "WireSchemas$JsonReader" (165 : Nat) "WireSchemas$Field" "message" "LWireSchemas$MessageType;" "WireSchemas") ∈ lw_tbl := lw_at lw_m3 147 rfl
theorem q761 : (Jvm.Cond.fieldLinkNest "WireSchemas$JsonReader" (132 : Nat) "WireSchemas$Field" "enumType" "LWireSchemas$EnumType;" "WireSchemas") ∈ lw_tbl := lw_at lw_m3 151 rfl
theorem q949 : (Jvm.Cond.fieldLinkNest "WireSchemas$JsonReader" (190 : Nat) "WireSchemas$Value" "type" "LWireSchemas$MessageType;" "WireSchemas") ∈ lw_tbl := lw_at lw_m4 99 rfl
theorem q1025 : (Jvm.Cond.fieldLinkNest "WireSchemas$JsonReader" (112 : Nat) "WireSchemas$Slot" "number" "J" "WireSchemas") ∈ lw_tbl := lw_at lw_m4 175 rfl
theorem q1030 : (Jvm.Cond.fieldLinkNest "WireSchemas$JsonReader" (123 : Nat) "WireSchemas$Slot" "bytes" "LWireSchemas$Row;" "WireSchemas") ∈ lw_tbl := lw_at lw_m4 180 rfl
theorem q1035 : (Jvm.Cond.fieldLinkNest "WireSchemas$JsonReader" (187 : Nat) "WireSchemas$Slot" "message" "LWireSchemas$Value;" "WireSchemas") ∈ lw_tbl := lw_at lw_m4 185 rfl
theorem q1174 : (Jvm.Cond.instantiable "WireSchemas$JsonReader" (5 : Nat)) ∈ lw_all := lw_g (lw_at lw_m5 84 rfl) rfl
theorem q1176 : (Jvm.Cond.instanceMethod ({ cls := "WireSchemas$JsonReader", name := "<init>", desc := "([BI)V" } : Jvm.MethodName)) ∈ lw_all := lw_g (lw_at lw_m5 86 rfl) rfl
theorem q1177 : (Jvm.Cond.code ({ cls := "WireSchemas$JsonReader", name := "<init>", desc := "([BI)V" } : Jvm.MethodName) prog_6_method_1_code (3 : Nat) (Option.none : Option Jvm.ClassFile.FieldType)) ∈ lw_all := lw_g (lw_at lw_m5 87 rfl) rfl
theorem q1178 : (Jvm.Cond.methodLink "WireSchemas$JsonReader" (3 : Nat) ({ cls := "java/lang/Object", name := "<init>", desc := "()V" } : Jvm.MethodName)) ∈ lw_all := lw_g (lw_at lw_m5 88 rfl) rfl
theorem q1179 : (Jvm.Cond.classLink "WireSchemas$JsonReader" (9 : Nat) "WireSchemas$Row") ∈ lw_all := lw_g (lw_at lw_m5 89 rfl) rfl
theorem q1180 : (Jvm.Cond.methodLinkNest "WireSchemas$JsonReader" (11 : Nat) ({ cls := "WireSchemas$Row", name := "<init>", desc := "()V" } : Jvm.MethodName) "WireSchemas") ∈ lw_tbl := lw_at lw_m5 90 rfl
theorem q1181 : (Jvm.Cond.classLink "WireSchemas$JsonReader" (18 : Nat) "WireSchemas$Whole") ∈ lw_all := lw_g (lw_at lw_m5 91 rfl) rfl
theorem q1183 : (Jvm.Cond.methodLinkNest "WireSchemas$JsonReader" (20 : Nat) ({ cls := "WireSchemas$Whole", name := "<init>", desc := "()V" } : Jvm.MethodName) "WireSchemas") ∈ lw_tbl := lw_at lw_m5 93 rfl
theorem q1188 : (Jvm.Cond.fieldLinkNest "WireSchemas$JsonReader" (150 : Nat) "WireSchemas$Whole" "isRight" "Z" "WireSchemas") ∈ lw_tbl := lw_at lw_m5 98 rfl
theorem q1190 : (Jvm.Cond.fieldLinkNest "WireSchemas$JsonReader" (157 : Nat) "WireSchemas$Whole" "minus" "Z" "WireSchemas") ∈ lw_tbl := lw_at lw_m5 100 rfl
theorem q1192 : (Jvm.Cond.fieldLinkNest "WireSchemas$JsonReader" (160 : Nat) "WireSchemas$Whole" "size" "J" "WireSchemas") ∈ lw_tbl := lw_at lw_m5 102 rfl
theorem q1200 : (Jvm.Cond.fieldLink "WireSchemas$JsonReader" (25 : Nat) "WireSchemas$JsonReader" "text" "[B") ∈ lw_all := lw_g (lw_at lw_m5 110 rfl) rfl
theorem q1201 : (Jvm.Cond.fieldLink "WireSchemas$JsonReader" (29 : Nat) "WireSchemas$JsonReader" "size" "I") ∈ lw_all := lw_g (lw_at lw_m5 111 rfl) rfl
theorem q1202 : (Jvm.Cond.fieldLink "WireSchemas$JsonReader" (36 : Nat) "WireSchemas$JsonReader" "at" "I") ∈ lw_all := lw_g (lw_at lw_m5 112 rfl) rfl
theorem q1203 : (Jvm.Cond.fieldLink "WireSchemas$JsonReader" (12 : Nat) "WireSchemas$JsonReader" "said" "LWireSchemas$Row;") ∈ lw_all := lw_g (lw_at lw_m5 113 rfl) rfl
theorem q1204 : (Jvm.Cond.fieldLink "WireSchemas$JsonReader" (21 : Nat) "WireSchemas$JsonReader" "whole" "LWireSchemas$Whole;") ∈ lw_all := lw_g (lw_at lw_m5 114 rfl) rfl
theorem q1205 : (Jvm.Cond.laysFinal "WireSchemas$JsonReader" "WireSchemas$JsonReader" "text" "[B") ∈ lw_all := lw_g (lw_at lw_m5 115 rfl) rfl
theorem q1206 : (Jvm.Cond.soleField "WireSchemas$JsonReader" "text") ∈ lw_all := lw_g (lw_at lw_m5 116 rfl) rfl
theorem q1207 : (Jvm.Cond.laysFinal "WireSchemas$JsonReader" "WireSchemas$JsonReader" "size" "I") ∈ lw_all := lw_g (lw_at lw_m5 117 rfl) rfl
theorem q1208 : (Jvm.Cond.soleField "WireSchemas$JsonReader" "size") ∈ lw_all := lw_g (lw_at lw_m5 118 rfl) rfl
theorem q1209 : (Jvm.Cond.lays "WireSchemas$JsonReader" "WireSchemas$JsonReader" "at" "I") ∈ lw_all := lw_g (lw_at lw_m5 119 rfl) rfl
theorem q1210 : (Jvm.Cond.soleField "WireSchemas$JsonReader" "at") ∈ lw_all := lw_g (lw_at lw_m5 120 rfl) rfl
theorem q1211 : (Jvm.Cond.laysFinal "WireSchemas$JsonReader" "WireSchemas$JsonReader" "said" "LWireSchemas$Row;") ∈ lw_all := lw_g (lw_at lw_m5 121 rfl) rfl
theorem q1212 : (Jvm.Cond.soleField "WireSchemas$JsonReader" "said") ∈ lw_all := lw_g (lw_at lw_m5 122 rfl) rfl
theorem q1213 : (Jvm.Cond.laysFinal "WireSchemas$JsonReader" "WireSchemas$JsonReader" "whole" "LWireSchemas$Whole;") ∈ lw_all := lw_g (lw_at lw_m5 123 rfl) rfl
theorem q1214 : (Jvm.Cond.soleField "WireSchemas$JsonReader" "whole") ∈ lw_all := lw_g (lw_at lw_m5 124 rfl) rfl
theorem q1215 : (Jvm.Cond.superclass "WireSchemas$JsonReader" "java/lang/Object") ∈ lw_all := lw_g (lw_at lw_m5 125 rfl) rfl
theorem q1217 : (Jvm.Cond.instanceMethod ({ cls := "WireSchemas$JsonReader", name := "read", desc := "(LWireSchemas$MessageType;)LWireSchemas$Value;" } : Jvm.MethodName)) ∈ lw_all := lw_g (lw_at lw_m5 127 rfl) rfl
theorem q1218 : (Jvm.Cond.selects "WireSchemas$JsonReader" ({ cls := "WireSchemas$JsonReader", name := "read", desc := "(LWireSchemas$MessageType;)LWireSchemas$Value;" } : Jvm.MethodName) ({ cls := "WireSchemas$JsonReader", name := "read", desc := "(LWireSchemas$MessageType;)LWireSchemas$Value;" } : Jvm.MethodName)) ∈ lw_all := lw_g (lw_at lw_m5 128 rfl) rfl
theorem q1219 : (Jvm.Cond.code ({ cls := "WireSchemas$JsonReader", name := "read", desc := "(LWireSchemas$MessageType;)LWireSchemas$Value;" } : Jvm.MethodName) prog_6_method_19_code (3 : Nat) (Option.some (Jvm.ClassFile.FieldType.object "WireSchemas$Value"))) ∈ lw_all := lw_g (lw_at lw_m5 129 rfl) rfl
theorem q1220 : (Jvm.Cond.methodLink "WireSchemas$JsonReader" (183 : Nat) ({ cls := "WireSchemas$JsonReader", name := "object", desc := "(LWireSchemas$JsonReader;LWireSchemas$MessageType;I)LWireSchemas$Value;" } : Jvm.MethodName)) ∈ lw_all := lw_g (lw_at lw_m5 130 rfl) rfl
theorem q1221 : (Jvm.Cond.static ({ cls := "WireSchemas$JsonReader", name := "object", desc := "(LWireSchemas$JsonReader;LWireSchemas$MessageType;I)LWireSchemas$Value;" } : Jvm.MethodName)) ∈ lw_all := lw_g (lw_at lw_m5 131 rfl) rfl
theorem q1222 : (Jvm.Cond.code ({ cls := "WireSchemas$JsonReader", name := "object", desc := "(LWireSchemas$JsonReader;LWireSchemas$MessageType;I)LWireSchemas$Value;" } : Jvm.MethodName) prog_6_method_18_code (6 : Nat) (Option.some (Jvm.ClassFile.FieldType.object "WireSchemas$Value"))) ∈ lw_all := lw_g (lw_at lw_m5 132 rfl) rfl
theorem q1223 : (Jvm.Cond.classLink "WireSchemas$JsonReader" (178 : Nat) "WireSchemas$Value") ∈ lw_all := lw_g (lw_at lw_m5 133 rfl) rfl
theorem q1224 : (Jvm.Cond.methodLink "WireSchemas$JsonReader" (215 : Nat) ({ cls := "WireSchemas$Value", name := "<init>", desc := "(LWireSchemas$MessageType;)V" } : Jvm.MethodName)) ∈ lw_all := lw_g (lw_at lw_m5 134 rfl) rfl
theorem q1225 : (Jvm.Cond.methodLink "WireSchemas$JsonReader" (76 : Nat) ({ cls := "WireSchemas$JsonReader", name := "sign", desc := "(I)V" } : Jvm.MethodName)) ∈ lw_all := lw_g (lw_at lw_m5 135 rfl) rfl
theorem q1226 : (Jvm.Cond.privateMethod ({ cls := "WireSchemas$JsonReader", name := "sign", desc := "(I)V" } : Jvm.MethodName)) ∈ lw_tbl := lw_at lw_m5 136 rfl
theorem q1227 : (Jvm.Cond.instanceMethod ({ cls := "WireSchemas$JsonReader", name := "sign", desc := "(I)V" } : Jvm.MethodName)) ∈ lw_all := lw_g (lw_at lw_m5 137 rfl) rfl
theorem q1228 : (Jvm.Cond.code ({ cls := "WireSchemas$JsonReader", name := "sign", desc := "(I)V" } : Jvm.MethodName) prog_6_method_5_code (2 : Nat) (Option.none : Option Jvm.ClassFile.FieldType)) ∈ lw_all := lw_g (lw_at lw_m5 138 rfl) rfl
theorem q1229 : (Jvm.Cond.methodLink "WireSchemas$JsonReader" (43 : Nat) ({ cls := "WireSchemas$JsonReader", name := "blanks", desc := "()V" } : Jvm.MethodName)) ∈ lw_all := lw_g (lw_at lw_m5 139 rfl) rfl
theorem q1230 : (Jvm.Cond.privateMethod ({ cls := "WireSchemas$JsonReader", name := "blanks", desc := "()V" } : Jvm.MethodName)) ∈ lw_tbl := lw_at lw_m5 140 rfl
theorem q1231 : (Jvm.Cond.instanceMethod ({ cls := "WireSchemas$JsonReader", name := "blanks", desc := "()V" } : Jvm.MethodName)) ∈ lw_all := lw_g (lw_at lw_m5 141 rfl) rfl
theorem q1232 : (Jvm.Cond.code ({ cls := "WireSchemas$JsonReader", name := "blanks", desc := "()V" } : Jvm.MethodName) prog_6_method_4_code (1 : Nat) (Option.none : Option Jvm.ClassFile.FieldType)) ∈ lw_all := lw_g (lw_at lw_m5 142 rfl) rfl
theorem q1233 : (Jvm.Cond.methodLink "WireSchemas$JsonReader" (39 : Nat) ({ cls := "WireSchemas$JsonReader", name := "look", desc := "()I" } : Jvm.MethodName)) ∈ lw_all := lw_g (lw_at lw_m5 143 rfl) rfl
theorem q1234 : (Jvm.Cond.privateMethod ({ cls := "WireSchemas$JsonReader", name := "look", desc := "()I" } : Jvm.MethodName)) ∈ lw_tbl := lw_at lw_m5 144 rfl
theorem q1235 : (Jvm.Cond.instanceMethod ({ cls := "WireSchemas$JsonReader", name := "look", desc := "()I" } : Jvm.MethodName)) ∈ lw_all := lw_g (lw_at lw_m5 145 rfl) rfl
theorem q1236 : (Jvm.Cond.code ({ cls := "WireSchemas$JsonReader", name := "look", desc := "()I" } : Jvm.MethodName) prog_6_method_3_code (1 : Nat) (Option.some Jvm.ClassFile.FieldType.int)) ∈ lw_all := lw_g (lw_at lw_m5 146 rfl) rfl
theorem q1237 : (Jvm.Cond.methodLink "WireSchemas$JsonReader" (46 : Nat) ({ cls := "WireSchemas$JsonReader", name := "must", desc := "(Z)V" } : Jvm.MethodName)) ∈ lw_all := lw_g (lw_at lw_m5 147 rfl) rfl
theorem q1238 : (Jvm.Cond.static ({ cls := "WireSchemas$JsonReader", name := "must", desc := "(Z)V" } : Jvm.MethodName)) ∈ lw_all := lw_g (lw_at lw_m5 148 rfl) rfl
theorem q1239 : (Jvm.Cond.code ({ cls := "WireSchemas$JsonReader", name := "must", desc := "(Z)V" } : Jvm.MethodName) prog_6_method_2_code (1 : Nat) (Option.none : Option Jvm.ClassFile.FieldType)) ∈ lw_all := lw_g (lw_at lw_m5 149 rfl) rfl
theorem q1240 : (Jvm.Cond.classLink "WireSchemas$JsonReader" (33 : Nat) "java/lang/IllegalArgumentException") ∈ lw_all := lw_g (lw_at lw_m5 150 rfl) rfl
theorem q1241 : (Jvm.Cond.methodLink "WireSchemas$JsonReader" (35 : Nat) ({ cls := "java/lang/IllegalArgumentException", name := "<init>", desc := "()V" } : Jvm.MethodName)) ∈ lw_all := lw_g (lw_at lw_m5 151 rfl) rfl
theorem q1242 : (Jvm.Cond.methodLink "WireSchemas$JsonReader" (162 : Nat) ({ cls := "WireSchemas$JsonReader", name := "passes", desc := "(I)Z" } : Jvm.MethodName)) ∈ lw_all := lw_g (lw_at lw_m5 152 rfl) rfl
theorem q1243 : (Jvm.Cond.privateMethod ({ cls := "WireSchemas$JsonReader", name := "passes", desc := "(I)Z" } : Jvm.MethodName)) ∈ lw_tbl := lw_at lw_m5 153 rfl
theorem q1244 : (Jvm.Cond.instanceMethod ({ cls := "WireSchemas$JsonReader", name := "passes", desc := "(I)Z" } : Jvm.MethodName)) ∈ lw_all := lw_g (lw_at lw_m5 154 rfl) rfl
theorem q1245 : (Jvm.Cond.code ({ cls := "WireSchemas$JsonReader", name := "passes", desc := "(I)Z" } : Jvm.MethodName) prog_6_method_6_code (3 : Nat) (Option.some Jvm.ClassFile.FieldType.boolean)) ∈ lw_all := lw_g (lw_at lw_m5 155 rfl) rfl
theorem q1246 : (Jvm.Cond.methodLink "WireSchemas$JsonReader" (218 : Nat) ({ cls := "WireSchemas$JsonReader", name := "field", desc := "(LWireSchemas$Value;JI)J" } : Jvm.MethodName)) ∈ lw_all := lw_g (lw_at lw_m5 156 rfl) rfl
theorem q1247 : (Jvm.Cond.privateMethod ({ cls := "WireSchemas$JsonReader", name := "field", desc := "(LWireSchemas$Value;JI)J" } : Jvm.MethodName)) ∈ lw_tbl := lw_at lw_m5 157 rfl
theorem q1248 : (Jvm.Cond.instanceMethod ({ cls := "WireSchemas$JsonReader", name := "field", desc := "(LWireSchemas$Value;JI)J" } : Jvm.MethodName)) ∈ lw_all := lw_g (lw_at lw_m5 158 rfl) rfl
theorem q1249 : (Jvm.Cond.code ({ cls := "WireSchemas$JsonReader", name := "field", desc := "(LWireSchemas$Value;JI)J" } : Jvm.MethodName) prog_6_method_17_code (8 : Nat) (Option.some Jvm.ClassFile.FieldType.long)) ∈ lw_all := lw_g (lw_at lw_m5 159 rfl) rfl
theorem q1250 : (Jvm.Cond.methodLink "WireSchemas$JsonReader" (116 : Nat) ({ cls := "WireSchemas$JsonReader", name := "string", desc := "()LWireSchemas$Row;" } : Jvm.MethodName)) ∈ lw_all := lw_g (lw_at lw_m5 160 rfl) rfl
theorem q1251 : (Jvm.Cond.privateMethod ({ cls := "WireSchemas$JsonReader", name := "string", desc := "()LWireSchemas$Row;" } : Jvm.MethodName)) ∈ lw_tbl := lw_at lw_m5 161 rfl
theorem q1252 : (Jvm.Cond.instanceMethod ({ cls := "WireSchemas$JsonReader", name := "string", desc := "()LWireSchemas$Row;" } : Jvm.MethodName)) ∈ lw_all := lw_g (lw_at lw_m5 162 rfl) rfl
theorem q1253 : (Jvm.Cond.code ({ cls := "WireSchemas$JsonReader", name := "string", desc := "()LWireSchemas$Row;" } : Jvm.MethodName) prog_6_method_11_code (2 : Nat) (Option.some (Jvm.ClassFile.FieldType.object "WireSchemas$Row"))) ∈ lw_all := lw_g (lw_at lw_m5 163 rfl) rfl
theorem q1254 : (Jvm.Cond.methodLink "WireSchemas$JsonReader" (79 : Nat) ({ cls := "WireSchemas$Row", name := "clear", desc := "()V" } : Jvm.MethodName)) ∈ lw_all := lw_g (lw_at lw_m5 164 rfl) rfl
theorem q1255 : (Jvm.Cond.methodLink "WireSchemas$JsonReader" (82 : Nat) ({ cls := "WireSchemas$JsonReader", name := "escape", desc := "(LWireSchemas$Row;)V" } : Jvm.MethodName)) ∈ lw_all := lw_g (lw_at lw_m5 165 rfl) rfl
theorem q1256 : (Jvm.Cond.privateMethod ({ cls := "WireSchemas$JsonReader", name := "escape", desc := "(LWireSchemas$Row;)V" } : Jvm.MethodName)) ∈ lw_tbl := lw_at lw_m5 166 rfl
theorem q1257 : (Jvm.Cond.instanceMethod ({ cls := "WireSchemas$JsonReader", name := "escape", desc := "(LWireSchemas$Row;)V" } : Jvm.MethodName)) ∈ lw_all := lw_g (lw_at lw_m5 167 rfl) rfl
theorem q1258 : (Jvm.Cond.code ({ cls := "WireSchemas$JsonReader", name := "escape", desc := "(LWireSchemas$Row;)V" } : Jvm.MethodName) prog_6_method_10_code (3 : Nat) (Option.none : Option Jvm.ClassFile.FieldType)) ∈ lw_all := lw_g (lw_at lw_m5 168 rfl) rfl
theorem q1259 : (Jvm.Cond.methodLink "WireSchemas$JsonReader" (66 : Nat) ({ cls := "WireSchemas$Row", name := "add", desc := "(I)V" } : Jvm.MethodName)) ∈ lw_all := lw_g (lw_at lw_m5 169 rfl) rfl
theorem q1260 : (Jvm.Cond.methodLink "WireSchemas$JsonReader" (70 : Nat) ({ cls := "WireSchemas$JsonReader", name := "told", desc := "()I" } : Jvm.MethodName)) ∈ lw_all := lw_g (lw_at lw_m5 170 rfl) rfl
theorem q1261 : (Jvm.Cond.privateMethod ({ cls := "WireSchemas$JsonReader", name := "told", desc := "()I" } : Jvm.MethodName)) ∈ lw_tbl := lw_at lw_m5 171 rfl
theorem q1262 : (Jvm.Cond.instanceMethod ({ cls := "WireSchemas$JsonReader", name := "told", desc := "()I" } : Jvm.MethodName)) ∈ lw_all := lw_g (lw_at lw_m5 172 rfl) rfl
theorem q1263 : (Jvm.Cond.code ({ cls := "WireSchemas$JsonReader", name := "told", desc := "()I" } : Jvm.MethodName) prog_6_method_9_code (3 : Nat) (Option.some Jvm.ClassFile.FieldType.int)) ∈ lw_all := lw_g (lw_at lw_m5 173 rfl) rfl
theorem q1264 : (Jvm.Cond.methodLink "WireSchemas$JsonReader" (59 : Nat) ({ cls := "WireSchemas$JsonReader", name := "hex", desc := "()I" } : Jvm.MethodName)) ∈ lw_all := lw_g (lw_at lw_m5 174 rfl) rfl
theorem q1265 : (Jvm.Cond.privateMethod ({ cls := "WireSchemas$JsonReader", name := "hex", desc := "()I" } : Jvm.MethodName)) ∈ lw_tbl := lw_at lw_m5 175 rfl
theorem q1266 : (Jvm.Cond.instanceMethod ({ cls := "WireSchemas$JsonReader", name := "hex", desc := "()I" } : Jvm.MethodName)) ∈ lw_all := lw_g (lw_at lw_m5 176 rfl) rfl
theorem q1267 : (Jvm.Cond.code ({ cls := "WireSchemas$JsonReader", name := "hex", desc := "()I" } : Jvm.MethodName) prog_6_method_8_code (5 : Nat) (Option.some Jvm.ClassFile.FieldType.int)) ∈ lw_all := lw_g (lw_at lw_m5 177 rfl) rfl
theorem q1268 : (Jvm.Cond.constant "WireSchemas$JsonReader" (62 : Nat) (56320 : Int32)) ∈ lw_all := lw_g (lw_at lw_m5 178 rfl) rfl
theorem q1269 : (Jvm.Cond.constant "WireSchemas$JsonReader" (63 : Nat) (57343 : Int32)) ∈ lw_all := lw_g (lw_at lw_m5 179 rfl) rfl
theorem q1270 : (Jvm.Cond.constant "WireSchemas$JsonReader" (64 : Nat) (55296 : Int32)) ∈ lw_all := lw_g (lw_at lw_m5 180 rfl) rfl
theorem q1271 : (Jvm.Cond.constant "WireSchemas$JsonReader" (65 : Nat) (65536 : Int32)) ∈ lw_all := lw_g (lw_at lw_m5 181 rfl) rfl
theorem q1272 : (Jvm.Cond.methodLink "WireSchemas$JsonReader" (73 : Nat) ({ cls := "WireSchemas$Row", name := "addSign", desc := "(I)V" } : Jvm.MethodName)) ∈ lw_all := lw_g (lw_at lw_m5 182 rfl) rfl
theorem q1277 : (Jvm.Cond.methodLink "WireSchemas$JsonReader" (86 : Nat) ({ cls := "WireSchemas$Row", name := "isText", desc := "()Z" } : Jvm.MethodName)) ∈ lw_all := lw_g (lw_at lw_m5 187 rfl) rfl
theorem q1278 : (Jvm.Cond.methodLink "WireSchemas$JsonReader" (193 : Nat) ({ cls := "WireSchemas$MessageType", name := "byName", desc := "(LWireSchemas$Row;)LWireSchemas$Field;" } : Jvm.MethodName)) ∈ lw_all := lw_g (lw_at lw_m5 188 rfl) rfl
theorem q1283 : (Jvm.Cond.stringRef "WireSchemas$JsonReader" (202 : Nat) "null") ∈ lw_tbl := lw_at lw_m5 193 rfl
theorem q1284 : (Jvm.Cond.methodLink "WireSchemas$JsonReader" (106 : Nat) ({ cls := "WireSchemas$JsonReader", name := "passesWord", desc := "(Ljava/lang/String;)Z" } : Jvm.MethodName)) ∈ lw_all := lw_g (lw_at lw_m5 194 rfl) rfl
theorem q1285 : (Jvm.Cond.privateMethod ({ cls := "WireSchemas$JsonReader", name := "passesWord", desc := "(Ljava/lang/String;)Z" } : Jvm.MethodName)) ∈ lw_tbl := lw_at lw_m5 195 rfl
theorem q1286 : (Jvm.Cond.instanceMethod ({ cls := "WireSchemas$JsonReader", name := "passesWord", desc := "(Ljava/lang/String;)Z" } : Jvm.MethodName)) ∈ lw_all := lw_g (lw_at lw_m5 196 rfl) rfl
theorem q1287 : (Jvm.Cond.code ({ cls := "WireSchemas$JsonReader", name := "passesWord", desc := "(Ljava/lang/String;)Z" } : Jvm.MethodName) prog_6_method_7_code (3 : Nat) (Option.some Jvm.ClassFile.FieldType.boolean)) ∈ lw_all := lw_g (lw_at lw_m5 197 rfl) rfl
theorem q1288 : (Jvm.Cond.methodLink "WireSchemas$JsonReader" (50 : Nat) ({ cls := "java/lang/String", name := "length", desc := "()I" } : Jvm.MethodName)) ∈ lw_all := lw_g (lw_at lw_m5 198 rfl) rfl
theorem q1289 : (Jvm.Cond.methodLink "WireSchemas$JsonReader" (55 : Nat) ({ cls := "java/lang/String", name := "charAt", desc := "(I)C" } : Jvm.MethodName)) ∈ lw_all := lw_g (lw_at lw_m5 199 rfl) rfl
theorem q1290 : (Jvm.Cond.methodLink "WireSchemas$JsonReader" (204 : Nat) ({ cls := "WireSchemas$Value", name := "hasOther", desc := "(LWireSchemas$Field;)Z" } : Jvm.MethodName)) ∈ lw_all := lw_g (lw_at lw_m5 200 rfl) rfl
theorem q1294 : (Jvm.Cond.methodLink "WireSchemas$JsonReader" (211 : Nat) ({ cls := "WireSchemas$JsonReader", name := "row", desc := "(LWireSchemas$Field;LWireSchemas$Value;I)V" } : Jvm.MethodName)) ∈ lw_all := lw_g (lw_at lw_m5 204 rfl) rfl
theorem q1295 : (Jvm.Cond.privateMethod ({ cls := "WireSchemas$JsonReader", name := "row", desc := "(LWireSchemas$Field;LWireSchemas$Value;I)V" } : Jvm.MethodName)) ∈ lw_tbl := lw_at lw_m5 205 rfl
theorem q1296 : (Jvm.Cond.instanceMethod ({ cls := "WireSchemas$JsonReader", name := "row", desc := "(LWireSchemas$Field;LWireSchemas$Value;I)V" } : Jvm.MethodName)) ∈ lw_all := lw_g (lw_at lw_m5 206 rfl) rfl
theorem q1297 : (Jvm.Cond.code ({ cls := "WireSchemas$JsonReader", name := "row", desc := "(LWireSchemas$Field;LWireSchemas$Value;I)V" } : Jvm.MethodName) prog_6_method_15_code (4 : Nat) (Option.none : Option Jvm.ClassFile.FieldType)) ∈ lw_all := lw_g (lw_at lw_m5 207 rfl) rfl
theorem q1298 : (Jvm.Cond.methodLink "WireSchemas$JsonReader" (169 : Nat) ({ cls := "WireSchemas$JsonReader", name := "slot", desc := "(LWireSchemas$Field;)LWireSchemas$Slot;" } : Jvm.MethodName)) ∈ lw_all := lw_g (lw_at lw_m5 208 rfl) rfl
theorem q1299 : (Jvm.Cond.privateMethod ({ cls := "WireSchemas$JsonReader", name := "slot", desc := "(LWireSchemas$Field;)LWireSchemas$Slot;" } : Jvm.MethodName)) ∈ lw_tbl := lw_at lw_m5 209 rfl
theorem q1300 : (Jvm.Cond.instanceMethod ({ cls := "WireSchemas$JsonReader", name := "slot", desc := "(LWireSchemas$Field;)LWireSchemas$Slot;" } : Jvm.MethodName)) ∈ lw_all := lw_g (lw_at lw_m5 210 rfl) rfl
theorem q1301 : (Jvm.Cond.code ({ cls := "WireSchemas$JsonReader", name := "slot", desc := "(LWireSchemas$Field;)LWireSchemas$Slot;" } : Jvm.MethodName) prog_6_method_14_code (4 : Nat) (Option.some (Jvm.ClassFile.FieldType.object "WireSchemas$Slot"))) ∈ lw_all := lw_g (lw_at lw_m5 211 rfl) rfl
theorem q1302 : (Jvm.Cond.classLink "WireSchemas$JsonReader" (94 : Nat) "WireSchemas$Slot") ∈ lw_all := lw_g (lw_at lw_m5 212 rfl) rfl
theorem q1303 : (Jvm.Cond.methodLink "WireSchemas$JsonReader" (96 : Nat) ({ cls := "WireSchemas$Slot", name := "<init>", desc := "(LWireSchemas$Field;)V" } : Jvm.MethodName)) ∈ lw_all := lw_g (lw_at lw_m5 213 rfl) rfl
theorem q1304 : (Jvm.Cond.stringRef "WireSchemas$JsonReader" (104 : Nat) "true") ∈ lw_tbl := lw_at lw_m5 214 rfl
theorem q1305 : (Jvm.Cond.stringRef "WireSchemas$JsonReader" (110 : Nat) "false") ∈ lw_tbl := lw_at lw_m5 215 rfl
theorem q1306 : (Jvm.Cond.methodLink "WireSchemas$JsonReader" (120 : Nat) ({ cls := "WireSchemas$Row", name := "copy", desc := "()LWireSchemas$Row;" } : Jvm.MethodName)) ∈ lw_all := lw_g (lw_at lw_m5 216 rfl) rfl
theorem q1313 : (Jvm.Cond.methodLink "WireSchemas$JsonReader" (126 : Nat) ({ cls := "WireSchemas$Base64", name := "read", desc := "(LWireSchemas$Row;)LWireSchemas$Row;" } : Jvm.MethodName)) ∈ lw_all := lw_g (lw_at lw_m5 223 rfl) rfl
theorem q1323 : (Jvm.Cond.methodLink "WireSchemas$JsonReader" (136 : Nat) ({ cls := "WireSchemas$EnumType", name := "valueOf", desc := "(LWireSchemas$Row;)I" } : Jvm.MethodName)) ∈ lw_all := lw_g (lw_at lw_m5 233 rfl) rfl
theorem q1328 : (Jvm.Cond.methodLink "WireSchemas$JsonReader" (146 : Nat) ({ cls := "WireSchemas$JsonReader", name := "number", desc := "()LWireSchemas$Row;" } : Jvm.MethodName)) ∈ lw_all := lw_g (lw_at lw_m5 238 rfl) rfl
theorem q1329 : (Jvm.Cond.privateMethod ({ cls := "WireSchemas$JsonReader", name := "number", desc := "()LWireSchemas$Row;" } : Jvm.MethodName)) ∈ lw_tbl := lw_at lw_m5 239 rfl
theorem q1330 : (Jvm.Cond.instanceMethod ({ cls := "WireSchemas$JsonReader", name := "number", desc := "()LWireSchemas$Row;" } : Jvm.MethodName)) ∈ lw_all := lw_g (lw_at lw_m6 0 rfl) rfl
theorem q1331 : (Jvm.Cond.code ({ cls := "WireSchemas$JsonReader", name := "number", desc := "()LWireSchemas$Row;" } : Jvm.MethodName) prog_6_method_12_code (1 : Nat) (Option.some (Jvm.ClassFile.FieldType.object "WireSchemas$Row"))) ∈ lw_all := lw_g (lw_at lw_m6 1 rfl) rfl
theorem q1332 : (Jvm.Cond.methodLink "WireSchemas$JsonReader" (90 : Nat) ({ cls := "WireSchemas$JsonReader", name := "isNumberSign", desc := "(I)Z" } : Jvm.MethodName)) ∈ lw_all := lw_g (lw_at lw_m6 2 rfl) rfl
theorem q1333 : (Jvm.Cond.static ({ cls := "WireSchemas$JsonReader", name := "isNumberSign", desc := "(I)Z" } : Jvm.MethodName)) ∈ lw_all := lw_g (lw_at lw_m6 3 rfl) rfl
theorem q1334 : (Jvm.Cond.code ({ cls := "WireSchemas$JsonReader", name := "isNumberSign", desc := "(I)Z" } : Jvm.MethodName) prog_6_method_13_code (1 : Nat) (Option.some Jvm.ClassFile.FieldType.boolean)) ∈ lw_all := lw_g (lw_at lw_m6 4 rfl) rfl
theorem q1335 : (Jvm.Cond.methodLink "WireSchemas$JsonReader" (148 : Nat) ({ cls := "WireSchemas$Whole", name := "read", desc := "(LWireSchemas$Row;)V" } : Jvm.MethodName)) ∈ lw_all := lw_g (lw_at lw_m6 5 rfl) rfl
theorem q1359 : (Jvm.Cond.methodLink "WireSchemas$JsonReader" (154 : Nat) ({ cls := "WireSchemas$Whole", name := "fits", desc := "(I)Z" } : Jvm.MethodName)) ∈ lw_all := lw_g (lw_at lw_m6 29 rfl) rfl
theorem q1368 : (Jvm.Cond.methodLink "WireSchemas$JsonReader" (173 : Nat) ({ cls := "WireSchemas$JsonReader", name := "inner", desc := "(LWireSchemas$JsonReader;LWireSchemas$Field;I)LWireSchemas$Slot;" } : Jvm.MethodName)) ∈ lw_all := lw_g (lw_at lw_m6 38 rfl) rfl
theorem q1369 : (Jvm.Cond.static ({ cls := "WireSchemas$JsonReader", name := "inner", desc := "(LWireSchemas$JsonReader;LWireSchemas$Field;I)LWireSchemas$Slot;" } : Jvm.MethodName)) ∈ lw_all := lw_g (lw_at lw_m6 39 rfl) rfl
theorem q1370 : (Jvm.Cond.code ({ cls := "WireSchemas$JsonReader", name := "inner", desc := "(LWireSchemas$JsonReader;LWireSchemas$Field;I)LWireSchemas$Slot;" } : Jvm.MethodName) prog_6_method_16_code (4 : Nat) (Option.some (Jvm.ClassFile.FieldType.object "WireSchemas$Slot"))) ∈ lw_all := lw_g (lw_at lw_m6 40 rfl) rfl
theorem q1371 : (Jvm.Cond.methodLink "WireSchemas$JsonReader" (177 : Nat) ({ cls := "WireSchemas$Value", name := "put", desc := "(LWireSchemas$Slot;)V" } : Jvm.MethodName)) ∈ lw_all := lw_g (lw_at lw_m6 41 rfl) rfl
theorem q2047 : (Jvm.Cond.castable "WireSchemas$JsonReader" "java/lang/Object") ∈ lw_tbl := lw_at lw_m8 237 rfl
theorem in_X14 : ∀ w ∈ wsX140, w ∈ lw_all := lw_in wsX140 [1205, 1207, 1209, 1211, 1213] (by decide +kernel) (by decide +kernel)
/-! WireSchemas$Whole -/
def RX15 : String := "WireSchemas$Whole"
def TX15 : u_T := fun k => match k with
  | 0 => ("WireSchemas$Whole", "isRight", "Z", false)
  | 1 => ("WireSchemas$Whole", "minus", "Z", false)
  | _ => ("WireSchemas$Whole", "size", "J", false)
def tyX15 : Nat → FieldType := fun k => match k with
  | 0 => .boolean
  | 1 => .boolean
  | _ => .long
abbrev wsX150 : List Cond := u_ws RX15 TX15 3
theorem nmX15 : ∀ a, a < 3 → ∀ b, b < 3 → a ≠ b → (TX15 a).2.1 ≠ (TX15 b).2.1 := by decide +kernel
theorem tyX15_ok : ∀ k, k < 3 → parseFieldDescriptor (TX15 k).2.2.1 = some (tyX15 k) := by decide +kernel
abbrev cX15_init : ByteArray := prog_15_method_1_code
def yX15_init : MethodName := ⟨RX15, "<init>", "()V"⟩
abbrev cX15_read : ByteArray := prog_15_method_2_code
def yX15_read : MethodName := ⟨RX15, "read", "(LWireSchemas$Row;)V"⟩
abbrev cX15_isDigit : ByteArray := prog_15_method_3_code
def yX15_isDigit : MethodName := ⟨RX15, "isDigit", "(I)Z"⟩
abbrev cX15_reckon : ByteArray := prog_15_method_4_code
def yX15_reckon : MethodName := ⟨RX15, "reckon", "(LWireSchemas$Row;IIIJ)V"⟩
abbrev cX15_grow : ByteArray := prog_15_method_5_code
def yX15_grow : MethodName := ⟨RX15, "grow", "(I)Z"⟩
abbrev cX15_fits : ByteArray := prog_15_method_6_code
def yX15_fits : MethodName := ⟨RX15, "fits", "(I)Z"⟩
theorem q163 : (Jvm.Cond.initialized "WireSchemas$Whole") ∈ lw_all := lw_g (lw_at lw_m1 33 rfl) rfl
theorem q280 : (Jvm.Cond.fieldLinkNest "WireSchemas$Whole" (44 : Nat) "WireSchemas$Row" "size" "I" "WireSchemas") ∈ lw_tbl := lw_at lw_m1 150 rfl
theorem q634 : (Jvm.Cond.selects "WireSchemas$Whole" ({ cls := "java/lang/Object", name := "getClass", desc := "()Ljava/lang/Class;" } : Jvm.MethodName) ({ cls := "java/lang/Object", name := "getClass", desc := "()Ljava/lang/Class;" } : Jvm.MethodName)) ∈ lw_all := lw_g (lw_at lw_m3 24 rfl) rfl
theorem q1182 : (Jvm.Cond.instantiable "WireSchemas$Whole" (3 : Nat)) ∈ lw_all := lw_g (lw_at lw_m5 92 rfl) rfl
theorem q1184 : (Jvm.Cond.instanceMethod ({ cls := "WireSchemas$Whole", name := "<init>", desc := "()V" } : Jvm.MethodName)) ∈ lw_all := lw_g (lw_at lw_m5 94 rfl) rfl
theorem q1185 : (Jvm.Cond.code ({ cls := "WireSchemas$Whole", name := "<init>", desc := "()V" } : Jvm.MethodName) prog_15_method_1_code (1 : Nat) (Option.none : Option Jvm.ClassFile.FieldType)) ∈ lw_all := lw_g (lw_at lw_m5 95 rfl) rfl
theorem q1186 : (Jvm.Cond.methodLink "WireSchemas$Whole" (3 : Nat) ({ cls := "java/lang/Object", name := "<init>", desc := "()V" } : Jvm.MethodName)) ∈ lw_all := lw_g (lw_at lw_m5 96 rfl) rfl
theorem q1187 : (Jvm.Cond.fieldLink "WireSchemas$Whole" (9 : Nat) "WireSchemas$Whole" "isRight" "Z") ∈ lw_all := lw_g (lw_at lw_m5 97 rfl) rfl
theorem q1189 : (Jvm.Cond.fieldLink "WireSchemas$Whole" (25 : Nat) "WireSchemas$Whole" "minus" "Z") ∈ lw_all := lw_g (lw_at lw_m5 99 rfl) rfl
theorem q1191 : (Jvm.Cond.fieldLink "WireSchemas$Whole" (15 : Nat) "WireSchemas$Whole" "size" "J") ∈ lw_all := lw_g (lw_at lw_m5 101 rfl) rfl
theorem q1193 : (Jvm.Cond.lays "WireSchemas$Whole" "WireSchemas$Whole" "isRight" "Z") ∈ lw_all := lw_g (lw_at lw_m5 103 rfl) rfl
theorem q1194 : (Jvm.Cond.soleField "WireSchemas$Whole" "isRight") ∈ lw_all := lw_g (lw_at lw_m5 104 rfl) rfl
theorem q1195 : (Jvm.Cond.lays "WireSchemas$Whole" "WireSchemas$Whole" "minus" "Z") ∈ lw_all := lw_g (lw_at lw_m5 105 rfl) rfl
theorem q1196 : (Jvm.Cond.soleField "WireSchemas$Whole" "minus") ∈ lw_all := lw_g (lw_at lw_m5 106 rfl) rfl
theorem q1197 : (Jvm.Cond.lays "WireSchemas$Whole" "WireSchemas$Whole" "size" "J") ∈ lw_all := lw_g (lw_at lw_m5 107 rfl) rfl
theorem q1198 : (Jvm.Cond.soleField "WireSchemas$Whole" "size") ∈ lw_all := lw_g (lw_at lw_m5 108 rfl) rfl
theorem q1199 : (Jvm.Cond.superclass "WireSchemas$Whole" "java/lang/Object") ∈ lw_all := lw_g (lw_at lw_m5 109 rfl) rfl
theorem q1336 : (Jvm.Cond.instanceMethod ({ cls := "WireSchemas$Whole", name := "read", desc := "(LWireSchemas$Row;)V" } : Jvm.MethodName)) ∈ lw_all := lw_g (lw_at lw_m6 6 rfl) rfl
theorem q1337 : (Jvm.Cond.selects "WireSchemas$Whole" ({ cls := "WireSchemas$Whole", name := "read", desc := "(LWireSchemas$Row;)V" } : Jvm.MethodName) ({ cls := "WireSchemas$Whole", name := "read", desc := "(LWireSchemas$Row;)V" } : Jvm.MethodName)) ∈ lw_all := lw_g (lw_at lw_m6 7 rfl) rfl
theorem q1338 : (Jvm.Cond.code ({ cls := "WireSchemas$Whole", name := "read", desc := "(LWireSchemas$Row;)V" } : Jvm.MethodName) prog_15_method_2_code (11 : Nat) (Option.none : Option Jvm.ClassFile.FieldType)) ∈ lw_all := lw_g (lw_at lw_m6 8 rfl) rfl
theorem q1339 : (Jvm.Cond.methodLink "WireSchemas$Whole" (19 : Nat) ({ cls := "WireSchemas$Row", name := "at", desc := "(I)I" } : Jvm.MethodName)) ∈ lw_all := lw_g (lw_at lw_m6 9 rfl) rfl
theorem q1340 : (Jvm.Cond.methodLink "WireSchemas$Whole" (28 : Nat) ({ cls := "WireSchemas$Whole", name := "isDigit", desc := "(I)Z" } : Jvm.MethodName)) ∈ lw_all := lw_g (lw_at lw_m6 10 rfl) rfl
theorem q1341 : (Jvm.Cond.static ({ cls := "WireSchemas$Whole", name := "isDigit", desc := "(I)Z" } : Jvm.MethodName)) ∈ lw_all := lw_g (lw_at lw_m6 11 rfl) rfl
theorem q1342 : (Jvm.Cond.code ({ cls := "WireSchemas$Whole", name := "isDigit", desc := "(I)Z" } : Jvm.MethodName) prog_15_method_3_code (1 : Nat) (Option.some Jvm.ClassFile.FieldType.boolean)) ∈ lw_all := lw_g (lw_at lw_m6 12 rfl) rfl
theorem q1343 : (Jvm.Cond.constantLong "WireSchemas$Whole" (32 : Nat) (100000 : Int64)) ∈ lw_all := lw_g (lw_at lw_m6 13 rfl) rfl
theorem q1344 : (Jvm.Cond.constantLong "WireSchemas$Whole" (34 : Nat) (10 : Int64)) ∈ lw_all := lw_g (lw_at lw_m6 14 rfl) rfl
theorem q1345 : (Jvm.Cond.constantLong "WireSchemas$Whole" (36 : Nat) (48 : Int64)) ∈ lw_all := lw_g (lw_at lw_m6 15 rfl) rfl
theorem q1346 : (Jvm.Cond.methodLink "WireSchemas$Whole" (38 : Nat) ({ cls := "java/lang/Math", name := "min", desc := "(JJ)J" } : Jvm.MethodName)) ∈ lw_all := lw_g (lw_at lw_m6 16 rfl) rfl
theorem q1349 : (Jvm.Cond.methodLink "WireSchemas$Whole" (47 : Nat) ({ cls := "WireSchemas$Whole", name := "reckon", desc := "(LWireSchemas$Row;IIIJ)V" } : Jvm.MethodName)) ∈ lw_all := lw_g (lw_at lw_m6 19 rfl) rfl
theorem q1350 : (Jvm.Cond.privateMethod ({ cls := "WireSchemas$Whole", name := "reckon", desc := "(LWireSchemas$Row;IIIJ)V" } : Jvm.MethodName)) ∈ lw_tbl := lw_at lw_m6 20 rfl
theorem q1351 : (Jvm.Cond.instanceMethod ({ cls := "WireSchemas$Whole", name := "reckon", desc := "(LWireSchemas$Row;IIIJ)V" } : Jvm.MethodName)) ∈ lw_all := lw_g (lw_at lw_m6 21 rfl) rfl
theorem q1352 : (Jvm.Cond.code ({ cls := "WireSchemas$Whole", name := "reckon", desc := "(LWireSchemas$Row;IIIJ)V" } : Jvm.MethodName) prog_15_method_4_code (14 : Nat) (Option.none : Option Jvm.ClassFile.FieldType)) ∈ lw_all := lw_g (lw_at lw_m6 22 rfl) rfl
theorem q1353 : (Jvm.Cond.methodLink "WireSchemas$Whole" (51 : Nat) ({ cls := "WireSchemas$Whole", name := "grow", desc := "(I)Z" } : Jvm.MethodName)) ∈ lw_all := lw_g (lw_at lw_m6 23 rfl) rfl
theorem q1354 : (Jvm.Cond.privateMethod ({ cls := "WireSchemas$Whole", name := "grow", desc := "(I)Z" } : Jvm.MethodName)) ∈ lw_tbl := lw_at lw_m6 24 rfl
theorem q1355 : (Jvm.Cond.instanceMethod ({ cls := "WireSchemas$Whole", name := "grow", desc := "(I)Z" } : Jvm.MethodName)) ∈ lw_all := lw_g (lw_at lw_m6 25 rfl) rfl
theorem q1356 : (Jvm.Cond.code ({ cls := "WireSchemas$Whole", name := "grow", desc := "(I)Z" } : Jvm.MethodName) prog_15_method_5_code (4 : Nat) (Option.some Jvm.ClassFile.FieldType.boolean)) ∈ lw_all := lw_g (lw_at lw_m6 26 rfl) rfl
theorem q1357 : (Jvm.Cond.constantLong "WireSchemas$Whole" (54 : Nat) (1844674407370955161 : Int64)) ∈ lw_all := lw_g (lw_at lw_m6 27 rfl) rfl
theorem q1358 : (Jvm.Cond.methodLink "WireSchemas$Whole" (56 : Nat) ({ cls := "java/lang/Long", name := "compareUnsigned", desc := "(JJ)I" } : Jvm.MethodName)) ∈ lw_all := lw_g (lw_at lw_m6 28 rfl) rfl
theorem q1360 : (Jvm.Cond.instanceMethod ({ cls := "WireSchemas$Whole", name := "fits", desc := "(I)Z" } : Jvm.MethodName)) ∈ lw_all := lw_g (lw_at lw_m6 30 rfl) rfl
theorem q1361 : (Jvm.Cond.selects "WireSchemas$Whole" ({ cls := "WireSchemas$Whole", name := "fits", desc := "(I)Z" } : Jvm.MethodName) ({ cls := "WireSchemas$Whole", name := "fits", desc := "(I)Z" } : Jvm.MethodName)) ∈ lw_all := lw_g (lw_at lw_m6 31 rfl) rfl
theorem q1362 : (Jvm.Cond.code ({ cls := "WireSchemas$Whole", name := "fits", desc := "(I)Z" } : Jvm.MethodName) prog_15_method_6_code (3 : Nat) (Option.some Jvm.ClassFile.FieldType.boolean)) ∈ lw_all := lw_g (lw_at lw_m6 32 rfl) rfl
theorem q1363 : (Jvm.Cond.constantLong "WireSchemas$Whole" (62 : Nat) (2147483648 : Int64)) ∈ lw_all := lw_g (lw_at lw_m6 33 rfl) rfl
theorem q1364 : (Jvm.Cond.constantLong "WireSchemas$Whole" (64 : Nat) (2147483647 : Int64)) ∈ lw_all := lw_g (lw_at lw_m6 34 rfl) rfl
theorem q1365 : (Jvm.Cond.constantLong "WireSchemas$Whole" (66 : Nat) (4294967295 : Int64)) ∈ lw_all := lw_g (lw_at lw_m6 35 rfl) rfl
theorem q1366 : (Jvm.Cond.constantLong "WireSchemas$Whole" (68 : Nat) (-9223372036854775808 : Int64)) ∈ lw_all := lw_g (lw_at lw_m6 36 rfl) rfl
theorem q1367 : (Jvm.Cond.constantLong "WireSchemas$Whole" (70 : Nat) (9223372036854775807 : Int64)) ∈ lw_all := lw_g (lw_at lw_m6 37 rfl) rfl
theorem q2048 : (Jvm.Cond.castable "WireSchemas$Whole" "java/lang/Object") ∈ lw_tbl := lw_at lw_m8 238 rfl
theorem in_X15 : ∀ w ∈ wsX150, w ∈ lw_all := lw_in wsX150 [1193, 1195, 1197] (by decide +kernel) (by decide +kernel)
/-! WireSchemas$Base64 -/
def RX16 : String := "WireSchemas$Base64"
abbrev cX16_read : ByteArray := prog_2_method_3_code
def yX16_read : MethodName := ⟨RX16, "read", "(LWireSchemas$Row;)LWireSchemas$Row;"⟩
abbrev cX16_value : ByteArray := prog_2_method_2_code
def yX16_value : MethodName := ⟨RX16, "value", "(I)I"⟩
theorem q164 : (Jvm.Cond.initialized "WireSchemas$Base64") ∈ lw_all := lw_g (lw_at lw_m1 34 rfl) rfl
theorem q281 : (Jvm.Cond.fieldLinkNest "WireSchemas$Base64" (9 : Nat) "WireSchemas$Row" "size" "I" "WireSchemas") ∈ lw_tbl := lw_at lw_m1 151 rfl
theorem q1314 : (Jvm.Cond.static ({ cls := "WireSchemas$Base64", name := "read", desc := "(LWireSchemas$Row;)LWireSchemas$Row;" } : Jvm.MethodName)) ∈ lw_all := lw_g (lw_at lw_m5 224 rfl) rfl
theorem q1315 : (Jvm.Cond.code ({ cls := "WireSchemas$Base64", name := "read", desc := "(LWireSchemas$Row;)LWireSchemas$Row;" } : Jvm.MethodName) prog_2_method_3_code (8 : Nat) (Option.some (Jvm.ClassFile.FieldType.object "WireSchemas$Row"))) ∈ lw_all := lw_g (lw_at lw_m5 225 rfl) rfl
theorem q1316 : (Jvm.Cond.methodLink "WireSchemas$Base64" (15 : Nat) ({ cls := "WireSchemas$Row", name := "at", desc := "(I)I" } : Jvm.MethodName)) ∈ lw_all := lw_g (lw_at lw_m5 226 rfl) rfl
theorem q1317 : (Jvm.Cond.classLink "WireSchemas$Base64" (10 : Nat) "WireSchemas$Row") ∈ lw_all := lw_g (lw_at lw_m5 227 rfl) rfl
theorem q1318 : (Jvm.Cond.methodLinkNest "WireSchemas$Base64" (19 : Nat) ({ cls := "WireSchemas$Row", name := "<init>", desc := "()V" } : Jvm.MethodName) "WireSchemas") ∈ lw_tbl := lw_at lw_m5 228 rfl
theorem q1319 : (Jvm.Cond.methodLink "WireSchemas$Base64" (20 : Nat) ({ cls := "WireSchemas$Base64", name := "value", desc := "(I)I" } : Jvm.MethodName)) ∈ lw_all := lw_g (lw_at lw_m5 229 rfl) rfl
theorem q1320 : (Jvm.Cond.static ({ cls := "WireSchemas$Base64", name := "value", desc := "(I)I" } : Jvm.MethodName)) ∈ lw_all := lw_g (lw_at lw_m5 230 rfl) rfl
theorem q1321 : (Jvm.Cond.code ({ cls := "WireSchemas$Base64", name := "value", desc := "(I)I" } : Jvm.MethodName) prog_2_method_2_code (1 : Nat) (Option.some Jvm.ClassFile.FieldType.int)) ∈ lw_all := lw_g (lw_at lw_m5 231 rfl) rfl
theorem q1322 : (Jvm.Cond.methodLink "WireSchemas$Base64" (25 : Nat) ({ cls := "WireSchemas$Row", name := "add", desc := "(I)V" } : Jvm.MethodName)) ∈ lw_all := lw_g (lw_at lw_m5 232 rfl) rfl
/-! WireSchemas$WireWriter -/
def RX17 : String := "WireSchemas$WireWriter"
abbrev cX17_write : ByteArray := prog_17_method_7_code
def yX17_write : MethodName := ⟨RX17, "write", "(LWireSchemas$Value;)LWireSchemas$Row;"⟩
abbrev cX17_slot : ByteArray := prog_17_method_6_code
def yX17_slot : MethodName := ⟨RX17, "slot", "(LWireSchemas$Row;LWireSchemas$Slot;)V"⟩
abbrev cX17_tag : ByteArray := prog_17_method_4_code
def yX17_tag : MethodName := ⟨RX17, "tag", "(LWireSchemas$Row;LWireSchemas$Field;I)V"⟩
abbrev cX17_varint : ByteArray := prog_17_method_2_code
def yX17_varint : MethodName := ⟨RX17, "varint", "(LWireSchemas$Row;J)V"⟩
abbrev cX17_number : ByteArray := prog_17_method_3_code
def yX17_number : MethodName := ⟨RX17, "number", "(LWireSchemas$Row;LWireSchemas$Field;J)V"⟩
abbrev cX17_part : ByteArray := prog_17_method_5_code
def yX17_part : MethodName := ⟨RX17, "part", "(LWireSchemas$Row;LWireSchemas$Row;)V"⟩
theorem q165 : (Jvm.Cond.initialized "WireSchemas$WireWriter") ∈ lw_all := lw_g (lw_at lw_m1 35 rfl) rfl
theorem q275 : (Jvm.Cond.fieldLinkNest "WireSchemas$WireWriter" (41 : Nat) "WireSchemas$Row" "cells" "[B" "WireSchemas") ∈ lw_tbl := lw_at lw_m1 145 rfl
theorem q283 : (Jvm.Cond.fieldLinkNest "WireSchemas$WireWriter" (38 : Nat) "WireSchemas$Row" "size" "I" "WireSchemas") ∈ lw_tbl := lw_at lw_m1 153 rfl
theorem q572 : (Jvm.Cond.fieldLinkNest "WireSchemas$WireWriter" (96 : Nat) "WireSchemas$MessageType" "ordered" "[LWireSchemas$Field;" "WireSchemas") ∈ lw_tbl := lw_at lw_m2 202 rfl
theorem q727 : (Jvm.Cond.fieldLinkNest "WireSchemas$WireWriter" (35 : Nat) "WireSchemas$Field" "number" "I" "WireSchemas") ∈ lw_tbl := lw_at lw_m3 117 rfl
theorem q731 : (Jvm.Cond.fieldLinkNest "WireSchemas$WireWriter" (19 : Nat) "WireSchemas$Field" "kind" "I" "WireSchemas") ∈ lw_tbl := lw_at lw_m3 121 rfl
theorem q744 : (Jvm.Cond.fieldLinkNest "WireSchemas$WireWriter" (102 : Nat) "WireSchemas$Field" "repeated" "Z" "WireSchemas") ∈ lw_tbl := lw_at lw_m3 134 rfl
theorem q946 : (Jvm.Cond.fieldLinkNest "WireSchemas$WireWriter" (90 : Nat) "WireSchemas$Value" "type" "LWireSchemas$MessageType;" "WireSchemas") ∈ lw_tbl := lw_at lw_m4 96 rfl
theorem q952 : (Jvm.Cond.fieldLinkNest "WireSchemas$WireWriter" (106 : Nat) "WireSchemas$Value" "first" "LWireSchemas$Slot;" "WireSchemas") ∈ lw_tbl := lw_at lw_m4 102 rfl
theorem q1020 : (Jvm.Cond.fieldLinkNest "WireSchemas$WireWriter" (49 : Nat) "WireSchemas$Slot" "field" "LWireSchemas$Field;" "WireSchemas") ∈ lw_tbl := lw_at lw_m4 170 rfl
theorem q1022 : (Jvm.Cond.fieldLinkNest "WireSchemas$WireWriter" (67 : Nat) "WireSchemas$Slot" "number" "J" "WireSchemas") ∈ lw_tbl := lw_at lw_m4 172 rfl
theorem q1027 : (Jvm.Cond.fieldLinkNest "WireSchemas$WireWriter" (77 : Nat) "WireSchemas$Slot" "bytes" "LWireSchemas$Row;" "WireSchemas") ∈ lw_tbl := lw_at lw_m4 177 rfl
theorem q1032 : (Jvm.Cond.fieldLinkNest "WireSchemas$WireWriter" (73 : Nat) "WireSchemas$Slot" "message" "LWireSchemas$Value;" "WireSchemas") ∈ lw_tbl := lw_at lw_m4 182 rfl
theorem q1038 : (Jvm.Cond.fieldLinkNest "WireSchemas$WireWriter" (122 : Nat) "WireSchemas$Slot" "next" "LWireSchemas$Slot;" "WireSchemas") ∈ lw_tbl := lw_at lw_m4 188 rfl
theorem q1373 : (Jvm.Cond.static ({ cls := "WireSchemas$WireWriter", name := "write", desc := "(LWireSchemas$Value;)LWireSchemas$Row;" } : Jvm.MethodName)) ∈ lw_all := lw_g (lw_at lw_m6 43 rfl) rfl
theorem q1374 : (Jvm.Cond.code ({ cls := "WireSchemas$WireWriter", name := "write", desc := "(LWireSchemas$Value;)LWireSchemas$Row;" } : Jvm.MethodName) prog_17_method_7_code (8 : Nat) (Option.some (Jvm.ClassFile.FieldType.object "WireSchemas$Row"))) ∈ lw_all := lw_g (lw_at lw_m6 44 rfl) rfl
theorem q1375 : (Jvm.Cond.classLink "WireSchemas$WireWriter" (14 : Nat) "WireSchemas$Row") ∈ lw_all := lw_g (lw_at lw_m6 45 rfl) rfl
theorem q1376 : (Jvm.Cond.methodLinkNest "WireSchemas$WireWriter" (89 : Nat) ({ cls := "WireSchemas$Row", name := "<init>", desc := "()V" } : Jvm.MethodName) "WireSchemas") ∈ lw_tbl := lw_at lw_m6 46 rfl
theorem q1377 : (Jvm.Cond.methodLink "WireSchemas$WireWriter" (110 : Nat) ({ cls := "WireSchemas$Value", name := "of", desc := "(LWireSchemas$Field;LWireSchemas$Slot;)LWireSchemas$Slot;" } : Jvm.MethodName)) ∈ lw_all := lw_g (lw_at lw_m6 47 rfl) rfl
theorem q1378 : (Jvm.Cond.methodLink "WireSchemas$WireWriter" (114 : Nat) ({ cls := "WireSchemas$Value", name := "get", desc := "(LWireSchemas$Field;)LWireSchemas$Slot;" } : Jvm.MethodName)) ∈ lw_all := lw_g (lw_at lw_m6 48 rfl) rfl
theorem q1379 : (Jvm.Cond.methodLink "WireSchemas$WireWriter" (63 : Nat) ({ cls := "WireSchemas$Field", name := "isPlain", desc := "()Z" } : Jvm.MethodName)) ∈ lw_all := lw_g (lw_at lw_m6 49 rfl) rfl
theorem q1380 : (Jvm.Cond.methodLink "WireSchemas$WireWriter" (118 : Nat) ({ cls := "WireSchemas$WireWriter", name := "slot", desc := "(LWireSchemas$Row;LWireSchemas$Slot;)V" } : Jvm.MethodName)) ∈ lw_all := lw_g (lw_at lw_m6 50 rfl) rfl
theorem q1381 : (Jvm.Cond.static ({ cls := "WireSchemas$WireWriter", name := "slot", desc := "(LWireSchemas$Row;LWireSchemas$Slot;)V" } : Jvm.MethodName)) ∈ lw_all := lw_g (lw_at lw_m6 51 rfl) rfl
theorem q1382 : (Jvm.Cond.code ({ cls := "WireSchemas$WireWriter", name := "slot", desc := "(LWireSchemas$Row;LWireSchemas$Slot;)V" } : Jvm.MethodName) prog_17_method_6_code (3 : Nat) (Option.none : Option Jvm.ClassFile.FieldType)) ∈ lw_all := lw_g (lw_at lw_m6 52 rfl) rfl
theorem q1383 : (Jvm.Cond.methodLink "WireSchemas$WireWriter" (55 : Nat) ({ cls := "WireSchemas$Field", name := "wire", desc := "()I" } : Jvm.MethodName)) ∈ lw_all := lw_g (lw_at lw_m6 53 rfl) rfl
theorem q1384 : (Jvm.Cond.methodLink "WireSchemas$WireWriter" (59 : Nat) ({ cls := "WireSchemas$WireWriter", name := "tag", desc := "(LWireSchemas$Row;LWireSchemas$Field;I)V" } : Jvm.MethodName)) ∈ lw_all := lw_g (lw_at lw_m6 54 rfl) rfl
theorem q1385 : (Jvm.Cond.static ({ cls := "WireSchemas$WireWriter", name := "tag", desc := "(LWireSchemas$Row;LWireSchemas$Field;I)V" } : Jvm.MethodName)) ∈ lw_all := lw_g (lw_at lw_m6 55 rfl) rfl
theorem q1386 : (Jvm.Cond.code ({ cls := "WireSchemas$WireWriter", name := "tag", desc := "(LWireSchemas$Row;LWireSchemas$Field;I)V" } : Jvm.MethodName) prog_17_method_4_code (3 : Nat) (Option.none : Option Jvm.ClassFile.FieldType)) ∈ lw_all := lw_g (lw_at lw_m6 56 rfl) rfl
theorem q1387 : (Jvm.Cond.constantLong "WireSchemas$WireWriter" (33 : Nat) (8 : Int64)) ∈ lw_all := lw_g (lw_at lw_m6 57 rfl) rfl
theorem q1388 : (Jvm.Cond.methodLink "WireSchemas$WireWriter" (27 : Nat) ({ cls := "WireSchemas$WireWriter", name := "varint", desc := "(LWireSchemas$Row;J)V" } : Jvm.MethodName)) ∈ lw_all := lw_g (lw_at lw_m6 58 rfl) rfl
theorem q1389 : (Jvm.Cond.static ({ cls := "WireSchemas$WireWriter", name := "varint", desc := "(LWireSchemas$Row;J)V" } : Jvm.MethodName)) ∈ lw_all := lw_g (lw_at lw_m6 59 rfl) rfl
theorem q1390 : (Jvm.Cond.code ({ cls := "WireSchemas$WireWriter", name := "varint", desc := "(LWireSchemas$Row;J)V" } : Jvm.MethodName) prog_17_method_2_code (5 : Nat) (Option.none : Option Jvm.ClassFile.FieldType)) ∈ lw_all := lw_g (lw_at lw_m6 60 rfl) rfl
theorem q1391 : (Jvm.Cond.constantLong "WireSchemas$WireWriter" (9 : Nat) (-128 : Int64)) ∈ lw_all := lw_g (lw_at lw_m6 61 rfl) rfl
theorem q1392 : (Jvm.Cond.constantLong "WireSchemas$WireWriter" (11 : Nat) (127 : Int64)) ∈ lw_all := lw_g (lw_at lw_m6 62 rfl) rfl
theorem q1393 : (Jvm.Cond.methodLink "WireSchemas$WireWriter" (13 : Nat) ({ cls := "WireSchemas$Row", name := "add", desc := "(I)V" } : Jvm.MethodName)) ∈ lw_all := lw_g (lw_at lw_m6 63 rfl) rfl
theorem q1394 : (Jvm.Cond.methodLink "WireSchemas$WireWriter" (70 : Nat) ({ cls := "WireSchemas$WireWriter", name := "number", desc := "(LWireSchemas$Row;LWireSchemas$Field;J)V" } : Jvm.MethodName)) ∈ lw_all := lw_g (lw_at lw_m6 64 rfl) rfl
theorem q1395 : (Jvm.Cond.static ({ cls := "WireSchemas$WireWriter", name := "number", desc := "(LWireSchemas$Row;LWireSchemas$Field;J)V" } : Jvm.MethodName)) ∈ lw_all := lw_g (lw_at lw_m6 65 rfl) rfl
theorem q1396 : (Jvm.Cond.code ({ cls := "WireSchemas$WireWriter", name := "number", desc := "(LWireSchemas$Row;LWireSchemas$Field;J)V" } : Jvm.MethodName) prog_17_method_3_code (5 : Nat) (Option.none : Option Jvm.ClassFile.FieldType)) ∈ lw_all := lw_g (lw_at lw_m6 66 rfl) rfl
theorem q1397 : (Jvm.Cond.constantLong "WireSchemas$WireWriter" (25 : Nat) (4294967295 : Int64)) ∈ lw_all := lw_g (lw_at lw_m6 67 rfl) rfl
theorem q1398 : (Jvm.Cond.methodLink "WireSchemas$WireWriter" (81 : Nat) ({ cls := "WireSchemas$WireWriter", name := "write", desc := "(LWireSchemas$Value;)LWireSchemas$Row;" } : Jvm.MethodName)) ∈ lw_all := lw_g (lw_at lw_m6 68 rfl) rfl
theorem q1399 : (Jvm.Cond.methodLink "WireSchemas$WireWriter" (85 : Nat) ({ cls := "WireSchemas$WireWriter", name := "part", desc := "(LWireSchemas$Row;LWireSchemas$Row;)V" } : Jvm.MethodName)) ∈ lw_all := lw_g (lw_at lw_m6 69 rfl) rfl
theorem q1400 : (Jvm.Cond.static ({ cls := "WireSchemas$WireWriter", name := "part", desc := "(LWireSchemas$Row;LWireSchemas$Row;)V" } : Jvm.MethodName)) ∈ lw_all := lw_g (lw_at lw_m6 70 rfl) rfl
theorem q1401 : (Jvm.Cond.code ({ cls := "WireSchemas$WireWriter", name := "part", desc := "(LWireSchemas$Row;LWireSchemas$Row;)V" } : Jvm.MethodName) prog_17_method_5_code (2 : Nat) (Option.none : Option Jvm.ClassFile.FieldType)) ∈ lw_all := lw_g (lw_at lw_m6 71 rfl) rfl
theorem q1402 : (Jvm.Cond.methodLink "WireSchemas$WireWriter" (45 : Nat) ({ cls := "WireSchemas$Row", name := "addAll", desc := "([BII)V" } : Jvm.MethodName)) ∈ lw_all := lw_g (lw_at lw_m6 72 rfl) rfl
/-! WireSchemas$Scope -/
def RX2 : String := "WireSchemas$Scope"
def TX2 : u_T := fun k => match k with
  | 0 => ("WireSchemas$Scope", "around", "LWireSchemas$Scope;", true)
  | 1 => ("WireSchemas$Scope", "messages", "Ljava/util/ArrayList;", true)
  | 2 => ("WireSchemas$Scope", "enums", "Ljava/util/ArrayList;", true)
  | _ => ("WireSchemas$Scope", "names", "Ljava/util/ArrayList;", true)
def tyX2 : Nat → FieldType := fun k => match k with
  | 0 => .object "WireSchemas$Scope"
  | 1 => .object "java/util/ArrayList"
  | 2 => .object "java/util/ArrayList"
  | _ => .object "java/util/ArrayList"
abbrev wsX20 : List Cond := u_ws RX2 TX2 4
theorem nmX2 : ∀ a, a < 4 → ∀ b, b < 4 → a ≠ b → (TX2 a).2.1 ≠ (TX2 b).2.1 := by decide +kernel
theorem tyX2_ok : ∀ k, k < 4 → parseFieldDescriptor (TX2 k).2.2.1 = some (tyX2 k) := by decide +kernel
abbrev cX2_init : ByteArray := prog_12_method_1_code
def yX2_init : MethodName := ⟨RX2, "<init>", "(LWireSchemas$Scope;)V"⟩
abbrev cX2_message : ByteArray := prog_12_method_2_code
def yX2_message : MethodName := ⟨RX2, "message", "(LWireSchemas$Row;)LWireSchemas$MessageType;"⟩
abbrev cX2_enumOf : ByteArray := prog_12_method_3_code
def yX2_enumOf : MethodName := ⟨RX2, "enumOf", "(LWireSchemas$Row;)LWireSchemas$EnumType;"⟩
theorem q133 : (Jvm.Cond.initialized "WireSchemas$Scope") ∈ lw_all := lw_g (lw_at lw_m1 3 rfl) rfl
theorem q181 : (Jvm.Cond.instantiable "WireSchemas$Scope" (4 : Nat)) ∈ lw_all := lw_g (lw_at lw_m1 51 rfl) rfl
theorem q183 : (Jvm.Cond.instanceMethod ({ cls := "WireSchemas$Scope", name := "<init>", desc := "(LWireSchemas$Scope;)V" } : Jvm.MethodName)) ∈ lw_all := lw_g (lw_at lw_m1 53 rfl) rfl
theorem q184 : (Jvm.Cond.code ({ cls := "WireSchemas$Scope", name := "<init>", desc := "(LWireSchemas$Scope;)V" } : Jvm.MethodName) prog_12_method_1_code (2 : Nat) (Option.none : Option Jvm.ClassFile.FieldType)) ∈ lw_all := lw_g (lw_at lw_m1 54 rfl) rfl
theorem q185 : (Jvm.Cond.methodLink "WireSchemas$Scope" (1 : Nat) ({ cls := "java/lang/Object", name := "<init>", desc := "()V" } : Jvm.MethodName)) ∈ lw_all := lw_g (lw_at lw_m1 55 rfl) rfl
theorem q186 : (Jvm.Cond.classLink "WireSchemas$Scope" (7 : Nat) "java/util/ArrayList") ∈ lw_all := lw_g (lw_at lw_m1 56 rfl) rfl
theorem q188 : (Jvm.Cond.methodLink "WireSchemas$Scope" (9 : Nat) ({ cls := "java/util/ArrayList", name := "<init>", desc := "()V" } : Jvm.MethodName)) ∈ lw_all := lw_g (lw_at lw_m1 58 rfl) rfl
theorem q213 : (Jvm.Cond.fieldLink "WireSchemas$Scope" (22 : Nat) "WireSchemas$Scope" "around" "LWireSchemas$Scope;") ∈ lw_all := lw_g (lw_at lw_m1 83 rfl) rfl
theorem q215 : (Jvm.Cond.fieldLink "WireSchemas$Scope" (10 : Nat) "WireSchemas$Scope" "messages" "Ljava/util/ArrayList;") ∈ lw_all := lw_g (lw_at lw_m1 85 rfl) rfl
theorem q217 : (Jvm.Cond.fieldLink "WireSchemas$Scope" (16 : Nat) "WireSchemas$Scope" "enums" "Ljava/util/ArrayList;") ∈ lw_all := lw_g (lw_at lw_m1 87 rfl) rfl
theorem q219 : (Jvm.Cond.fieldLink "WireSchemas$Scope" (19 : Nat) "WireSchemas$Scope" "names" "Ljava/util/ArrayList;") ∈ lw_all := lw_g (lw_at lw_m1 89 rfl) rfl
theorem q222 : (Jvm.Cond.laysFinal "WireSchemas$Scope" "WireSchemas$Scope" "around" "LWireSchemas$Scope;") ∈ lw_all := lw_g (lw_at lw_m1 92 rfl) rfl
theorem q223 : (Jvm.Cond.soleField "WireSchemas$Scope" "around") ∈ lw_all := lw_g (lw_at lw_m1 93 rfl) rfl
theorem q224 : (Jvm.Cond.laysFinal "WireSchemas$Scope" "WireSchemas$Scope" "messages" "Ljava/util/ArrayList;") ∈ lw_all := lw_g (lw_at lw_m1 94 rfl) rfl
theorem q225 : (Jvm.Cond.soleField "WireSchemas$Scope" "messages") ∈ lw_all := lw_g (lw_at lw_m1 95 rfl) rfl
theorem q226 : (Jvm.Cond.laysFinal "WireSchemas$Scope" "WireSchemas$Scope" "enums" "Ljava/util/ArrayList;") ∈ lw_all := lw_g (lw_at lw_m1 96 rfl) rfl
theorem q227 : (Jvm.Cond.soleField "WireSchemas$Scope" "enums") ∈ lw_all := lw_g (lw_at lw_m1 97 rfl) rfl
theorem q228 : (Jvm.Cond.laysFinal "WireSchemas$Scope" "WireSchemas$Scope" "names" "Ljava/util/ArrayList;") ∈ lw_all := lw_g (lw_at lw_m1 98 rfl) rfl
theorem q229 : (Jvm.Cond.soleField "WireSchemas$Scope" "names") ∈ lw_all := lw_g (lw_at lw_m1 99 rfl) rfl
theorem q230 : (Jvm.Cond.superclass "WireSchemas$Scope" "java/lang/Object") ∈ lw_all := lw_g (lw_at lw_m1 100 rfl) rfl
theorem q555 : (Jvm.Cond.fieldLinkNest "WireSchemas$Scope" (36 : Nat) "WireSchemas$MessageType" "name" "LWireSchemas$Row;" "WireSchemas") ∈ lw_tbl := lw_at lw_m2 185 rfl
theorem q631 : (Jvm.Cond.selects "WireSchemas$Scope" ({ cls := "java/lang/Object", name := "getClass", desc := "()Ljava/lang/Class;" } : Jvm.MethodName) ({ cls := "java/lang/Object", name := "getClass", desc := "()Ljava/lang/Class;" } : Jvm.MethodName)) ∈ lw_all := lw_g (lw_at lw_m3 21 rfl) rfl
theorem q668 : (Jvm.Cond.fieldLinkNest "WireSchemas$Scope" (48 : Nat) "WireSchemas$EnumType" "name" "LWireSchemas$Row;" "WireSchemas") ∈ lw_tbl := lw_at lw_m3 58 rfl
theorem q878 : (Jvm.Cond.instanceMethod ({ cls := "WireSchemas$Scope", name := "message", desc := "(LWireSchemas$Row;)LWireSchemas$MessageType;" } : Jvm.MethodName)) ∈ lw_all := lw_g (lw_at lw_m4 28 rfl) rfl
theorem q879 : (Jvm.Cond.selects "WireSchemas$Scope" ({ cls := "WireSchemas$Scope", name := "message", desc := "(LWireSchemas$Row;)LWireSchemas$MessageType;" } : Jvm.MethodName) ({ cls := "WireSchemas$Scope", name := "message", desc := "(LWireSchemas$Row;)LWireSchemas$MessageType;" } : Jvm.MethodName)) ∈ lw_all := lw_g (lw_at lw_m4 29 rfl) rfl
theorem q880 : (Jvm.Cond.code ({ cls := "WireSchemas$Scope", name := "message", desc := "(LWireSchemas$Row;)LWireSchemas$MessageType;" } : Jvm.MethodName) prog_12_method_2_code (3 : Nat) (Option.some (Jvm.ClassFile.FieldType.object "WireSchemas$MessageType"))) ∈ lw_all := lw_g (lw_at lw_m4 30 rfl) rfl
theorem q881 : (Jvm.Cond.methodLink "WireSchemas$Scope" (26 : Nat) ({ cls := "java/util/ArrayList", name := "size", desc := "()I" } : Jvm.MethodName)) ∈ lw_all := lw_g (lw_at lw_m4 31 rfl) rfl
theorem q882 : (Jvm.Cond.methodLink "WireSchemas$Scope" (30 : Nat) ({ cls := "java/util/ArrayList", name := "get", desc := "(I)Ljava/lang/Object;" } : Jvm.MethodName)) ∈ lw_all := lw_g (lw_at lw_m4 32 rfl) rfl
theorem q883 : (Jvm.Cond.classLink "WireSchemas$Scope" (34 : Nat) "WireSchemas$MessageType") ∈ lw_all := lw_g (lw_at lw_m4 33 rfl) rfl
theorem q884 : (Jvm.Cond.methodLink "WireSchemas$Scope" (40 : Nat) ({ cls := "WireSchemas$Row", name := "same", desc := "(LWireSchemas$Row;)Z" } : Jvm.MethodName)) ∈ lw_all := lw_g (lw_at lw_m4 34 rfl) rfl
theorem q886 : (Jvm.Cond.instanceMethod ({ cls := "WireSchemas$Scope", name := "enumOf", desc := "(LWireSchemas$Row;)LWireSchemas$EnumType;" } : Jvm.MethodName)) ∈ lw_all := lw_g (lw_at lw_m4 36 rfl) rfl
theorem q887 : (Jvm.Cond.selects "WireSchemas$Scope" ({ cls := "WireSchemas$Scope", name := "enumOf", desc := "(LWireSchemas$Row;)LWireSchemas$EnumType;" } : Jvm.MethodName) ({ cls := "WireSchemas$Scope", name := "enumOf", desc := "(LWireSchemas$Row;)LWireSchemas$EnumType;" } : Jvm.MethodName)) ∈ lw_all := lw_g (lw_at lw_m4 37 rfl) rfl
theorem q888 : (Jvm.Cond.code ({ cls := "WireSchemas$Scope", name := "enumOf", desc := "(LWireSchemas$Row;)LWireSchemas$EnumType;" } : Jvm.MethodName) prog_12_method_3_code (3 : Nat) (Option.some (Jvm.ClassFile.FieldType.object "WireSchemas$EnumType"))) ∈ lw_all := lw_g (lw_at lw_m4 38 rfl) rfl
theorem q889 : (Jvm.Cond.classLink "WireSchemas$Scope" (46 : Nat) "WireSchemas$EnumType") ∈ lw_all := lw_g (lw_at lw_m4 39 rfl) rfl
theorem q2035 : (Jvm.Cond.castable "WireSchemas$Scope" "java/lang/Object") ∈ lw_tbl := lw_at lw_m8 225 rfl
theorem in_X2 : ∀ w ∈ wsX20, w ∈ lw_all := lw_in wsX20 [222, 224, 226, 228] (by decide +kernel) (by decide +kernel)
/-! WireSchemas$Row -/
def RX3 : String := "WireSchemas$Row"
def TX3 : u_T := fun k => match k with
  | 0 => ("WireSchemas$Row", "cells", "[B", false)
  | _ => ("WireSchemas$Row", "size", "I", false)
def tyX3 : Nat → FieldType := fun k => match k with
  | 0 => .array .byte
  | _ => .int
abbrev wsX30 : List Cond := u_ws RX3 TX3 2
theorem nmX3 : ∀ a, a < 2 → ∀ b, b < 2 → a ≠ b → (TX3 a).2.1 ≠ (TX3 b).2.1 := by decide +kernel
theorem tyX3_ok : ∀ k, k < 2 → parseFieldDescriptor (TX3 k).2.2.1 = some (tyX3 k) := by decide +kernel
abbrev cX3_init : ByteArray := prog_9_method_1_code
def yX3_init : MethodName := ⟨RX3, "<init>", "()V"⟩
abbrev cX3_addAll : ByteArray := prog_9_method_3_code
def yX3_addAll : MethodName := ⟨RX3, "addAll", "([BII)V"⟩
abbrev cX3_add : ByteArray := prog_9_method_2_code
def yX3_add : MethodName := ⟨RX3, "add", "(I)V"⟩
abbrev cX3_at : ByteArray := prog_9_method_5_code
def yX3_at : MethodName := ⟨RX3, "at", "(I)I"⟩
abbrev cX3_same : ByteArray := prog_9_method_7_code
def yX3_same : MethodName := ⟨RX3, "same", "(LWireSchemas$Row;)Z"⟩
abbrev cX3_same_2 : ByteArray := prog_9_method_6_code
def yX3_same_2 : MethodName := ⟨RX3, "same", "([BII)Z"⟩
abbrev cX3_is : ByteArray := prog_9_method_8_code
def yX3_is : MethodName := ⟨RX3, "is", "(Ljava/lang/String;)Z"⟩
abbrev cX3_isText : ByteArray := prog_9_method_11_code
def yX3_isText : MethodName := ⟨RX3, "isText", "()Z"⟩
abbrev cX3_signLength : ByteArray := prog_9_method_12_code
def yX3_signLength : MethodName := ⟨RX3, "signLength", "(I)I"⟩
abbrev cX3_clear : ByteArray := prog_9_method_9_code
def yX3_clear : MethodName := ⟨RX3, "clear", "()V"⟩
abbrev cX3_addText : ByteArray := prog_9_method_4_code
def yX3_addText : MethodName := ⟨RX3, "addText", "(Ljava/lang/String;)V"⟩
abbrev cX3_addSign : ByteArray := prog_9_method_13_code
def yX3_addSign : MethodName := ⟨RX3, "addSign", "(I)V"⟩
abbrev cX3_copy : ByteArray := prog_9_method_10_code
def yX3_copy : MethodName := ⟨RX3, "copy", "()LWireSchemas$Row;"⟩
theorem q137 : (Jvm.Cond.initialized "WireSchemas$Row") ∈ lw_all := lw_g (lw_at lw_m1 7 rfl) rfl
theorem q267 : (Jvm.Cond.instantiable "WireSchemas$Row" (2 : Nat)) ∈ lw_all := lw_g (lw_at lw_m1 137 rfl) rfl
theorem q269 : (Jvm.Cond.instanceMethod ({ cls := "WireSchemas$Row", name := "<init>", desc := "()V" } : Jvm.MethodName)) ∈ lw_all := lw_g (lw_at lw_m1 139 rfl) rfl
theorem q270 : (Jvm.Cond.code ({ cls := "WireSchemas$Row", name := "<init>", desc := "()V" } : Jvm.MethodName) prog_9_method_1_code (1 : Nat) (Option.none : Option Jvm.ClassFile.FieldType)) ∈ lw_all := lw_g (lw_at lw_m1 140 rfl) rfl
theorem q271 : (Jvm.Cond.methodLink "WireSchemas$Row" (3 : Nat) ({ cls := "java/lang/Object", name := "<init>", desc := "()V" } : Jvm.MethodName)) ∈ lw_all := lw_g (lw_at lw_m1 141 rfl) rfl
theorem q272 : (Jvm.Cond.fieldLink "WireSchemas$Row" (9 : Nat) "WireSchemas$Row" "NO_CELLS" "[B") ∈ lw_all := lw_g (lw_at lw_m1 142 rfl) rfl
theorem q273 : (Jvm.Cond.laysStatic "WireSchemas$Row" "NO_CELLS" "[B") ∈ lw_tbl := lw_at lw_m1 143 rfl
theorem q274 : (Jvm.Cond.fieldLink "WireSchemas$Row" (15 : Nat) "WireSchemas$Row" "cells" "[B") ∈ lw_all := lw_g (lw_at lw_m1 144 rfl) rfl
theorem q278 : (Jvm.Cond.fieldLink "WireSchemas$Row" (18 : Nat) "WireSchemas$Row" "size" "I") ∈ lw_all := lw_g (lw_at lw_m1 148 rfl) rfl
theorem q285 : (Jvm.Cond.lays "WireSchemas$Row" "WireSchemas$Row" "cells" "[B") ∈ lw_all := lw_g (lw_at lw_m1 155 rfl) rfl
theorem q286 : (Jvm.Cond.soleField "WireSchemas$Row" "cells") ∈ lw_all := lw_g (lw_at lw_m1 156 rfl) rfl
theorem q287 : (Jvm.Cond.lays "WireSchemas$Row" "WireSchemas$Row" "size" "I") ∈ lw_all := lw_g (lw_at lw_m1 157 rfl) rfl
theorem q288 : (Jvm.Cond.soleField "WireSchemas$Row" "size") ∈ lw_all := lw_g (lw_at lw_m1 158 rfl) rfl
theorem q289 : (Jvm.Cond.superclass "WireSchemas$Row" "java/lang/Object") ∈ lw_all := lw_g (lw_at lw_m1 159 rfl) rfl
theorem q531 : (Jvm.Cond.instanceMethod ({ cls := "WireSchemas$Row", name := "addAll", desc := "([BII)V" } : Jvm.MethodName)) ∈ lw_all := lw_g (lw_at lw_m2 161 rfl) rfl
theorem q532 : (Jvm.Cond.selects "WireSchemas$Row" ({ cls := "WireSchemas$Row", name := "addAll", desc := "([BII)V" } : Jvm.MethodName) ({ cls := "WireSchemas$Row", name := "addAll", desc := "([BII)V" } : Jvm.MethodName)) ∈ lw_all := lw_g (lw_at lw_m2 162 rfl) rfl
theorem q533 : (Jvm.Cond.code ({ cls := "WireSchemas$Row", name := "addAll", desc := "([BII)V" } : Jvm.MethodName) prog_9_method_3_code (5 : Nat) (Option.none : Option Jvm.ClassFile.FieldType)) ∈ lw_all := lw_g (lw_at lw_m2 163 rfl) rfl
theorem q534 : (Jvm.Cond.methodLink "WireSchemas$Row" (34 : Nat) ({ cls := "WireSchemas$Row", name := "add", desc := "(I)V" } : Jvm.MethodName)) ∈ lw_all := lw_g (lw_at lw_m2 164 rfl) rfl
theorem q535 : (Jvm.Cond.instanceMethod ({ cls := "WireSchemas$Row", name := "add", desc := "(I)V" } : Jvm.MethodName)) ∈ lw_all := lw_g (lw_at lw_m2 165 rfl) rfl
theorem q536 : (Jvm.Cond.selects "WireSchemas$Row" ({ cls := "WireSchemas$Row", name := "add", desc := "(I)V" } : Jvm.MethodName) ({ cls := "WireSchemas$Row", name := "add", desc := "(I)V" } : Jvm.MethodName)) ∈ lw_all := lw_g (lw_at lw_m2 166 rfl) rfl
theorem q537 : (Jvm.Cond.code ({ cls := "WireSchemas$Row", name := "add", desc := "(I)V" } : Jvm.MethodName) prog_9_method_2_code (3 : Nat) (Option.none : Option Jvm.ClassFile.FieldType)) ∈ lw_all := lw_g (lw_at lw_m2 167 rfl) rfl
theorem q538 : (Jvm.Cond.methodLink "WireSchemas$Row" (22 : Nat) ({ cls := "java/lang/Math", name := "max", desc := "(II)I" } : Jvm.MethodName)) ∈ lw_all := lw_g (lw_at lw_m2 168 rfl) rfl
theorem q541 : (Jvm.Cond.methodLink "WireSchemas$Row" (28 : Nat) ({ cls := "java/lang/System", name := "arraycopy", desc := "(Ljava/lang/Object;ILjava/lang/Object;II)V" } : Jvm.MethodName)) ∈ lw_all := lw_g (lw_at lw_m2 171 rfl) rfl
theorem q628 : (Jvm.Cond.selects "WireSchemas$Row" ({ cls := "java/lang/Object", name := "getClass", desc := "()Ljava/lang/Class;" } : Jvm.MethodName) ({ cls := "java/lang/Object", name := "getClass", desc := "()Ljava/lang/Class;" } : Jvm.MethodName)) ∈ lw_all := lw_g (lw_at lw_m3 18 rfl) rfl
theorem q710 : (Jvm.Cond.instanceMethod ({ cls := "WireSchemas$Row", name := "at", desc := "(I)I" } : Jvm.MethodName)) ∈ lw_all := lw_g (lw_at lw_m3 100 rfl) rfl
theorem q711 : (Jvm.Cond.selects "WireSchemas$Row" ({ cls := "WireSchemas$Row", name := "at", desc := "(I)I" } : Jvm.MethodName) ({ cls := "WireSchemas$Row", name := "at", desc := "(I)I" } : Jvm.MethodName)) ∈ lw_all := lw_g (lw_at lw_m3 101 rfl) rfl
theorem q712 : (Jvm.Cond.code ({ cls := "WireSchemas$Row", name := "at", desc := "(I)I" } : Jvm.MethodName) prog_9_method_5_code (2 : Nat) (Option.some Jvm.ClassFile.FieldType.int)) ∈ lw_all := lw_g (lw_at lw_m3 102 rfl) rfl
theorem q838 : (Jvm.Cond.instanceMethod ({ cls := "WireSchemas$Row", name := "same", desc := "(LWireSchemas$Row;)Z" } : Jvm.MethodName)) ∈ lw_all := lw_g (lw_at lw_m3 228 rfl) rfl
theorem q839 : (Jvm.Cond.selects "WireSchemas$Row" ({ cls := "WireSchemas$Row", name := "same", desc := "(LWireSchemas$Row;)Z" } : Jvm.MethodName) ({ cls := "WireSchemas$Row", name := "same", desc := "(LWireSchemas$Row;)Z" } : Jvm.MethodName)) ∈ lw_all := lw_g (lw_at lw_m3 229 rfl) rfl
theorem q840 : (Jvm.Cond.code ({ cls := "WireSchemas$Row", name := "same", desc := "(LWireSchemas$Row;)Z" } : Jvm.MethodName) prog_9_method_7_code (2 : Nat) (Option.some Jvm.ClassFile.FieldType.boolean)) ∈ lw_all := lw_g (lw_at lw_m3 230 rfl) rfl
theorem q841 : (Jvm.Cond.methodLink "WireSchemas$Row" (48 : Nat) ({ cls := "WireSchemas$Row", name := "same", desc := "([BII)Z" } : Jvm.MethodName)) ∈ lw_all := lw_g (lw_at lw_m3 231 rfl) rfl
theorem q842 : (Jvm.Cond.instanceMethod ({ cls := "WireSchemas$Row", name := "same", desc := "([BII)Z" } : Jvm.MethodName)) ∈ lw_all := lw_g (lw_at lw_m3 232 rfl) rfl
theorem q843 : (Jvm.Cond.selects "WireSchemas$Row" ({ cls := "WireSchemas$Row", name := "same", desc := "([BII)Z" } : Jvm.MethodName) ({ cls := "WireSchemas$Row", name := "same", desc := "([BII)Z" } : Jvm.MethodName)) ∈ lw_all := lw_g (lw_at lw_m3 233 rfl) rfl
theorem q844 : (Jvm.Cond.code ({ cls := "WireSchemas$Row", name := "same", desc := "([BII)Z" } : Jvm.MethodName) prog_9_method_6_code (6 : Nat) (Option.some Jvm.ClassFile.FieldType.boolean)) ∈ lw_all := lw_g (lw_at lw_m3 234 rfl) rfl
theorem q862 : (Jvm.Cond.instanceMethod ({ cls := "WireSchemas$Row", name := "is", desc := "(Ljava/lang/String;)Z" } : Jvm.MethodName)) ∈ lw_all := lw_g (lw_at lw_m4 12 rfl) rfl
theorem q863 : (Jvm.Cond.selects "WireSchemas$Row" ({ cls := "WireSchemas$Row", name := "is", desc := "(Ljava/lang/String;)Z" } : Jvm.MethodName) ({ cls := "WireSchemas$Row", name := "is", desc := "(Ljava/lang/String;)Z" } : Jvm.MethodName)) ∈ lw_all := lw_g (lw_at lw_m4 13 rfl) rfl
theorem q864 : (Jvm.Cond.code ({ cls := "WireSchemas$Row", name := "is", desc := "(Ljava/lang/String;)Z" } : Jvm.MethodName) prog_9_method_8_code (4 : Nat) (Option.some Jvm.ClassFile.FieldType.boolean)) ∈ lw_all := lw_g (lw_at lw_m4 14 rfl) rfl
theorem q865 : (Jvm.Cond.methodLink "WireSchemas$Row" (38 : Nat) ({ cls := "java/lang/String", name := "length", desc := "()I" } : Jvm.MethodName)) ∈ lw_all := lw_g (lw_at lw_m4 15 rfl) rfl
theorem q866 : (Jvm.Cond.methodLink "WireSchemas$Row" (44 : Nat) ({ cls := "java/lang/String", name := "charAt", desc := "(I)C" } : Jvm.MethodName)) ∈ lw_all := lw_g (lw_at lw_m4 16 rfl) rfl
theorem q1079 : (Jvm.Cond.instanceMethod ({ cls := "WireSchemas$Row", name := "isText", desc := "()Z" } : Jvm.MethodName)) ∈ lw_all := lw_g (lw_at lw_m4 229 rfl) rfl
theorem q1080 : (Jvm.Cond.selects "WireSchemas$Row" ({ cls := "WireSchemas$Row", name := "isText", desc := "()Z" } : Jvm.MethodName) ({ cls := "WireSchemas$Row", name := "isText", desc := "()Z" } : Jvm.MethodName)) ∈ lw_all := lw_g (lw_at lw_m4 230 rfl) rfl
theorem q1081 : (Jvm.Cond.code ({ cls := "WireSchemas$Row", name := "isText", desc := "()Z" } : Jvm.MethodName) prog_9_method_11_code (3 : Nat) (Option.some Jvm.ClassFile.FieldType.boolean)) ∈ lw_all := lw_g (lw_at lw_m4 231 rfl) rfl
theorem q1082 : (Jvm.Cond.methodLink "WireSchemas$Row" (57 : Nat) ({ cls := "WireSchemas$Row", name := "signLength", desc := "(I)I" } : Jvm.MethodName)) ∈ lw_all := lw_g (lw_at lw_m4 232 rfl) rfl
theorem q1083 : (Jvm.Cond.privateMethod ({ cls := "WireSchemas$Row", name := "signLength", desc := "(I)I" } : Jvm.MethodName)) ∈ lw_tbl := lw_at lw_m4 233 rfl
theorem q1084 : (Jvm.Cond.instanceMethod ({ cls := "WireSchemas$Row", name := "signLength", desc := "(I)I" } : Jvm.MethodName)) ∈ lw_all := lw_g (lw_at lw_m4 234 rfl) rfl
theorem q1085 : (Jvm.Cond.code ({ cls := "WireSchemas$Row", name := "signLength", desc := "(I)I" } : Jvm.MethodName) prog_9_method_12_code (6 : Nat) (Option.some Jvm.ClassFile.FieldType.int)) ∈ lw_all := lw_g (lw_at lw_m4 235 rfl) rfl
theorem q1086 : (Jvm.Cond.methodLink "WireSchemas$Row" (61 : Nat) ({ cls := "WireSchemas$Row", name := "at", desc := "(I)I" } : Jvm.MethodName)) ∈ lw_all := lw_g (lw_at lw_m4 236 rfl) rfl
theorem q1099 : (Jvm.Cond.instanceMethod ({ cls := "WireSchemas$Row", name := "clear", desc := "()V" } : Jvm.MethodName)) ∈ lw_all := lw_g (lw_at lw_m5 9 rfl) rfl
theorem q1100 : (Jvm.Cond.selects "WireSchemas$Row" ({ cls := "WireSchemas$Row", name := "clear", desc := "()V" } : Jvm.MethodName) ({ cls := "WireSchemas$Row", name := "clear", desc := "()V" } : Jvm.MethodName)) ∈ lw_all := lw_g (lw_at lw_m5 10 rfl) rfl
theorem q1101 : (Jvm.Cond.code ({ cls := "WireSchemas$Row", name := "clear", desc := "()V" } : Jvm.MethodName) prog_9_method_9_code (1 : Nat) (Option.none : Option Jvm.ClassFile.FieldType)) ∈ lw_all := lw_g (lw_at lw_m5 11 rfl) rfl
theorem q1119 : (Jvm.Cond.instanceMethod ({ cls := "WireSchemas$Row", name := "addText", desc := "(Ljava/lang/String;)V" } : Jvm.MethodName)) ∈ lw_all := lw_g (lw_at lw_m5 29 rfl) rfl
theorem q1120 : (Jvm.Cond.selects "WireSchemas$Row" ({ cls := "WireSchemas$Row", name := "addText", desc := "(Ljava/lang/String;)V" } : Jvm.MethodName) ({ cls := "WireSchemas$Row", name := "addText", desc := "(Ljava/lang/String;)V" } : Jvm.MethodName)) ∈ lw_all := lw_g (lw_at lw_m5 30 rfl) rfl
theorem q1121 : (Jvm.Cond.code ({ cls := "WireSchemas$Row", name := "addText", desc := "(Ljava/lang/String;)V" } : Jvm.MethodName) prog_9_method_4_code (3 : Nat) (Option.none : Option Jvm.ClassFile.FieldType)) ∈ lw_all := lw_g (lw_at lw_m5 31 rfl) rfl
theorem q1273 : (Jvm.Cond.instanceMethod ({ cls := "WireSchemas$Row", name := "addSign", desc := "(I)V" } : Jvm.MethodName)) ∈ lw_all := lw_g (lw_at lw_m5 183 rfl) rfl
theorem q1274 : (Jvm.Cond.selects "WireSchemas$Row" ({ cls := "WireSchemas$Row", name := "addSign", desc := "(I)V" } : Jvm.MethodName) ({ cls := "WireSchemas$Row", name := "addSign", desc := "(I)V" } : Jvm.MethodName)) ∈ lw_all := lw_g (lw_at lw_m5 184 rfl) rfl
theorem q1275 : (Jvm.Cond.code ({ cls := "WireSchemas$Row", name := "addSign", desc := "(I)V" } : Jvm.MethodName) prog_9_method_13_code (2 : Nat) (Option.none : Option Jvm.ClassFile.FieldType)) ∈ lw_all := lw_g (lw_at lw_m5 185 rfl) rfl
theorem q1276 : (Jvm.Cond.constant "WireSchemas$Row" (64 : Nat) (65536 : Int32)) ∈ lw_all := lw_g (lw_at lw_m5 186 rfl) rfl
theorem q1307 : (Jvm.Cond.instanceMethod ({ cls := "WireSchemas$Row", name := "copy", desc := "()LWireSchemas$Row;" } : Jvm.MethodName)) ∈ lw_all := lw_g (lw_at lw_m5 217 rfl) rfl
theorem q1308 : (Jvm.Cond.selects "WireSchemas$Row" ({ cls := "WireSchemas$Row", name := "copy", desc := "()LWireSchemas$Row;" } : Jvm.MethodName) ({ cls := "WireSchemas$Row", name := "copy", desc := "()LWireSchemas$Row;" } : Jvm.MethodName)) ∈ lw_all := lw_g (lw_at lw_m5 218 rfl) rfl
theorem q1309 : (Jvm.Cond.code ({ cls := "WireSchemas$Row", name := "copy", desc := "()LWireSchemas$Row;" } : Jvm.MethodName) prog_9_method_10_code (2 : Nat) (Option.some (Jvm.ClassFile.FieldType.object "WireSchemas$Row"))) ∈ lw_all := lw_g (lw_at lw_m5 219 rfl) rfl
theorem q1310 : (Jvm.Cond.classLink "WireSchemas$Row" (10 : Nat) "WireSchemas$Row") ∈ lw_all := lw_g (lw_at lw_m5 220 rfl) rfl
theorem q1311 : (Jvm.Cond.methodLink "WireSchemas$Row" (52 : Nat) ({ cls := "WireSchemas$Row", name := "<init>", desc := "()V" } : Jvm.MethodName)) ∈ lw_all := lw_g (lw_at lw_m5 221 rfl) rfl
theorem q1312 : (Jvm.Cond.methodLink "WireSchemas$Row" (53 : Nat) ({ cls := "WireSchemas$Row", name := "addAll", desc := "([BII)V" } : Jvm.MethodName)) ∈ lw_all := lw_g (lw_at lw_m5 222 rfl) rfl
theorem q2037 : (Jvm.Cond.castable "WireSchemas$Row" "java/lang/Object") ∈ lw_tbl := lw_at lw_m8 227 rfl
theorem in_X3 : ∀ w ∈ wsX30, w ∈ lw_all := lw_in wsX30 [285, 287] (by decide +kernel) (by decide +kernel)
/-! WireSchemasModel -/
def RX4 : String := "WireSchemasModel"
def TX4 : u_T := fun k => match k with
  | 0 => ("WireSchemasModel", "code", "I", false)
  | 1 => ("WireSchemasModel", "tape", "[I", true)
  | 2 => ("WireSchemasModel", "input", "[I", true)
  | 3 => ("WireSchemasModel", "out", "[I", true)
  | 4 => ("WireSchemasModel", "taped", "I", false)
  | 5 => ("WireSchemasModel", "size", "I", false)
  | 6 => ("WireSchemasModel", "outSize", "I", false)
  | 7 => ("WireSchemasModel", "full", "Z", false)
  | 8 => ("WireSchemasModel", "text", "[I", true)
  | 9 => ("WireSchemasModel", "token", "[I", true)
  | 10 => ("WireSchemasModel", "place", "[I", true)
  | 11 => ("WireSchemasModel", "length", "[I", true)
  | 12 => ("WireSchemasModel", "tokens", "I", false)
  | 13 => ("WireSchemasModel", "at", "I", false)
  | 14 => ("WireSchemasModel", "bad", "Z", false)
  | 15 => ("WireSchemasModel", "messageName", "[I", true)
  | 16 => ("WireSchemasModel", "messageScope", "[I", true)
  | 17 => ("WireSchemasModel", "enumName", "[I", true)
  | 18 => ("WireSchemasModel", "enumScope", "[I", true)
  | 19 => ("WireSchemasModel", "valueName", "[I", true)
  | 20 => ("WireSchemasModel", "valueNumber", "[I", true)
  | 21 => ("WireSchemasModel", "valueEnum", "[I", true)
  | 22 => ("WireSchemasModel", "fieldName", "[I", true)
  | 23 => ("WireSchemasModel", "fieldMessage", "[I", true)
  | 24 => ("WireSchemasModel", "fieldNumber", "[I", true)
  | 25 => ("WireSchemasModel", "fieldType", "[I", true)
  | 26 => ("WireSchemasModel", "fieldWords", "[I", true)
  | 27 => ("WireSchemasModel", "fieldOneof", "[I", true)
  | 28 => ("WireSchemasModel", "fieldKind", "[I", true)
  | 29 => ("WireSchemasModel", "repeated", "[Z", true)
  | 30 => ("WireSchemasModel", "optional", "[Z", true)
  | 31 => ("WireSchemasModel", "oneofName", "[I", true)
  | 32 => ("WireSchemasModel", "oneofMessage", "[I", true)
  | 33 => ("WireSchemasModel", "reserved", "[I", true)
  | 34 => ("WireSchemasModel", "reservedMessage", "[I", true)
  | 35 => ("WireSchemasModel", "messages", "I", false)
  | 36 => ("WireSchemasModel", "enums", "I", false)
  | 37 => ("WireSchemasModel", "values", "I", false)
  | 38 => ("WireSchemasModel", "fields", "I", false)
  | 39 => ("WireSchemasModel", "oneofs", "I", false)
  | 40 => ("WireSchemasModel", "reserves", "I", false)
  | 41 => ("WireSchemasModel", "name", "[I", true)
  | 42 => ("WireSchemasModel", "other", "[I", true)
  | 43 => ("WireSchemasModel", "from", "[I", true)
  | 44 => ("WireSchemasModel", "to", "[I", true)
  | 45 => ("WireSchemasModel", "parts", "I", false)
  | 46 => ("WireSchemasModel", "spot", "I", false)
  | 47 => ("WireSchemasModel", "varint", "J", false)
  | 48 => ("WireSchemasModel", "tagNumber", "I", false)
  | 49 => ("WireSchemasModel", "tagKind", "I", false)
  | 50 => ("WireSchemasModel", "valueFrom", "I", false)
  | 51 => ("WireSchemasModel", "valueTo", "I", false)
  | 52 => ("WireSchemasModel", "found", "Z", false)
  | 53 => ("WireSchemasModel", "foundFrom", "I", false)
  | 54 => ("WireSchemasModel", "foundTo", "I", false)
  | 55 => ("WireSchemasModel", "foundNumber", "J", false)
  | 56 => ("WireSchemasModel", "said", "[I", true)
  | 57 => ("WireSchemasModel", "saidSize", "I", false)
  | 58 => ("WireSchemasModel", "ofSaid", "Z", false)
  | 59 => ("WireSchemasModel", "whole", "J", false)
  | _ => ("WireSchemasModel", "minus", "Z", false)
def tyX4 : Nat → FieldType := fun k => match k with
  | 0 => .int
  | 1 => .array .int
  | 2 => .array .int
  | 3 => .array .int
  | 4 => .int
  | 5 => .int
  | 6 => .int
  | 7 => .boolean
  | 8 => .array .int
  | 9 => .array .int
  | 10 => .array .int
  | 11 => .array .int
  | 12 => .int
  | 13 => .int
  | 14 => .boolean
  | 15 => .array .int
  | 16 => .array .int
  | 17 => .array .int
  | 18 => .array .int
  | 19 => .array .int
  | 20 => .array .int
  | 21 => .array .int
  | 22 => .array .int
  | 23 => .array .int
  | 24 => .array .int
  | 25 => .array .int
  | 26 => .array .int
  | 27 => .array .int
  | 28 => .array .int
  | 29 => .array .boolean
  | 30 => .array .boolean
  | 31 => .array .int
  | 32 => .array .int
  | 33 => .array .int
  | 34 => .array .int
  | 35 => .int
  | 36 => .int
  | 37 => .int
  | 38 => .int
  | 39 => .int
  | 40 => .int
  | 41 => .array .int
  | 42 => .array .int
  | 43 => .array .int
  | 44 => .array .int
  | 45 => .int
  | 46 => .int
  | 47 => .long
  | 48 => .int
  | 49 => .int
  | 50 => .int
  | 51 => .int
  | 52 => .boolean
  | 53 => .int
  | 54 => .int
  | 55 => .long
  | 56 => .array .int
  | 57 => .int
  | 58 => .boolean
  | 59 => .long
  | _ => .boolean
abbrev wsX40 : List Cond := u_ws RX4 TX4 61
theorem nmX4 : ∀ a, a < 61 → ∀ b, b < 61 → a ≠ b → (TX4 a).2.1 ≠ (TX4 b).2.1 := by decide +kernel
theorem tyX4_ok : ∀ k, k < 61 → parseFieldDescriptor (TX4 k).2.2.1 = some (tyX4 k) := by decide +kernel
abbrev cX4_init : ByteArray := prog_19_method_1_code
def yX4_init : MethodName := ⟨RX4, "<init>", "()V"⟩
abbrev cX4_feed : ByteArray := prog_19_method_3_code
def yX4_feed : MethodName := ⟨RX4, "feed", "(IIIII)Z"⟩
abbrev cX4_end : ByteArray := prog_19_method_4_code
def yX4_end : MethodName := ⟨RX4, "end", "(I)Z"⟩
abbrev cX4_schema : ByteArray := prog_19_method_33_code
def yX4_schema : MethodName := ⟨RX4, "schema", "()I"⟩
abbrev cX4_clearSchema : ByteArray := prog_19_method_32_code
def yX4_clearSchema : MethodName := ⟨RX4, "clearSchema", "()V"⟩
abbrev cX4_readTokens : ByteArray := prog_19_method_7_code
def yX4_readTokens : MethodName := ⟨RX4, "readTokens", "()V"⟩
abbrev cX4_isLetter : ByteArray := prog_19_method_5_code
def yX4_isLetter : MethodName := ⟨RX4, "isLetter", "(I)Z"⟩
abbrev cX4_isDigit : ByteArray := prog_19_method_6_code
def yX4_isDigit : MethodName := ⟨RX4, "isDigit", "(I)Z"⟩
abbrev cX4_readSchema : ByteArray := prog_19_method_20_code
def yX4_readSchema : MethodName := ⟨RX4, "readSchema", "()V"⟩
abbrev cX4_takes : ByteArray := prog_19_method_11_code
def yX4_takes : MethodName := ⟨RX4, "takes", "(Ljava/lang/String;)Z"⟩
abbrev cX4_is : ByteArray := prog_19_method_8_code
def yX4_is : MethodName := ⟨RX4, "is", "(ILjava/lang/String;)Z"⟩
abbrev cX4_sign : ByteArray := prog_19_method_10_code
def yX4_sign : MethodName := ⟨RX4, "sign", "(Ljava/lang/String;)V"⟩
abbrev cX4_looks : ByteArray := prog_19_method_14_code
def yX4_looks : MethodName := ⟨RX4, "looks", "(Ljava/lang/String;)Z"⟩
abbrev cX4_readMessage : ByteArray := prog_19_method_19_code
def yX4_readMessage : MethodName := ⟨RX4, "readMessage", "(II)V"⟩
abbrev cX4_word : ByteArray := prog_19_method_12_code
def yX4_word : MethodName := ⟨RX4, "word", "()I"⟩
abbrev cX4_readEnum : ByteArray := prog_19_method_15_code
def yX4_readEnum : MethodName := ⟨RX4, "readEnum", "(I)V"⟩
abbrev cX4_number : ByteArray := prog_19_method_13_code
def yX4_number : MethodName := ⟨RX4, "number", "()I"⟩
abbrev cX4_readOneof : ByteArray := prog_19_method_17_code
def yX4_readOneof : MethodName := ⟨RX4, "readOneof", "(I)V"⟩
abbrev cX4_readField : ByteArray := prog_19_method_16_code
def yX4_readField : MethodName := ⟨RX4, "readField", "(IIZZ)V"⟩
abbrev cX4_readReserved : ByteArray := prog_19_method_18_code
def yX4_readReserved : MethodName := ⟨RX4, "readReserved", "(I)V"⟩
abbrev cX4_refusal : ByteArray := prog_19_method_31_code
def yX4_refusal : MethodName := ⟨RX4, "refusal", "()I"⟩
abbrev cX4_namesTwice : ByteArray := prog_19_method_23_code
def yX4_namesTwice : MethodName := ⟨RX4, "namesTwice", "()Z"⟩
abbrev cX4_named : ByteArray := prog_19_method_21_code
def yX4_named : MethodName := ⟨RX4, "named", "(II)I"⟩
abbrev cX4_same : ByteArray := prog_19_method_9_code
def yX4_same : MethodName := ⟨RX4, "same", "(II)Z"⟩
abbrev cX4_fieldsNamed : ByteArray := prog_19_method_22_code
def yX4_fieldsNamed : MethodName := ⟨RX4, "fieldsNamed", "(II)I"⟩
abbrev cX4_hasWrongNumber : ByteArray := prog_19_method_24_code
def yX4_hasWrongNumber : MethodName := ⟨RX4, "hasWrongNumber", "()Z"⟩
abbrev cX4_kindOf : ByteArray := prog_19_method_27_code
def yX4_kindOf : MethodName := ⟨RX4, "kindOf", "(I)I"⟩
abbrev cX4_scalarOf : ByteArray := prog_19_method_25_code
def yX4_scalarOf : MethodName := ⟨RX4, "scalarOf", "(I)I"⟩
abbrev cX4_within : ByteArray := prog_19_method_26_code
def yX4_within : MethodName := ⟨RX4, "within", "(II)I"⟩
abbrev cX4_hasWrongEnum : ByteArray := prog_19_method_28_code
def yX4_hasWrongEnum : MethodName := ⟨RX4, "hasWrongEnum", "()Z"⟩
abbrev cX4_sameJson : ByteArray := prog_19_method_30_code
def yX4_sameJson : MethodName := ⟨RX4, "sameJson", "(II)Z"⟩
abbrev cX4_jsonName : ByteArray := prog_19_method_29_code
def yX4_jsonName : MethodName := ⟨RX4, "jsonName", "(I[I)I"⟩
abbrev cX4_count : ByteArray := prog_19_method_34_code
def yX4_count : MethodName := ⟨RX4, "count", "(I)I"⟩
abbrev cX4_field : ByteArray := prog_19_method_35_code
def yX4_field : MethodName := ⟨RX4, "field", "(II)I"⟩
abbrev cX4_letter : ByteArray := prog_19_method_36_code
def yX4_letter : MethodName := ⟨RX4, "letter", "(II)I"⟩
abbrev cX4_toJson : ByteArray := prog_19_method_66_code
def yX4_toJson : MethodName := ⟨RX4, "toJson", "(I)I"⟩
abbrev cX4_isMessage : ByteArray := prog_19_method_46_code
def yX4_isMessage : MethodName := ⟨RX4, "isMessage", "(IIII)Z"⟩
abbrev cX4_takeField : ByteArray := prog_19_method_40_code
def yX4_takeField : MethodName := ⟨RX4, "takeField", "(I)Z"⟩
abbrev cX4_takeVarint : ByteArray := prog_19_method_37_code
def yX4_takeVarint : MethodName := ⟨RX4, "takeVarint", "(I)Z"⟩
abbrev cX4_rightField : ByteArray := prog_19_method_42_code
def yX4_rightField : MethodName := ⟨RX4, "rightField", "(I)I"⟩
abbrev cX4_fieldOf : ByteArray := prog_19_method_41_code
def yX4_fieldOf : MethodName := ⟨RX4, "fieldOf", "(II)I"⟩
abbrev cX4_ownKind : ByteArray := prog_19_method_38_code
def yX4_ownKind : MethodName := ⟨RX4, "ownKind", "(I)I"⟩
abbrev cX4_isPlain : ByteArray := prog_19_method_39_code
def yX4_isPlain : MethodName := ⟨RX4, "isPlain", "(I)Z"⟩
abbrev cX4_isText : ByteArray := prog_19_method_44_code
def yX4_isText : MethodName := ⟨RX4, "isText", "([III)Z"⟩
abbrev cX4_isTail : ByteArray := prog_19_method_43_code
def yX4_isTail : MethodName := ⟨RX4, "isTail", "(I)Z"⟩
abbrev cX4_arePacked : ByteArray := prog_19_method_47_code
def yX4_arePacked : MethodName := ⟨RX4, "arePacked", "(III)Z"⟩
abbrev cX4_takeNumber : ByteArray := prog_19_method_45_code
def yX4_takeNumber : MethodName := ⟨RX4, "takeNumber", "(II)Z"⟩
abbrev cX4_putPart : ByteArray := prog_19_method_62_code
def yX4_putPart : MethodName := ⟨RX4, "putPart", "(III)V"⟩
abbrev cX4_putMessage : ByteArray := prog_19_method_63_code
def yX4_putMessage : MethodName := ⟨RX4, "putMessage", "(III)V"⟩
abbrev cX4_put : ByteArray := prog_19_method_48_code
def yX4_put : MethodName := ⟨RX4, "put", "(I)V"⟩
abbrev cX4_after : ByteArray := prog_19_method_59_code
def yX4_after : MethodName := ⟨RX4, "after", "(II)I"⟩
abbrev cX4_putRow : ByteArray := prog_19_method_64_code
def yX4_putRow : MethodName := ⟨RX4, "putRow", "(IIIIZ)Z"⟩
abbrev cX4_beginElement : ByteArray := prog_19_method_65_code
def yX4_beginElement : MethodName := ⟨RX4, "beginElement", "(IIZ)V"⟩
abbrev cX4_putName : ByteArray := prog_19_method_60_code
def yX4_putName : MethodName := ⟨RX4, "putName", "(IZ)V"⟩
abbrev cX4_putOne : ByteArray := prog_19_method_61_code
def yX4_putOne : MethodName := ⟨RX4, "putOne", "(III)V"⟩
abbrev cX4_putText : ByteArray := prog_19_method_52_code
def yX4_putText : MethodName := ⟨RX4, "putText", "(II)V"⟩
abbrev cX4_putAll : ByteArray := prog_19_method_49_code
def yX4_putAll : MethodName := ⟨RX4, "putAll", "(Ljava/lang/String;)V"⟩
abbrev cX4_putBytes : ByteArray := prog_19_method_54_code
def yX4_putBytes : MethodName := ⟨RX4, "putBytes", "(II)V"⟩
abbrev cX4_sixBits : ByteArray := prog_19_method_53_code
def yX4_sixBits : MethodName := ⟨RX4, "sixBits", "(I)I"⟩
abbrev cX4_meant : ByteArray := prog_19_method_55_code
def yX4_meant : MethodName := ⟨RX4, "meant", "(IJ)J"⟩
abbrev cX4_putNumber : ByteArray := prog_19_method_56_code
def yX4_putNumber : MethodName := ⟨RX4, "putNumber", "(IJ)V"⟩
abbrev cX4_putSigned : ByteArray := prog_19_method_51_code
def yX4_putSigned : MethodName := ⟨RX4, "putSigned", "(J)V"⟩
abbrev cX4_putUnsigned : ByteArray := prog_19_method_50_code
def yX4_putUnsigned : MethodName := ⟨RX4, "putUnsigned", "(J)V"⟩
abbrev cX4_find : ByteArray := prog_19_method_57_code
def yX4_find : MethodName := ⟨RX4, "find", "(IIII)V"⟩
abbrev cX4_isDefault : ByteArray := prog_19_method_58_code
def yX4_isDefault : MethodName := ⟨RX4, "isDefault", "(I)Z"⟩
abbrev cX4_toWire : ByteArray := prog_19_method_97_code
def yX4_toWire : MethodName := ⟨RX4, "toWire", "(I)I"⟩
abbrev cX4_blanks : ByteArray := prog_19_method_67_code
def yX4_blanks : MethodName := ⟨RX4, "blanks", "(I)I"⟩
abbrev cX4_object : ByteArray := prog_19_method_87_code
def yX4_object : MethodName := ⟨RX4, "object", "(III)I"⟩
abbrev cX4_look : ByteArray := prog_19_method_68_code
def yX4_look : MethodName := ⟨RX4, "look", "(I)I"⟩
abbrev cX4_string : ByteArray := prog_19_method_73_code
def yX4_string : MethodName := ⟨RX4, "string", "(I)I"⟩
abbrev cX4_sayByte : ByteArray := prog_19_method_71_code
def yX4_sayByte : MethodName := ⟨RX4, "sayByte", "(I)V"⟩
abbrev cX4_fourDigits : ByteArray := prog_19_method_72_code
def yX4_fourDigits : MethodName := ⟨RX4, "fourDigits", "(I)I"⟩
abbrev cX4_say : ByteArray := prog_19_method_70_code
def yX4_say : MethodName := ⟨RX4, "say", "(I)V"⟩
abbrev cX4_fieldNamed : ByteArray := prog_19_method_86_code
def yX4_fieldNamed : MethodName := ⟨RX4, "fieldNamed", "(I)I"⟩
abbrev cX4_literal : ByteArray := prog_19_method_69_code
def yX4_literal : MethodName := ⟨RX4, "literal", "(ILjava/lang/String;)I"⟩
abbrev cX4_array : ByteArray := prog_19_method_85_code
def yX4_array : MethodName := ⟨RX4, "array", "(III)I"⟩
abbrev cX4_value : ByteArray := prog_19_method_84_code
def yX4_value : MethodName := ⟨RX4, "value", "(III)I"⟩
abbrev cX4_unbase : ByteArray := prog_19_method_82_code
def yX4_unbase : MethodName := ⟨RX4, "unbase", "()Z"⟩
abbrev cX4_sixOf : ByteArray := prog_19_method_81_code
def yX4_sixOf : MethodName := ⟨RX4, "sixOf", "(I)I"⟩
abbrev cX4_valueNamed : ByteArray := prog_19_method_83_code
def yX4_valueNamed : MethodName := ⟨RX4, "valueNamed", "(I)I"⟩
abbrev cX4_numberOf : ByteArray := prog_19_method_80_code
def yX4_numberOf : MethodName := ⟨RX4, "numberOf", "(II)I"⟩
abbrev cX4_numberText : ByteArray := prog_19_method_76_code
def yX4_numberText : MethodName := ⟨RX4, "numberText", "(I)I"⟩
abbrev cX4_symbol : ByteArray := prog_19_method_74_code
def yX4_symbol : MethodName := ⟨RX4, "symbol", "(I)I"⟩
abbrev cX4_digits : ByteArray := prog_19_method_75_code
def yX4_digits : MethodName := ⟨RX4, "digits", "(I)I"⟩
abbrev cX4_isWhole : ByteArray := prog_19_method_77_code
def yX4_isWhole : MethodName := ⟨RX4, "isWhole", "(II)Z"⟩
abbrev cX4_grows : ByteArray := prog_19_method_78_code
def yX4_grows : MethodName := ⟨RX4, "grows", "(I)Z"⟩
abbrev cX4_fits : ByteArray := prog_19_method_79_code
def yX4_fits : MethodName := ⟨RX4, "fits", "(I)Z"⟩
abbrev cX4_putObject : ByteArray := prog_19_method_96_code
def yX4_putObject : MethodName := ⟨RX4, "putObject", "(II)V"⟩
abbrev cX4_member : ByteArray := prog_19_method_88_code
def yX4_member : MethodName := ⟨RX4, "member", "(III)I"⟩
abbrev cX4_putArray : ByteArray := prog_19_method_95_code
def yX4_putArray : MethodName := ⟨RX4, "putArray", "(II)V"⟩
abbrev cX4_putTag : ByteArray := prog_19_method_90_code
def yX4_putTag : MethodName := ⟨RX4, "putTag", "(II)V"⟩
abbrev cX4_putVarint : ByteArray := prog_19_method_89_code
def yX4_putVarint : MethodName := ⟨RX4, "putVarint", "(J)V"⟩
abbrev cX4_putWhole : ByteArray := prog_19_method_91_code
def yX4_putWhole : MethodName := ⟨RX4, "putWhole", "(I)V"⟩
abbrev cX4_putValue : ByteArray := prog_19_method_94_code
def yX4_putValue : MethodName := ⟨RX4, "putValue", "(II)V"⟩
abbrev cX4_putLength : ByteArray := prog_19_method_92_code
def yX4_putLength : MethodName := ⟨RX4, "putLength", "(I)V"⟩
abbrev cX4_putSaid : ByteArray := prog_19_method_93_code
def yX4_putSaid : MethodName := ⟨RX4, "putSaid", "()V"⟩
abbrev cX4_turn : ByteArray := prog_19_method_98_code
def yX4_turn : MethodName := ⟨RX4, "turn", "()Z"⟩
abbrev cX4_output : ByteArray := prog_19_method_99_code
def yX4_output : MethodName := ⟨RX4, "output", "(I)I"⟩
theorem q138 : (Jvm.Cond.initialized "WireSchemasModel") ∈ lw_all := lw_g (lw_at lw_m1 8 rfl) rfl
theorem q636 : (Jvm.Cond.selects "WireSchemasModel" ({ cls := "java/lang/Object", name := "getClass", desc := "()Ljava/lang/Class;" } : Jvm.MethodName) ({ cls := "java/lang/Object", name := "getClass", desc := "()Ljava/lang/Class;" } : Jvm.MethodName)) ∈ lw_all := lw_g (lw_at lw_m3 26 rfl) rfl
theorem q1413 : (Jvm.Cond.instantiable "WireSchemasModel" (61 : Nat)) ∈ lw_all := lw_g (lw_at lw_m6 83 rfl) rfl
theorem q1415 : (Jvm.Cond.instanceMethod ({ cls := "WireSchemasModel", name := "<init>", desc := "()V" } : Jvm.MethodName)) ∈ lw_all := lw_g (lw_at lw_m6 85 rfl) rfl
theorem q1416 : (Jvm.Cond.code ({ cls := "WireSchemasModel", name := "<init>", desc := "()V" } : Jvm.MethodName) prog_19_method_1_code (1 : Nat) (Option.none : Option Jvm.ClassFile.FieldType)) ∈ lw_all := lw_g (lw_at lw_m6 86 rfl) rfl
theorem q1417 : (Jvm.Cond.methodLink "WireSchemasModel" (1 : Nat) ({ cls := "java/lang/Object", name := "<init>", desc := "()V" } : Jvm.MethodName)) ∈ lw_all := lw_g (lw_at lw_m6 87 rfl) rfl
theorem q1418 : (Jvm.Cond.fieldLink "WireSchemasModel" (107 : Nat) "WireSchemasModel" "code" "I") ∈ lw_all := lw_g (lw_at lw_m6 88 rfl) rfl
theorem q1419 : (Jvm.Cond.fieldLink "WireSchemasModel" (7 : Nat) "WireSchemasModel" "tape" "[I") ∈ lw_all := lw_g (lw_at lw_m6 89 rfl) rfl
theorem q1420 : (Jvm.Cond.fieldLink "WireSchemasModel" (13 : Nat) "WireSchemasModel" "input" "[I") ∈ lw_all := lw_g (lw_at lw_m6 90 rfl) rfl
theorem q1421 : (Jvm.Cond.fieldLink "WireSchemasModel" (16 : Nat) "WireSchemasModel" "out" "[I") ∈ lw_all := lw_g (lw_at lw_m6 91 rfl) rfl
theorem q1422 : (Jvm.Cond.fieldLink "WireSchemasModel" (111 : Nat) "WireSchemasModel" "taped" "I") ∈ lw_all := lw_g (lw_at lw_m6 92 rfl) rfl
theorem q1423 : (Jvm.Cond.fieldLink "WireSchemasModel" (114 : Nat) "WireSchemasModel" "size" "I") ∈ lw_all := lw_g (lw_at lw_m6 93 rfl) rfl
theorem q1424 : (Jvm.Cond.fieldLink "WireSchemasModel" (343 : Nat) "WireSchemasModel" "outSize" "I") ∈ lw_all := lw_g (lw_at lw_m6 94 rfl) rfl
theorem q1425 : (Jvm.Cond.fieldLink "WireSchemasModel" (346 : Nat) "WireSchemasModel" "full" "Z") ∈ lw_all := lw_g (lw_at lw_m6 95 rfl) rfl
theorem q1426 : (Jvm.Cond.fieldLink "WireSchemasModel" (19 : Nat) "WireSchemasModel" "text" "[I") ∈ lw_all := lw_g (lw_at lw_m6 96 rfl) rfl
theorem q1427 : (Jvm.Cond.fieldLink "WireSchemasModel" (22 : Nat) "WireSchemasModel" "token" "[I") ∈ lw_all := lw_g (lw_at lw_m6 97 rfl) rfl
theorem q1428 : (Jvm.Cond.fieldLink "WireSchemasModel" (25 : Nat) "WireSchemasModel" "place" "[I") ∈ lw_all := lw_g (lw_at lw_m6 98 rfl) rfl
theorem q1429 : (Jvm.Cond.fieldLink "WireSchemasModel" (28 : Nat) "WireSchemasModel" "length" "[I") ∈ lw_all := lw_g (lw_at lw_m6 99 rfl) rfl
theorem q1430 : (Jvm.Cond.fieldLink "WireSchemasModel" (117 : Nat) "WireSchemasModel" "tokens" "I") ∈ lw_all := lw_g (lw_at lw_m6 100 rfl) rfl
theorem q1431 : (Jvm.Cond.fieldLink "WireSchemasModel" (140 : Nat) "WireSchemasModel" "at" "I") ∈ lw_all := lw_g (lw_at lw_m6 101 rfl) rfl
theorem q1432 : (Jvm.Cond.fieldLink "WireSchemasModel" (136 : Nat) "WireSchemasModel" "bad" "Z") ∈ lw_all := lw_g (lw_at lw_m6 102 rfl) rfl
theorem q1433 : (Jvm.Cond.fieldLink "WireSchemasModel" (31 : Nat) "WireSchemasModel" "messageName" "[I") ∈ lw_all := lw_g (lw_at lw_m6 103 rfl) rfl
theorem q1434 : (Jvm.Cond.fieldLink "WireSchemasModel" (34 : Nat) "WireSchemasModel" "messageScope" "[I") ∈ lw_all := lw_g (lw_at lw_m6 104 rfl) rfl
theorem q1435 : (Jvm.Cond.fieldLink "WireSchemasModel" (37 : Nat) "WireSchemasModel" "enumName" "[I") ∈ lw_all := lw_g (lw_at lw_m6 105 rfl) rfl
theorem q1436 : (Jvm.Cond.fieldLink "WireSchemasModel" (40 : Nat) "WireSchemasModel" "enumScope" "[I") ∈ lw_all := lw_g (lw_at lw_m6 106 rfl) rfl
theorem q1437 : (Jvm.Cond.fieldLink "WireSchemasModel" (43 : Nat) "WireSchemasModel" "valueName" "[I") ∈ lw_all := lw_g (lw_at lw_m6 107 rfl) rfl
theorem q1438 : (Jvm.Cond.fieldLink "WireSchemasModel" (46 : Nat) "WireSchemasModel" "valueNumber" "[I") ∈ lw_all := lw_g (lw_at lw_m6 108 rfl) rfl
theorem q1439 : (Jvm.Cond.fieldLink "WireSchemasModel" (49 : Nat) "WireSchemasModel" "valueEnum" "[I") ∈ lw_all := lw_g (lw_at lw_m6 109 rfl) rfl
theorem q1440 : (Jvm.Cond.fieldLink "WireSchemasModel" (52 : Nat) "WireSchemasModel" "fieldName" "[I") ∈ lw_all := lw_g (lw_at lw_m6 110 rfl) rfl
theorem q1441 : (Jvm.Cond.fieldLink "WireSchemasModel" (55 : Nat) "WireSchemasModel" "fieldMessage" "[I") ∈ lw_all := lw_g (lw_at lw_m6 111 rfl) rfl
theorem q1442 : (Jvm.Cond.fieldLink "WireSchemasModel" (58 : Nat) "WireSchemasModel" "fieldNumber" "[I") ∈ lw_all := lw_g (lw_at lw_m6 112 rfl) rfl
theorem q1443 : (Jvm.Cond.fieldLink "WireSchemasModel" (61 : Nat) "WireSchemasModel" "fieldType" "[I") ∈ lw_all := lw_g (lw_at lw_m6 113 rfl) rfl
theorem q1444 : (Jvm.Cond.fieldLink "WireSchemasModel" (64 : Nat) "WireSchemasModel" "fieldWords" "[I") ∈ lw_all := lw_g (lw_at lw_m6 114 rfl) rfl
theorem q1445 : (Jvm.Cond.fieldLink "WireSchemasModel" (67 : Nat) "WireSchemasModel" "fieldOneof" "[I") ∈ lw_all := lw_g (lw_at lw_m6 115 rfl) rfl
theorem q1446 : (Jvm.Cond.fieldLink "WireSchemasModel" (70 : Nat) "WireSchemasModel" "fieldKind" "[I") ∈ lw_all := lw_g (lw_at lw_m6 116 rfl) rfl
theorem q1447 : (Jvm.Cond.fieldLink "WireSchemasModel" (73 : Nat) "WireSchemasModel" "repeated" "[Z") ∈ lw_all := lw_g (lw_at lw_m6 117 rfl) rfl
theorem q1448 : (Jvm.Cond.fieldLink "WireSchemasModel" (77 : Nat) "WireSchemasModel" "optional" "[Z") ∈ lw_all := lw_g (lw_at lw_m6 118 rfl) rfl
theorem q1449 : (Jvm.Cond.fieldLink "WireSchemasModel" (80 : Nat) "WireSchemasModel" "oneofName" "[I") ∈ lw_all := lw_g (lw_at lw_m6 119 rfl) rfl
theorem q1450 : (Jvm.Cond.fieldLink "WireSchemasModel" (83 : Nat) "WireSchemasModel" "oneofMessage" "[I") ∈ lw_all := lw_g (lw_at lw_m6 120 rfl) rfl
theorem q1451 : (Jvm.Cond.fieldLink "WireSchemasModel" (86 : Nat) "WireSchemasModel" "reserved" "[I") ∈ lw_all := lw_g (lw_at lw_m6 121 rfl) rfl
theorem q1452 : (Jvm.Cond.fieldLink "WireSchemasModel" (89 : Nat) "WireSchemasModel" "reservedMessage" "[I") ∈ lw_all := lw_g (lw_at lw_m6 122 rfl) rfl
theorem q1453 : (Jvm.Cond.fieldLink "WireSchemasModel" (192 : Nat) "WireSchemasModel" "messages" "I") ∈ lw_all := lw_g (lw_at lw_m6 123 rfl) rfl
theorem q1454 : (Jvm.Cond.fieldLink "WireSchemasModel" (147 : Nat) "WireSchemasModel" "enums" "I") ∈ lw_all := lw_g (lw_at lw_m6 124 rfl) rfl
theorem q1455 : (Jvm.Cond.fieldLink "WireSchemasModel" (166 : Nat) "WireSchemasModel" "values" "I") ∈ lw_all := lw_g (lw_at lw_m6 125 rfl) rfl
theorem q1456 : (Jvm.Cond.fieldLink "WireSchemasModel" (177 : Nat) "WireSchemasModel" "fields" "I") ∈ lw_all := lw_g (lw_at lw_m6 126 rfl) rfl
theorem q1457 : (Jvm.Cond.fieldLink "WireSchemasModel" (180 : Nat) "WireSchemasModel" "oneofs" "I") ∈ lw_all := lw_g (lw_at lw_m6 127 rfl) rfl
theorem q1458 : (Jvm.Cond.fieldLink "WireSchemasModel" (187 : Nat) "WireSchemasModel" "reserves" "I") ∈ lw_all := lw_g (lw_at lw_m6 128 rfl) rfl
theorem q1459 : (Jvm.Cond.fieldLink "WireSchemasModel" (92 : Nat) "WireSchemasModel" "name" "[I") ∈ lw_all := lw_g (lw_at lw_m6 129 rfl) rfl
theorem q1460 : (Jvm.Cond.fieldLink "WireSchemasModel" (95 : Nat) "WireSchemasModel" "other" "[I") ∈ lw_all := lw_g (lw_at lw_m6 130 rfl) rfl
theorem q1461 : (Jvm.Cond.fieldLink "WireSchemasModel" (98 : Nat) "WireSchemasModel" "from" "[I") ∈ lw_all := lw_g (lw_at lw_m6 131 rfl) rfl
theorem q1462 : (Jvm.Cond.fieldLink "WireSchemasModel" (101 : Nat) "WireSchemasModel" "to" "[I") ∈ lw_all := lw_g (lw_at lw_m6 132 rfl) rfl
theorem q1463 : (Jvm.Cond.fieldLink "WireSchemasModel" (386 : Nat) "WireSchemasModel" "parts" "I") ∈ lw_all := lw_g (lw_at lw_m6 133 rfl) rfl
theorem q1464 : (Jvm.Cond.fieldLink "WireSchemasModel" (284 : Nat) "WireSchemasModel" "spot" "I") ∈ lw_all := lw_g (lw_at lw_m6 134 rfl) rfl
theorem q1465 : (Jvm.Cond.fieldLink "WireSchemasModel" (280 : Nat) "WireSchemasModel" "varint" "J") ∈ lw_all := lw_g (lw_at lw_m6 135 rfl) rfl
theorem q1466 : (Jvm.Cond.fieldLink "WireSchemasModel" (300 : Nat) "WireSchemasModel" "tagNumber" "I") ∈ lw_all := lw_g (lw_at lw_m6 136 rfl) rfl
theorem q1467 : (Jvm.Cond.fieldLink "WireSchemasModel" (295 : Nat) "WireSchemasModel" "tagKind" "I") ∈ lw_all := lw_g (lw_at lw_m6 137 rfl) rfl
theorem q1468 : (Jvm.Cond.fieldLink "WireSchemasModel" (303 : Nat) "WireSchemasModel" "valueFrom" "I") ∈ lw_all := lw_g (lw_at lw_m6 138 rfl) rfl
theorem q1469 : (Jvm.Cond.fieldLink "WireSchemasModel" (306 : Nat) "WireSchemasModel" "valueTo" "I") ∈ lw_all := lw_g (lw_at lw_m6 139 rfl) rfl
theorem q1470 : (Jvm.Cond.fieldLink "WireSchemasModel" (389 : Nat) "WireSchemasModel" "found" "Z") ∈ lw_all := lw_g (lw_at lw_m6 140 rfl) rfl
theorem q1471 : (Jvm.Cond.fieldLink "WireSchemasModel" (392 : Nat) "WireSchemasModel" "foundFrom" "I") ∈ lw_all := lw_g (lw_at lw_m6 141 rfl) rfl
theorem q1472 : (Jvm.Cond.fieldLink "WireSchemasModel" (395 : Nat) "WireSchemasModel" "foundTo" "I") ∈ lw_all := lw_g (lw_at lw_m6 142 rfl) rfl
theorem q1473 : (Jvm.Cond.fieldLink "WireSchemasModel" (402 : Nat) "WireSchemasModel" "foundNumber" "J") ∈ lw_all := lw_g (lw_at lw_m6 143 rfl) rfl
theorem q1474 : (Jvm.Cond.fieldLink "WireSchemasModel" (104 : Nat) "WireSchemasModel" "said" "[I") ∈ lw_all := lw_g (lw_at lw_m6 144 rfl) rfl
theorem q1475 : (Jvm.Cond.fieldLink "WireSchemasModel" (453 : Nat) "WireSchemasModel" "saidSize" "I") ∈ lw_all := lw_g (lw_at lw_m6 145 rfl) rfl
theorem q1476 : (Jvm.Cond.fieldLink "WireSchemasModel" (463 : Nat) "WireSchemasModel" "ofSaid" "Z") ∈ lw_all := lw_g (lw_at lw_m6 146 rfl) rfl
theorem q1477 : (Jvm.Cond.fieldLink "WireSchemasModel" (476 : Nat) "WireSchemasModel" "whole" "J") ∈ lw_all := lw_g (lw_at lw_m6 147 rfl) rfl
theorem q1478 : (Jvm.Cond.fieldLink "WireSchemasModel" (472 : Nat) "WireSchemasModel" "minus" "Z") ∈ lw_all := lw_g (lw_at lw_m6 148 rfl) rfl
theorem q1479 : (Jvm.Cond.lays "WireSchemasModel" "WireSchemasModel" "code" "I") ∈ lw_all := lw_g (lw_at lw_m6 149 rfl) rfl
theorem q1480 : (Jvm.Cond.soleField "WireSchemasModel" "code") ∈ lw_all := lw_g (lw_at lw_m6 150 rfl) rfl
theorem q1481 : (Jvm.Cond.laysFinal "WireSchemasModel" "WireSchemasModel" "tape" "[I") ∈ lw_all := lw_g (lw_at lw_m6 151 rfl) rfl
theorem q1482 : (Jvm.Cond.soleField "WireSchemasModel" "tape") ∈ lw_all := lw_g (lw_at lw_m6 152 rfl) rfl
theorem q1483 : (Jvm.Cond.laysFinal "WireSchemasModel" "WireSchemasModel" "input" "[I") ∈ lw_all := lw_g (lw_at lw_m6 153 rfl) rfl
theorem q1484 : (Jvm.Cond.soleField "WireSchemasModel" "input") ∈ lw_all := lw_g (lw_at lw_m6 154 rfl) rfl
theorem q1485 : (Jvm.Cond.laysFinal "WireSchemasModel" "WireSchemasModel" "out" "[I") ∈ lw_all := lw_g (lw_at lw_m6 155 rfl) rfl
theorem q1486 : (Jvm.Cond.soleField "WireSchemasModel" "out") ∈ lw_all := lw_g (lw_at lw_m6 156 rfl) rfl
theorem q1487 : (Jvm.Cond.lays "WireSchemasModel" "WireSchemasModel" "taped" "I") ∈ lw_all := lw_g (lw_at lw_m6 157 rfl) rfl
theorem q1488 : (Jvm.Cond.soleField "WireSchemasModel" "taped") ∈ lw_all := lw_g (lw_at lw_m6 158 rfl) rfl
theorem q1489 : (Jvm.Cond.lays "WireSchemasModel" "WireSchemasModel" "size" "I") ∈ lw_all := lw_g (lw_at lw_m6 159 rfl) rfl
theorem q1490 : (Jvm.Cond.soleField "WireSchemasModel" "size") ∈ lw_all := lw_g (lw_at lw_m6 160 rfl) rfl
theorem q1491 : (Jvm.Cond.lays "WireSchemasModel" "WireSchemasModel" "outSize" "I") ∈ lw_all := lw_g (lw_at lw_m6 161 rfl) rfl
theorem q1492 : (Jvm.Cond.soleField "WireSchemasModel" "outSize") ∈ lw_all := lw_g (lw_at lw_m6 162 rfl) rfl
theorem q1493 : (Jvm.Cond.lays "WireSchemasModel" "WireSchemasModel" "full" "Z") ∈ lw_all := lw_g (lw_at lw_m6 163 rfl) rfl
theorem q1494 : (Jvm.Cond.soleField "WireSchemasModel" "full") ∈ lw_all := lw_g (lw_at lw_m6 164 rfl) rfl
theorem q1495 : (Jvm.Cond.laysFinal "WireSchemasModel" "WireSchemasModel" "text" "[I") ∈ lw_all := lw_g (lw_at lw_m6 165 rfl) rfl
theorem q1496 : (Jvm.Cond.soleField "WireSchemasModel" "text") ∈ lw_all := lw_g (lw_at lw_m6 166 rfl) rfl
theorem q1497 : (Jvm.Cond.laysFinal "WireSchemasModel" "WireSchemasModel" "token" "[I") ∈ lw_all := lw_g (lw_at lw_m6 167 rfl) rfl
theorem q1498 : (Jvm.Cond.soleField "WireSchemasModel" "token") ∈ lw_all := lw_g (lw_at lw_m6 168 rfl) rfl
theorem q1499 : (Jvm.Cond.laysFinal "WireSchemasModel" "WireSchemasModel" "place" "[I") ∈ lw_all := lw_g (lw_at lw_m6 169 rfl) rfl
theorem q1500 : (Jvm.Cond.soleField "WireSchemasModel" "place") ∈ lw_all := lw_g (lw_at lw_m6 170 rfl) rfl
theorem q1501 : (Jvm.Cond.laysFinal "WireSchemasModel" "WireSchemasModel" "length" "[I") ∈ lw_all := lw_g (lw_at lw_m6 171 rfl) rfl
theorem q1502 : (Jvm.Cond.soleField "WireSchemasModel" "length") ∈ lw_all := lw_g (lw_at lw_m6 172 rfl) rfl
theorem q1503 : (Jvm.Cond.lays "WireSchemasModel" "WireSchemasModel" "tokens" "I") ∈ lw_all := lw_g (lw_at lw_m6 173 rfl) rfl
theorem q1504 : (Jvm.Cond.soleField "WireSchemasModel" "tokens") ∈ lw_all := lw_g (lw_at lw_m6 174 rfl) rfl
theorem q1505 : (Jvm.Cond.lays "WireSchemasModel" "WireSchemasModel" "at" "I") ∈ lw_all := lw_g (lw_at lw_m6 175 rfl) rfl
theorem q1506 : (Jvm.Cond.soleField "WireSchemasModel" "at") ∈ lw_all := lw_g (lw_at lw_m6 176 rfl) rfl
theorem q1507 : (Jvm.Cond.lays "WireSchemasModel" "WireSchemasModel" "bad" "Z") ∈ lw_all := lw_g (lw_at lw_m6 177 rfl) rfl
theorem q1508 : (Jvm.Cond.soleField "WireSchemasModel" "bad") ∈ lw_all := lw_g (lw_at lw_m6 178 rfl) rfl
theorem q1509 : (Jvm.Cond.laysFinal "WireSchemasModel" "WireSchemasModel" "messageName" "[I") ∈ lw_all := lw_g (lw_at lw_m6 179 rfl) rfl
theorem q1510 : (Jvm.Cond.soleField "WireSchemasModel" "messageName") ∈ lw_all := lw_g (lw_at lw_m6 180 rfl) rfl
theorem q1511 : (Jvm.Cond.laysFinal "WireSchemasModel" "WireSchemasModel" "messageScope" "[I") ∈ lw_all := lw_g (lw_at lw_m6 181 rfl) rfl
theorem q1512 : (Jvm.Cond.soleField "WireSchemasModel" "messageScope") ∈ lw_all := lw_g (lw_at lw_m6 182 rfl) rfl
theorem q1513 : (Jvm.Cond.laysFinal "WireSchemasModel" "WireSchemasModel" "enumName" "[I") ∈ lw_all := lw_g (lw_at lw_m6 183 rfl) rfl
theorem q1514 : (Jvm.Cond.soleField "WireSchemasModel" "enumName") ∈ lw_all := lw_g (lw_at lw_m6 184 rfl) rfl
theorem q1515 : (Jvm.Cond.laysFinal "WireSchemasModel" "WireSchemasModel" "enumScope" "[I") ∈ lw_all := lw_g (lw_at lw_m6 185 rfl) rfl
theorem q1516 : (Jvm.Cond.soleField "WireSchemasModel" "enumScope") ∈ lw_all := lw_g (lw_at lw_m6 186 rfl) rfl
theorem q1517 : (Jvm.Cond.laysFinal "WireSchemasModel" "WireSchemasModel" "valueName" "[I") ∈ lw_all := lw_g (lw_at lw_m6 187 rfl) rfl
theorem q1518 : (Jvm.Cond.soleField "WireSchemasModel" "valueName") ∈ lw_all := lw_g (lw_at lw_m6 188 rfl) rfl
theorem q1519 : (Jvm.Cond.laysFinal "WireSchemasModel" "WireSchemasModel" "valueNumber" "[I") ∈ lw_all := lw_g (lw_at lw_m6 189 rfl) rfl
theorem q1520 : (Jvm.Cond.soleField "WireSchemasModel" "valueNumber") ∈ lw_all := lw_g (lw_at lw_m6 190 rfl) rfl
theorem q1521 : (Jvm.Cond.laysFinal "WireSchemasModel" "WireSchemasModel" "valueEnum" "[I") ∈ lw_all := lw_g (lw_at lw_m6 191 rfl) rfl
theorem q1522 : (Jvm.Cond.soleField "WireSchemasModel" "valueEnum") ∈ lw_all := lw_g (lw_at lw_m6 192 rfl) rfl
theorem q1523 : (Jvm.Cond.laysFinal "WireSchemasModel" "WireSchemasModel" "fieldName" "[I") ∈ lw_all := lw_g (lw_at lw_m6 193 rfl) rfl
theorem q1524 : (Jvm.Cond.soleField "WireSchemasModel" "fieldName") ∈ lw_all := lw_g (lw_at lw_m6 194 rfl) rfl
theorem q1525 : (Jvm.Cond.laysFinal "WireSchemasModel" "WireSchemasModel" "fieldMessage" "[I") ∈ lw_all := lw_g (lw_at lw_m6 195 rfl) rfl
theorem q1526 : (Jvm.Cond.soleField "WireSchemasModel" "fieldMessage") ∈ lw_all := lw_g (lw_at lw_m6 196 rfl) rfl
theorem q1527 : (Jvm.Cond.laysFinal "WireSchemasModel" "WireSchemasModel" "fieldNumber" "[I") ∈ lw_all := lw_g (lw_at lw_m6 197 rfl) rfl
theorem q1528 : (Jvm.Cond.soleField "WireSchemasModel" "fieldNumber") ∈ lw_all := lw_g (lw_at lw_m6 198 rfl) rfl
theorem q1529 : (Jvm.Cond.laysFinal "WireSchemasModel" "WireSchemasModel" "fieldType" "[I") ∈ lw_all := lw_g (lw_at lw_m6 199 rfl) rfl
theorem q1530 : (Jvm.Cond.soleField "WireSchemasModel" "fieldType") ∈ lw_all := lw_g (lw_at lw_m6 200 rfl) rfl
theorem q1531 : (Jvm.Cond.laysFinal "WireSchemasModel" "WireSchemasModel" "fieldWords" "[I") ∈ lw_all := lw_g (lw_at lw_m6 201 rfl) rfl
theorem q1532 : (Jvm.Cond.soleField "WireSchemasModel" "fieldWords") ∈ lw_all := lw_g (lw_at lw_m6 202 rfl) rfl
theorem q1533 : (Jvm.Cond.laysFinal "WireSchemasModel" "WireSchemasModel" "fieldOneof" "[I") ∈ lw_all := lw_g (lw_at lw_m6 203 rfl) rfl
theorem q1534 : (Jvm.Cond.soleField "WireSchemasModel" "fieldOneof") ∈ lw_all := lw_g (lw_at lw_m6 204 rfl) rfl
theorem q1535 : (Jvm.Cond.laysFinal "WireSchemasModel" "WireSchemasModel" "fieldKind" "[I") ∈ lw_all := lw_g (lw_at lw_m6 205 rfl) rfl
theorem q1536 : (Jvm.Cond.soleField "WireSchemasModel" "fieldKind") ∈ lw_all := lw_g (lw_at lw_m6 206 rfl) rfl
theorem q1537 : (Jvm.Cond.laysFinal "WireSchemasModel" "WireSchemasModel" "repeated" "[Z") ∈ lw_all := lw_g (lw_at lw_m6 207 rfl) rfl
theorem q1538 : (Jvm.Cond.soleField "WireSchemasModel" "repeated") ∈ lw_all := lw_g (lw_at lw_m6 208 rfl) rfl
theorem q1539 : (Jvm.Cond.laysFinal "WireSchemasModel" "WireSchemasModel" "optional" "[Z") ∈ lw_all := lw_g (lw_at lw_m6 209 rfl) rfl
theorem q1540 : (Jvm.Cond.soleField "WireSchemasModel" "optional") ∈ lw_all := lw_g (lw_at lw_m6 210 rfl) rfl
theorem q1541 : (Jvm.Cond.laysFinal "WireSchemasModel" "WireSchemasModel" "oneofName" "[I") ∈ lw_all := lw_g (lw_at lw_m6 211 rfl) rfl
theorem q1542 : (Jvm.Cond.soleField "WireSchemasModel" "oneofName") ∈ lw_all := lw_g (lw_at lw_m6 212 rfl) rfl
theorem q1543 : (Jvm.Cond.laysFinal "WireSchemasModel" "WireSchemasModel" "oneofMessage" "[I") ∈ lw_all := lw_g (lw_at lw_m6 213 rfl) rfl
theorem q1544 : (Jvm.Cond.soleField "WireSchemasModel" "oneofMessage") ∈ lw_all := lw_g (lw_at lw_m6 214 rfl) rfl
theorem q1545 : (Jvm.Cond.laysFinal "WireSchemasModel" "WireSchemasModel" "reserved" "[I") ∈ lw_all := lw_g (lw_at lw_m6 215 rfl) rfl
theorem q1546 : (Jvm.Cond.soleField "WireSchemasModel" "reserved") ∈ lw_all := lw_g (lw_at lw_m6 216 rfl) rfl
theorem q1547 : (Jvm.Cond.laysFinal "WireSchemasModel" "WireSchemasModel" "reservedMessage" "[I") ∈ lw_all := lw_g (lw_at lw_m6 217 rfl) rfl
theorem q1548 : (Jvm.Cond.soleField "WireSchemasModel" "reservedMessage") ∈ lw_all := lw_g (lw_at lw_m6 218 rfl) rfl
theorem q1549 : (Jvm.Cond.lays "WireSchemasModel" "WireSchemasModel" "messages" "I") ∈ lw_all := lw_g (lw_at lw_m6 219 rfl) rfl
theorem q1550 : (Jvm.Cond.soleField "WireSchemasModel" "messages") ∈ lw_all := lw_g (lw_at lw_m6 220 rfl) rfl
theorem q1551 : (Jvm.Cond.lays "WireSchemasModel" "WireSchemasModel" "enums" "I") ∈ lw_all := lw_g (lw_at lw_m6 221 rfl) rfl
theorem q1552 : (Jvm.Cond.soleField "WireSchemasModel" "enums") ∈ lw_all := lw_g (lw_at lw_m6 222 rfl) rfl
theorem q1553 : (Jvm.Cond.lays "WireSchemasModel" "WireSchemasModel" "values" "I") ∈ lw_all := lw_g (lw_at lw_m6 223 rfl) rfl
theorem q1554 : (Jvm.Cond.soleField "WireSchemasModel" "values") ∈ lw_all := lw_g (lw_at lw_m6 224 rfl) rfl
theorem q1555 : (Jvm.Cond.lays "WireSchemasModel" "WireSchemasModel" "fields" "I") ∈ lw_all := lw_g (lw_at lw_m6 225 rfl) rfl
theorem q1556 : (Jvm.Cond.soleField "WireSchemasModel" "fields") ∈ lw_all := lw_g (lw_at lw_m6 226 rfl) rfl
theorem q1557 : (Jvm.Cond.lays "WireSchemasModel" "WireSchemasModel" "oneofs" "I") ∈ lw_all := lw_g (lw_at lw_m6 227 rfl) rfl
theorem q1558 : (Jvm.Cond.soleField "WireSchemasModel" "oneofs") ∈ lw_all := lw_g (lw_at lw_m6 228 rfl) rfl
theorem q1559 : (Jvm.Cond.lays "WireSchemasModel" "WireSchemasModel" "reserves" "I") ∈ lw_all := lw_g (lw_at lw_m6 229 rfl) rfl
theorem q1560 : (Jvm.Cond.soleField "WireSchemasModel" "reserves") ∈ lw_all := lw_g (lw_at lw_m6 230 rfl) rfl
theorem q1561 : (Jvm.Cond.laysFinal "WireSchemasModel" "WireSchemasModel" "name" "[I") ∈ lw_all := lw_g (lw_at lw_m6 231 rfl) rfl
theorem q1562 : (Jvm.Cond.soleField "WireSchemasModel" "name") ∈ lw_all := lw_g (lw_at lw_m6 232 rfl) rfl
theorem q1563 : (Jvm.Cond.laysFinal "WireSchemasModel" "WireSchemasModel" "other" "[I") ∈ lw_all := lw_g (lw_at lw_m6 233 rfl) rfl
theorem q1564 : (Jvm.Cond.soleField "WireSchemasModel" "other") ∈ lw_all := lw_g (lw_at lw_m6 234 rfl) rfl
theorem q1565 : (Jvm.Cond.laysFinal "WireSchemasModel" "WireSchemasModel" "from" "[I") ∈ lw_all := lw_g (lw_at lw_m6 235 rfl) rfl
theorem q1566 : (Jvm.Cond.soleField "WireSchemasModel" "from") ∈ lw_all := lw_g (lw_at lw_m6 236 rfl) rfl
theorem q1567 : (Jvm.Cond.laysFinal "WireSchemasModel" "WireSchemasModel" "to" "[I") ∈ lw_all := lw_g (lw_at lw_m6 237 rfl) rfl
theorem q1568 : (Jvm.Cond.soleField "WireSchemasModel" "to") ∈ lw_all := lw_g (lw_at lw_m6 238 rfl) rfl
theorem q1569 : (Jvm.Cond.lays "WireSchemasModel" "WireSchemasModel" "parts" "I") ∈ lw_all := lw_g (lw_at lw_m6 239 rfl) rfl
theorem q1570 : (Jvm.Cond.soleField "WireSchemasModel" "parts") ∈ lw_all := lw_g (lw_at lw_m7 0 rfl) rfl
theorem q1571 : (Jvm.Cond.lays "WireSchemasModel" "WireSchemasModel" "spot" "I") ∈ lw_all := lw_g (lw_at lw_m7 1 rfl) rfl
theorem q1572 : (Jvm.Cond.soleField "WireSchemasModel" "spot") ∈ lw_all := lw_g (lw_at lw_m7 2 rfl) rfl
theorem q1573 : (Jvm.Cond.lays "WireSchemasModel" "WireSchemasModel" "varint" "J") ∈ lw_all := lw_g (lw_at lw_m7 3 rfl) rfl
theorem q1574 : (Jvm.Cond.soleField "WireSchemasModel" "varint") ∈ lw_all := lw_g (lw_at lw_m7 4 rfl) rfl
theorem q1575 : (Jvm.Cond.lays "WireSchemasModel" "WireSchemasModel" "tagNumber" "I") ∈ lw_all := lw_g (lw_at lw_m7 5 rfl) rfl
theorem q1576 : (Jvm.Cond.soleField "WireSchemasModel" "tagNumber") ∈ lw_all := lw_g (lw_at lw_m7 6 rfl) rfl
theorem q1577 : (Jvm.Cond.lays "WireSchemasModel" "WireSchemasModel" "tagKind" "I") ∈ lw_all := lw_g (lw_at lw_m7 7 rfl) rfl
theorem q1578 : (Jvm.Cond.soleField "WireSchemasModel" "tagKind") ∈ lw_all := lw_g (lw_at lw_m7 8 rfl) rfl
theorem q1579 : (Jvm.Cond.lays "WireSchemasModel" "WireSchemasModel" "valueFrom" "I") ∈ lw_all := lw_g (lw_at lw_m7 9 rfl) rfl
theorem q1580 : (Jvm.Cond.soleField "WireSchemasModel" "valueFrom") ∈ lw_all := lw_g (lw_at lw_m7 10 rfl) rfl
theorem q1581 : (Jvm.Cond.lays "WireSchemasModel" "WireSchemasModel" "valueTo" "I") ∈ lw_all := lw_g (lw_at lw_m7 11 rfl) rfl
theorem q1582 : (Jvm.Cond.soleField "WireSchemasModel" "valueTo") ∈ lw_all := lw_g (lw_at lw_m7 12 rfl) rfl
theorem q1583 : (Jvm.Cond.lays "WireSchemasModel" "WireSchemasModel" "found" "Z") ∈ lw_all := lw_g (lw_at lw_m7 13 rfl) rfl
theorem q1584 : (Jvm.Cond.soleField "WireSchemasModel" "found") ∈ lw_all := lw_g (lw_at lw_m7 14 rfl) rfl
theorem q1585 : (Jvm.Cond.lays "WireSchemasModel" "WireSchemasModel" "foundFrom" "I") ∈ lw_all := lw_g (lw_at lw_m7 15 rfl) rfl
theorem q1586 : (Jvm.Cond.soleField "WireSchemasModel" "foundFrom") ∈ lw_all := lw_g (lw_at lw_m7 16 rfl) rfl
theorem q1587 : (Jvm.Cond.lays "WireSchemasModel" "WireSchemasModel" "foundTo" "I") ∈ lw_all := lw_g (lw_at lw_m7 17 rfl) rfl
theorem q1588 : (Jvm.Cond.soleField "WireSchemasModel" "foundTo") ∈ lw_all := lw_g (lw_at lw_m7 18 rfl) rfl
theorem q1589 : (Jvm.Cond.lays "WireSchemasModel" "WireSchemasModel" "foundNumber" "J") ∈ lw_all := lw_g (lw_at lw_m7 19 rfl) rfl
theorem q1590 : (Jvm.Cond.soleField "WireSchemasModel" "foundNumber") ∈ lw_all := lw_g (lw_at lw_m7 20 rfl) rfl
theorem q1591 : (Jvm.Cond.laysFinal "WireSchemasModel" "WireSchemasModel" "said" "[I") ∈ lw_all := lw_g (lw_at lw_m7 21 rfl) rfl
theorem q1592 : (Jvm.Cond.soleField "WireSchemasModel" "said") ∈ lw_all := lw_g (lw_at lw_m7 22 rfl) rfl
theorem q1593 : (Jvm.Cond.lays "WireSchemasModel" "WireSchemasModel" "saidSize" "I") ∈ lw_all := lw_g (lw_at lw_m7 23 rfl) rfl
theorem q1594 : (Jvm.Cond.soleField "WireSchemasModel" "saidSize") ∈ lw_all := lw_g (lw_at lw_m7 24 rfl) rfl
theorem q1595 : (Jvm.Cond.lays "WireSchemasModel" "WireSchemasModel" "ofSaid" "Z") ∈ lw_all := lw_g (lw_at lw_m7 25 rfl) rfl
theorem q1596 : (Jvm.Cond.soleField "WireSchemasModel" "ofSaid") ∈ lw_all := lw_g (lw_at lw_m7 26 rfl) rfl
theorem q1597 : (Jvm.Cond.lays "WireSchemasModel" "WireSchemasModel" "whole" "J") ∈ lw_all := lw_g (lw_at lw_m7 27 rfl) rfl
theorem q1598 : (Jvm.Cond.soleField "WireSchemasModel" "whole") ∈ lw_all := lw_g (lw_at lw_m7 28 rfl) rfl
theorem q1599 : (Jvm.Cond.lays "WireSchemasModel" "WireSchemasModel" "minus" "Z") ∈ lw_all := lw_g (lw_at lw_m7 29 rfl) rfl
theorem q1600 : (Jvm.Cond.soleField "WireSchemasModel" "minus") ∈ lw_all := lw_g (lw_at lw_m7 30 rfl) rfl
theorem q1601 : (Jvm.Cond.superclass "WireSchemasModel" "java/lang/Object") ∈ lw_all := lw_g (lw_at lw_m7 31 rfl) rfl
theorem q1604 : (Jvm.Cond.instanceMethod ({ cls := "WireSchemasModel", name := "feed", desc := "(IIIII)Z" } : Jvm.MethodName)) ∈ lw_all := lw_g (lw_at lw_m7 34 rfl) rfl
theorem q1605 : (Jvm.Cond.selects "WireSchemasModel" ({ cls := "WireSchemasModel", name := "feed", desc := "(IIIII)Z" } : Jvm.MethodName) ({ cls := "WireSchemasModel", name := "feed", desc := "(IIIII)Z" } : Jvm.MethodName)) ∈ lw_all := lw_g (lw_at lw_m7 35 rfl) rfl
theorem q1606 : (Jvm.Cond.code ({ cls := "WireSchemasModel", name := "feed", desc := "(IIIII)Z" } : Jvm.MethodName) prog_19_method_3_code (8 : Nat) (Option.some Jvm.ClassFile.FieldType.boolean)) ∈ lw_all := lw_g (lw_at lw_m7 36 rfl) rfl
theorem q1608 : (Jvm.Cond.instanceMethod ({ cls := "WireSchemasModel", name := "end", desc := "(I)Z" } : Jvm.MethodName)) ∈ lw_all := lw_g (lw_at lw_m7 38 rfl) rfl
theorem q1609 : (Jvm.Cond.selects "WireSchemasModel" ({ cls := "WireSchemasModel", name := "end", desc := "(I)Z" } : Jvm.MethodName) ({ cls := "WireSchemasModel", name := "end", desc := "(I)Z" } : Jvm.MethodName)) ∈ lw_all := lw_g (lw_at lw_m7 39 rfl) rfl
theorem q1610 : (Jvm.Cond.code ({ cls := "WireSchemasModel", name := "end", desc := "(I)Z" } : Jvm.MethodName) prog_19_method_4_code (3 : Nat) (Option.some Jvm.ClassFile.FieldType.boolean)) ∈ lw_all := lw_g (lw_at lw_m7 40 rfl) rfl
theorem q1612 : (Jvm.Cond.instanceMethod ({ cls := "WireSchemasModel", name := "schema", desc := "()I" } : Jvm.MethodName)) ∈ lw_all := lw_g (lw_at lw_m7 42 rfl) rfl
theorem q1613 : (Jvm.Cond.selects "WireSchemasModel" ({ cls := "WireSchemasModel", name := "schema", desc := "()I" } : Jvm.MethodName) ({ cls := "WireSchemasModel", name := "schema", desc := "()I" } : Jvm.MethodName)) ∈ lw_all := lw_g (lw_at lw_m7 43 rfl) rfl
theorem q1614 : (Jvm.Cond.code ({ cls := "WireSchemasModel", name := "schema", desc := "()I" } : Jvm.MethodName) prog_19_method_33_code (2 : Nat) (Option.some Jvm.ClassFile.FieldType.int)) ∈ lw_all := lw_g (lw_at lw_m7 44 rfl) rfl
theorem q1615 : (Jvm.Cond.methodLink "WireSchemasModel" (268 : Nat) ({ cls := "WireSchemasModel", name := "clearSchema", desc := "()V" } : Jvm.MethodName)) ∈ lw_all := lw_g (lw_at lw_m7 45 rfl) rfl
theorem q1616 : (Jvm.Cond.privateMethod ({ cls := "WireSchemasModel", name := "clearSchema", desc := "()V" } : Jvm.MethodName)) ∈ lw_tbl := lw_at lw_m7 46 rfl
theorem q1617 : (Jvm.Cond.instanceMethod ({ cls := "WireSchemasModel", name := "clearSchema", desc := "()V" } : Jvm.MethodName)) ∈ lw_all := lw_g (lw_at lw_m7 47 rfl) rfl
theorem q1618 : (Jvm.Cond.code ({ cls := "WireSchemasModel", name := "clearSchema", desc := "()V" } : Jvm.MethodName) prog_19_method_32_code (1 : Nat) (Option.none : Option Jvm.ClassFile.FieldType)) ∈ lw_all := lw_g (lw_at lw_m7 48 rfl) rfl
theorem q1619 : (Jvm.Cond.methodLink "WireSchemasModel" (271 : Nat) ({ cls := "WireSchemasModel", name := "readTokens", desc := "()V" } : Jvm.MethodName)) ∈ lw_all := lw_g (lw_at lw_m7 49 rfl) rfl
theorem q1620 : (Jvm.Cond.privateMethod ({ cls := "WireSchemasModel", name := "readTokens", desc := "()V" } : Jvm.MethodName)) ∈ lw_tbl := lw_at lw_m7 50 rfl
theorem q1621 : (Jvm.Cond.instanceMethod ({ cls := "WireSchemasModel", name := "readTokens", desc := "()V" } : Jvm.MethodName)) ∈ lw_all := lw_g (lw_at lw_m7 51 rfl) rfl
theorem q1622 : (Jvm.Cond.code ({ cls := "WireSchemasModel", name := "readTokens", desc := "()V" } : Jvm.MethodName) prog_19_method_7_code (7 : Nat) (Option.none : Option Jvm.ClassFile.FieldType)) ∈ lw_all := lw_g (lw_at lw_m7 52 rfl) rfl
theorem q1623 : (Jvm.Cond.methodLink "WireSchemasModel" (120 : Nat) ({ cls := "WireSchemasModel", name := "isLetter", desc := "(I)Z" } : Jvm.MethodName)) ∈ lw_all := lw_g (lw_at lw_m7 53 rfl) rfl
theorem q1624 : (Jvm.Cond.static ({ cls := "WireSchemasModel", name := "isLetter", desc := "(I)Z" } : Jvm.MethodName)) ∈ lw_all := lw_g (lw_at lw_m7 54 rfl) rfl
theorem q1625 : (Jvm.Cond.code ({ cls := "WireSchemasModel", name := "isLetter", desc := "(I)Z" } : Jvm.MethodName) prog_19_method_5_code (1 : Nat) (Option.some Jvm.ClassFile.FieldType.boolean)) ∈ lw_all := lw_g (lw_at lw_m7 55 rfl) rfl
theorem q1626 : (Jvm.Cond.methodLink "WireSchemasModel" (124 : Nat) ({ cls := "WireSchemasModel", name := "isDigit", desc := "(I)Z" } : Jvm.MethodName)) ∈ lw_all := lw_g (lw_at lw_m7 56 rfl) rfl
theorem q1627 : (Jvm.Cond.static ({ cls := "WireSchemasModel", name := "isDigit", desc := "(I)Z" } : Jvm.MethodName)) ∈ lw_all := lw_g (lw_at lw_m7 57 rfl) rfl
theorem q1628 : (Jvm.Cond.code ({ cls := "WireSchemasModel", name := "isDigit", desc := "(I)Z" } : Jvm.MethodName) prog_19_method_6_code (1 : Nat) (Option.some Jvm.ClassFile.FieldType.boolean)) ∈ lw_all := lw_g (lw_at lw_m7 58 rfl) rfl
theorem q1629 : (Jvm.Cond.methodLink "WireSchemasModel" (274 : Nat) ({ cls := "WireSchemasModel", name := "readSchema", desc := "()V" } : Jvm.MethodName)) ∈ lw_all := lw_g (lw_at lw_m7 59 rfl) rfl
theorem q1630 : (Jvm.Cond.privateMethod ({ cls := "WireSchemasModel", name := "readSchema", desc := "()V" } : Jvm.MethodName)) ∈ lw_tbl := lw_at lw_m7 60 rfl
theorem q1631 : (Jvm.Cond.instanceMethod ({ cls := "WireSchemasModel", name := "readSchema", desc := "()V" } : Jvm.MethodName)) ∈ lw_all := lw_g (lw_at lw_m7 61 rfl) rfl
theorem q1632 : (Jvm.Cond.code ({ cls := "WireSchemasModel", name := "readSchema", desc := "()V" } : Jvm.MethodName) prog_19_method_20_code (1 : Nat) (Option.none : Option Jvm.ClassFile.FieldType)) ∈ lw_all := lw_g (lw_at lw_m7 62 rfl) rfl
theorem q1633 : (Jvm.Cond.stringRef "WireSchemasModel" (221 : Nat) "syntax") ∈ lw_tbl := lw_at lw_m7 63 rfl
theorem q1634 : (Jvm.Cond.methodLink "WireSchemasModel" (171 : Nat) ({ cls := "WireSchemasModel", name := "takes", desc := "(Ljava/lang/String;)Z" } : Jvm.MethodName)) ∈ lw_all := lw_g (lw_at lw_m7 64 rfl) rfl
theorem q1635 : (Jvm.Cond.privateMethod ({ cls := "WireSchemasModel", name := "takes", desc := "(Ljava/lang/String;)Z" } : Jvm.MethodName)) ∈ lw_tbl := lw_at lw_m7 65 rfl
theorem q1636 : (Jvm.Cond.instanceMethod ({ cls := "WireSchemasModel", name := "takes", desc := "(Ljava/lang/String;)Z" } : Jvm.MethodName)) ∈ lw_all := lw_g (lw_at lw_m7 66 rfl) rfl
theorem q1637 : (Jvm.Cond.code ({ cls := "WireSchemasModel", name := "takes", desc := "(Ljava/lang/String;)Z" } : Jvm.MethodName) prog_19_method_11_code (2 : Nat) (Option.some Jvm.ClassFile.FieldType.boolean)) ∈ lw_all := lw_g (lw_at lw_m7 67 rfl) rfl
theorem q1638 : (Jvm.Cond.methodLink "WireSchemasModel" (143 : Nat) ({ cls := "WireSchemasModel", name := "is", desc := "(ILjava/lang/String;)Z" } : Jvm.MethodName)) ∈ lw_all := lw_g (lw_at lw_m7 68 rfl) rfl
theorem q1639 : (Jvm.Cond.privateMethod ({ cls := "WireSchemasModel", name := "is", desc := "(ILjava/lang/String;)Z" } : Jvm.MethodName)) ∈ lw_tbl := lw_at lw_m7 69 rfl
theorem q1640 : (Jvm.Cond.instanceMethod ({ cls := "WireSchemasModel", name := "is", desc := "(ILjava/lang/String;)Z" } : Jvm.MethodName)) ∈ lw_all := lw_g (lw_at lw_m7 70 rfl) rfl
theorem q1641 : (Jvm.Cond.code ({ cls := "WireSchemasModel", name := "is", desc := "(ILjava/lang/String;)Z" } : Jvm.MethodName) prog_19_method_8_code (5 : Nat) (Option.some Jvm.ClassFile.FieldType.boolean)) ∈ lw_all := lw_g (lw_at lw_m7 71 rfl) rfl
theorem q1642 : (Jvm.Cond.methodLink "WireSchemasModel" (127 : Nat) ({ cls := "java/lang/String", name := "length", desc := "()I" } : Jvm.MethodName)) ∈ lw_all := lw_g (lw_at lw_m7 72 rfl) rfl
theorem q1643 : (Jvm.Cond.methodLink "WireSchemasModel" (132 : Nat) ({ cls := "java/lang/String", name := "charAt", desc := "(I)C" } : Jvm.MethodName)) ∈ lw_all := lw_g (lw_at lw_m7 73 rfl) rfl
theorem q1644 : (Jvm.Cond.stringRef "WireSchemasModel" (159 : Nat) "=") ∈ lw_tbl := lw_at lw_m7 74 rfl
theorem q1645 : (Jvm.Cond.methodLink "WireSchemasModel" (155 : Nat) ({ cls := "WireSchemasModel", name := "sign", desc := "(Ljava/lang/String;)V" } : Jvm.MethodName)) ∈ lw_all := lw_g (lw_at lw_m7 75 rfl) rfl
theorem q1646 : (Jvm.Cond.privateMethod ({ cls := "WireSchemasModel", name := "sign", desc := "(Ljava/lang/String;)V" } : Jvm.MethodName)) ∈ lw_tbl := lw_at lw_m7 76 rfl
theorem q1647 : (Jvm.Cond.instanceMethod ({ cls := "WireSchemasModel", name := "sign", desc := "(Ljava/lang/String;)V" } : Jvm.MethodName)) ∈ lw_all := lw_g (lw_at lw_m7 77 rfl) rfl
theorem q1648 : (Jvm.Cond.code ({ cls := "WireSchemasModel", name := "sign", desc := "(Ljava/lang/String;)V" } : Jvm.MethodName) prog_19_method_10_code (2 : Nat) (Option.none : Option Jvm.ClassFile.FieldType)) ∈ lw_all := lw_g (lw_at lw_m7 78 rfl) rfl
theorem q1649 : (Jvm.Cond.stringRef "WireSchemasModel" (223 : Nat) "\"") ∈ lw_tbl := lw_at lw_m7 79 rfl
theorem q1650 : (Jvm.Cond.stringRef "WireSchemasModel" (225 : Nat) "proto3") ∈ lw_tbl := lw_at lw_m7 80 rfl
theorem q1651 : (Jvm.Cond.stringRef "WireSchemasModel" (164 : Nat) ";") ∈ lw_tbl := lw_at lw_m7 81 rfl
theorem q1652 : (Jvm.Cond.stringRef "WireSchemasModel" (195 : Nat) "message") ∈ lw_tbl := lw_at lw_m7 82 rfl
theorem q1653 : (Jvm.Cond.methodLink "WireSchemasModel" (197 : Nat) ({ cls := "WireSchemasModel", name := "looks", desc := "(Ljava/lang/String;)Z" } : Jvm.MethodName)) ∈ lw_all := lw_g (lw_at lw_m7 83 rfl) rfl
theorem q1654 : (Jvm.Cond.privateMethod ({ cls := "WireSchemasModel", name := "looks", desc := "(Ljava/lang/String;)Z" } : Jvm.MethodName)) ∈ lw_tbl := lw_at lw_m7 84 rfl
theorem q1655 : (Jvm.Cond.instanceMethod ({ cls := "WireSchemasModel", name := "looks", desc := "(Ljava/lang/String;)Z" } : Jvm.MethodName)) ∈ lw_all := lw_g (lw_at lw_m7 85 rfl) rfl
theorem q1656 : (Jvm.Cond.code ({ cls := "WireSchemasModel", name := "looks", desc := "(Ljava/lang/String;)Z" } : Jvm.MethodName) prog_19_method_14_code (2 : Nat) (Option.some Jvm.ClassFile.FieldType.boolean)) ∈ lw_all := lw_g (lw_at lw_m7 86 rfl) rfl
theorem q1657 : (Jvm.Cond.methodLink "WireSchemasModel" (200 : Nat) ({ cls := "WireSchemasModel", name := "readMessage", desc := "(II)V" } : Jvm.MethodName)) ∈ lw_all := lw_g (lw_at lw_m7 87 rfl) rfl
theorem q1658 : (Jvm.Cond.privateMethod ({ cls := "WireSchemasModel", name := "readMessage", desc := "(II)V" } : Jvm.MethodName)) ∈ lw_tbl := lw_at lw_m7 88 rfl
theorem q1659 : (Jvm.Cond.instanceMethod ({ cls := "WireSchemasModel", name := "readMessage", desc := "(II)V" } : Jvm.MethodName)) ∈ lw_all := lw_g (lw_at lw_m7 89 rfl) rfl
theorem q1660 : (Jvm.Cond.code ({ cls := "WireSchemasModel", name := "readMessage", desc := "(II)V" } : Jvm.MethodName) prog_19_method_19_code (7 : Nat) (Option.none : Option Jvm.ClassFile.FieldType)) ∈ lw_all := lw_g (lw_at lw_m7 90 rfl) rfl
theorem q1661 : (Jvm.Cond.methodLink "WireSchemasModel" (150 : Nat) ({ cls := "WireSchemasModel", name := "word", desc := "()I" } : Jvm.MethodName)) ∈ lw_all := lw_g (lw_at lw_m7 91 rfl) rfl
theorem q1662 : (Jvm.Cond.privateMethod ({ cls := "WireSchemasModel", name := "word", desc := "()I" } : Jvm.MethodName)) ∈ lw_tbl := lw_at lw_m7 92 rfl
theorem q1663 : (Jvm.Cond.instanceMethod ({ cls := "WireSchemasModel", name := "word", desc := "()I" } : Jvm.MethodName)) ∈ lw_all := lw_g (lw_at lw_m7 93 rfl) rfl
theorem q1664 : (Jvm.Cond.code ({ cls := "WireSchemasModel", name := "word", desc := "()I" } : Jvm.MethodName) prog_19_method_12_code (1 : Nat) (Option.some Jvm.ClassFile.FieldType.int)) ∈ lw_all := lw_g (lw_at lw_m7 94 rfl) rfl
theorem q1665 : (Jvm.Cond.stringRef "WireSchemasModel" (153 : Nat) "{") ∈ lw_tbl := lw_at lw_m7 95 rfl
theorem q1666 : (Jvm.Cond.stringRef "WireSchemasModel" (169 : Nat) "}") ∈ lw_tbl := lw_at lw_m7 96 rfl
theorem q1667 : (Jvm.Cond.stringRef "WireSchemasModel" (204 : Nat) "enum") ∈ lw_tbl := lw_at lw_m7 97 rfl
theorem q1668 : (Jvm.Cond.methodLink "WireSchemasModel" (206 : Nat) ({ cls := "WireSchemasModel", name := "readEnum", desc := "(I)V" } : Jvm.MethodName)) ∈ lw_all := lw_g (lw_at lw_m7 98 rfl) rfl
theorem q1669 : (Jvm.Cond.privateMethod ({ cls := "WireSchemasModel", name := "readEnum", desc := "(I)V" } : Jvm.MethodName)) ∈ lw_tbl := lw_at lw_m7 99 rfl
theorem q1670 : (Jvm.Cond.instanceMethod ({ cls := "WireSchemasModel", name := "readEnum", desc := "(I)V" } : Jvm.MethodName)) ∈ lw_all := lw_g (lw_at lw_m7 100 rfl) rfl
theorem q1671 : (Jvm.Cond.code ({ cls := "WireSchemasModel", name := "readEnum", desc := "(I)V" } : Jvm.MethodName) prog_19_method_15_code (6 : Nat) (Option.none : Option Jvm.ClassFile.FieldType)) ∈ lw_all := lw_g (lw_at lw_m7 101 rfl) rfl
theorem q1672 : (Jvm.Cond.methodLink "WireSchemasModel" (161 : Nat) ({ cls := "WireSchemasModel", name := "number", desc := "()I" } : Jvm.MethodName)) ∈ lw_all := lw_g (lw_at lw_m7 102 rfl) rfl
theorem q1673 : (Jvm.Cond.privateMethod ({ cls := "WireSchemasModel", name := "number", desc := "()I" } : Jvm.MethodName)) ∈ lw_tbl := lw_at lw_m7 103 rfl
theorem q1674 : (Jvm.Cond.instanceMethod ({ cls := "WireSchemasModel", name := "number", desc := "()I" } : Jvm.MethodName)) ∈ lw_all := lw_g (lw_at lw_m7 104 rfl) rfl
theorem q1675 : (Jvm.Cond.code ({ cls := "WireSchemasModel", name := "number", desc := "()I" } : Jvm.MethodName) prog_19_method_13_code (3 : Nat) (Option.some Jvm.ClassFile.FieldType.int)) ∈ lw_all := lw_g (lw_at lw_m7 105 rfl) rfl
theorem q1676 : (Jvm.Cond.stringRef "WireSchemasModel" (210 : Nat) "oneof") ∈ lw_tbl := lw_at lw_m7 106 rfl
theorem q1677 : (Jvm.Cond.methodLink "WireSchemasModel" (212 : Nat) ({ cls := "WireSchemasModel", name := "readOneof", desc := "(I)V" } : Jvm.MethodName)) ∈ lw_all := lw_g (lw_at lw_m7 107 rfl) rfl
theorem q1678 : (Jvm.Cond.privateMethod ({ cls := "WireSchemasModel", name := "readOneof", desc := "(I)V" } : Jvm.MethodName)) ∈ lw_tbl := lw_at lw_m7 108 rfl
theorem q1679 : (Jvm.Cond.instanceMethod ({ cls := "WireSchemasModel", name := "readOneof", desc := "(I)V" } : Jvm.MethodName)) ∈ lw_all := lw_g (lw_at lw_m7 109 rfl) rfl
theorem q1680 : (Jvm.Cond.code ({ cls := "WireSchemasModel", name := "readOneof", desc := "(I)V" } : Jvm.MethodName) prog_19_method_17_code (4 : Nat) (Option.none : Option Jvm.ClassFile.FieldType)) ∈ lw_all := lw_g (lw_at lw_m7 110 rfl) rfl
theorem q1681 : (Jvm.Cond.methodLink "WireSchemasModel" (183 : Nat) ({ cls := "WireSchemasModel", name := "readField", desc := "(IIZZ)V" } : Jvm.MethodName)) ∈ lw_all := lw_g (lw_at lw_m7 111 rfl) rfl
theorem q1682 : (Jvm.Cond.privateMethod ({ cls := "WireSchemasModel", name := "readField", desc := "(IIZZ)V" } : Jvm.MethodName)) ∈ lw_tbl := lw_at lw_m7 112 rfl
theorem q1683 : (Jvm.Cond.instanceMethod ({ cls := "WireSchemasModel", name := "readField", desc := "(IIZZ)V" } : Jvm.MethodName)) ∈ lw_all := lw_g (lw_at lw_m7 113 rfl) rfl
theorem q1684 : (Jvm.Cond.code ({ cls := "WireSchemasModel", name := "readField", desc := "(IIZZ)V" } : Jvm.MethodName) prog_19_method_16_code (9 : Nat) (Option.none : Option Jvm.ClassFile.FieldType)) ∈ lw_all := lw_g (lw_at lw_m7 114 rfl) rfl
theorem q1685 : (Jvm.Cond.stringRef "WireSchemasModel" (175 : Nat) ".") ∈ lw_tbl := lw_at lw_m7 115 rfl
theorem q1686 : (Jvm.Cond.stringRef "WireSchemasModel" (215 : Nat) "reserved") ∈ lw_tbl := lw_at lw_m7 116 rfl
theorem q1687 : (Jvm.Cond.methodLink "WireSchemasModel" (216 : Nat) ({ cls := "WireSchemasModel", name := "readReserved", desc := "(I)V" } : Jvm.MethodName)) ∈ lw_all := lw_g (lw_at lw_m7 117 rfl) rfl
theorem q1688 : (Jvm.Cond.privateMethod ({ cls := "WireSchemasModel", name := "readReserved", desc := "(I)V" } : Jvm.MethodName)) ∈ lw_tbl := lw_at lw_m7 118 rfl
theorem q1689 : (Jvm.Cond.instanceMethod ({ cls := "WireSchemasModel", name := "readReserved", desc := "(I)V" } : Jvm.MethodName)) ∈ lw_all := lw_g (lw_at lw_m7 119 rfl) rfl
theorem q1690 : (Jvm.Cond.code ({ cls := "WireSchemasModel", name := "readReserved", desc := "(I)V" } : Jvm.MethodName) prog_19_method_18_code (3 : Nat) (Option.none : Option Jvm.ClassFile.FieldType)) ∈ lw_all := lw_g (lw_at lw_m7 120 rfl) rfl
theorem q1691 : (Jvm.Cond.stringRef "WireSchemasModel" (190 : Nat) ",") ∈ lw_tbl := lw_at lw_m7 121 rfl
theorem q1692 : (Jvm.Cond.stringRef "WireSchemasModel" (219 : Nat) "repeated") ∈ lw_tbl := lw_at lw_m7 122 rfl
theorem q1693 : (Jvm.Cond.stringRef "WireSchemasModel" (220 : Nat) "optional") ∈ lw_tbl := lw_at lw_m7 123 rfl
theorem q1694 : (Jvm.Cond.methodLink "WireSchemasModel" (277 : Nat) ({ cls := "WireSchemasModel", name := "refusal", desc := "()I" } : Jvm.MethodName)) ∈ lw_all := lw_g (lw_at lw_m7 124 rfl) rfl
theorem q1695 : (Jvm.Cond.privateMethod ({ cls := "WireSchemasModel", name := "refusal", desc := "()I" } : Jvm.MethodName)) ∈ lw_tbl := lw_at lw_m7 125 rfl
theorem q1696 : (Jvm.Cond.instanceMethod ({ cls := "WireSchemasModel", name := "refusal", desc := "()I" } : Jvm.MethodName)) ∈ lw_all := lw_g (lw_at lw_m7 126 rfl) rfl
theorem q1697 : (Jvm.Cond.code ({ cls := "WireSchemasModel", name := "refusal", desc := "()I" } : Jvm.MethodName) prog_19_method_31_code (3 : Nat) (Option.some Jvm.ClassFile.FieldType.int)) ∈ lw_all := lw_g (lw_at lw_m7 127 rfl) rfl
theorem q1698 : (Jvm.Cond.methodLink "WireSchemasModel" (252 : Nat) ({ cls := "WireSchemasModel", name := "namesTwice", desc := "()Z" } : Jvm.MethodName)) ∈ lw_all := lw_g (lw_at lw_m7 128 rfl) rfl
theorem q1699 : (Jvm.Cond.privateMethod ({ cls := "WireSchemasModel", name := "namesTwice", desc := "()Z" } : Jvm.MethodName)) ∈ lw_tbl := lw_at lw_m7 129 rfl
theorem q1700 : (Jvm.Cond.instanceMethod ({ cls := "WireSchemasModel", name := "namesTwice", desc := "()Z" } : Jvm.MethodName)) ∈ lw_all := lw_g (lw_at lw_m7 130 rfl) rfl
theorem q1701 : (Jvm.Cond.code ({ cls := "WireSchemasModel", name := "namesTwice", desc := "()Z" } : Jvm.MethodName) prog_19_method_23_code (3 : Nat) (Option.some Jvm.ClassFile.FieldType.boolean)) ∈ lw_all := lw_g (lw_at lw_m7 131 rfl) rfl
theorem q1702 : (Jvm.Cond.methodLink "WireSchemasModel" (231 : Nat) ({ cls := "WireSchemasModel", name := "named", desc := "(II)I" } : Jvm.MethodName)) ∈ lw_all := lw_g (lw_at lw_m7 132 rfl) rfl
theorem q1703 : (Jvm.Cond.privateMethod ({ cls := "WireSchemasModel", name := "named", desc := "(II)I" } : Jvm.MethodName)) ∈ lw_tbl := lw_at lw_m7 133 rfl
theorem q1704 : (Jvm.Cond.instanceMethod ({ cls := "WireSchemasModel", name := "named", desc := "(II)I" } : Jvm.MethodName)) ∈ lw_all := lw_g (lw_at lw_m7 134 rfl) rfl
theorem q1705 : (Jvm.Cond.code ({ cls := "WireSchemasModel", name := "named", desc := "(II)I" } : Jvm.MethodName) prog_19_method_21_code (5 : Nat) (Option.some Jvm.ClassFile.FieldType.int)) ∈ lw_all := lw_g (lw_at lw_m7 135 rfl) rfl
theorem q1706 : (Jvm.Cond.methodLink "WireSchemasModel" (227 : Nat) ({ cls := "WireSchemasModel", name := "same", desc := "(II)Z" } : Jvm.MethodName)) ∈ lw_all := lw_g (lw_at lw_m7 136 rfl) rfl
theorem q1707 : (Jvm.Cond.privateMethod ({ cls := "WireSchemasModel", name := "same", desc := "(II)Z" } : Jvm.MethodName)) ∈ lw_tbl := lw_at lw_m7 137 rfl
theorem q1708 : (Jvm.Cond.instanceMethod ({ cls := "WireSchemasModel", name := "same", desc := "(II)Z" } : Jvm.MethodName)) ∈ lw_all := lw_g (lw_at lw_m7 138 rfl) rfl
theorem q1709 : (Jvm.Cond.code ({ cls := "WireSchemasModel", name := "same", desc := "(II)Z" } : Jvm.MethodName) prog_19_method_9_code (5 : Nat) (Option.some Jvm.ClassFile.FieldType.boolean)) ∈ lw_all := lw_g (lw_at lw_m7 139 rfl) rfl
theorem q1710 : (Jvm.Cond.methodLink "WireSchemasModel" (235 : Nat) ({ cls := "WireSchemasModel", name := "fieldsNamed", desc := "(II)I" } : Jvm.MethodName)) ∈ lw_all := lw_g (lw_at lw_m7 140 rfl) rfl
theorem q1711 : (Jvm.Cond.privateMethod ({ cls := "WireSchemasModel", name := "fieldsNamed", desc := "(II)I" } : Jvm.MethodName)) ∈ lw_tbl := lw_at lw_m7 141 rfl
theorem q1712 : (Jvm.Cond.instanceMethod ({ cls := "WireSchemasModel", name := "fieldsNamed", desc := "(II)I" } : Jvm.MethodName)) ∈ lw_all := lw_g (lw_at lw_m7 142 rfl) rfl
theorem q1713 : (Jvm.Cond.code ({ cls := "WireSchemasModel", name := "fieldsNamed", desc := "(II)I" } : Jvm.MethodName) prog_19_method_22_code (5 : Nat) (Option.some Jvm.ClassFile.FieldType.int)) ∈ lw_all := lw_g (lw_at lw_m7 143 rfl) rfl
theorem q1714 : (Jvm.Cond.methodLink "WireSchemasModel" (256 : Nat) ({ cls := "WireSchemasModel", name := "hasWrongNumber", desc := "()Z" } : Jvm.MethodName)) ∈ lw_all := lw_g (lw_at lw_m7 144 rfl) rfl
theorem q1715 : (Jvm.Cond.privateMethod ({ cls := "WireSchemasModel", name := "hasWrongNumber", desc := "()Z" } : Jvm.MethodName)) ∈ lw_tbl := lw_at lw_m7 145 rfl
theorem q1716 : (Jvm.Cond.instanceMethod ({ cls := "WireSchemasModel", name := "hasWrongNumber", desc := "()Z" } : Jvm.MethodName)) ∈ lw_all := lw_g (lw_at lw_m7 146 rfl) rfl
theorem q1717 : (Jvm.Cond.code ({ cls := "WireSchemasModel", name := "hasWrongNumber", desc := "()Z" } : Jvm.MethodName) prog_19_method_24_code (5 : Nat) (Option.some Jvm.ClassFile.FieldType.boolean)) ∈ lw_all := lw_g (lw_at lw_m7 147 rfl) rfl
theorem q1718 : (Jvm.Cond.constant "WireSchemasModel" (238 : Nat) (536870911 : Int32)) ∈ lw_all := lw_g (lw_at lw_m7 148 rfl) rfl
theorem q1719 : (Jvm.Cond.methodLink "WireSchemasModel" (259 : Nat) ({ cls := "WireSchemasModel", name := "kindOf", desc := "(I)I" } : Jvm.MethodName)) ∈ lw_all := lw_g (lw_at lw_m7 149 rfl) rfl
theorem q1720 : (Jvm.Cond.privateMethod ({ cls := "WireSchemasModel", name := "kindOf", desc := "(I)I" } : Jvm.MethodName)) ∈ lw_tbl := lw_at lw_m7 150 rfl
theorem q1721 : (Jvm.Cond.instanceMethod ({ cls := "WireSchemasModel", name := "kindOf", desc := "(I)I" } : Jvm.MethodName)) ∈ lw_all := lw_g (lw_at lw_m7 151 rfl) rfl
theorem q1722 : (Jvm.Cond.code ({ cls := "WireSchemasModel", name := "kindOf", desc := "(I)I" } : Jvm.MethodName) prog_19_method_27_code (6 : Nat) (Option.some Jvm.ClassFile.FieldType.int)) ∈ lw_all := lw_g (lw_at lw_m7 152 rfl) rfl
theorem q1723 : (Jvm.Cond.methodLink "WireSchemasModel" (241 : Nat) ({ cls := "WireSchemasModel", name := "scalarOf", desc := "(I)I" } : Jvm.MethodName)) ∈ lw_all := lw_g (lw_at lw_m7 153 rfl) rfl
theorem q1724 : (Jvm.Cond.privateMethod ({ cls := "WireSchemasModel", name := "scalarOf", desc := "(I)I" } : Jvm.MethodName)) ∈ lw_tbl := lw_at lw_m7 154 rfl
theorem q1725 : (Jvm.Cond.instanceMethod ({ cls := "WireSchemasModel", name := "scalarOf", desc := "(I)I" } : Jvm.MethodName)) ∈ lw_all := lw_g (lw_at lw_m7 155 rfl) rfl
theorem q1726 : (Jvm.Cond.code ({ cls := "WireSchemasModel", name := "scalarOf", desc := "(I)I" } : Jvm.MethodName) prog_19_method_25_code (8 : Nat) (Option.some Jvm.ClassFile.FieldType.int)) ∈ lw_all := lw_g (lw_at lw_m7 156 rfl) rfl
theorem q1727 : (Jvm.Cond.stringRef "WireSchemasModel" (239 : Nat) "int32 int64 uint32 uint64 sint32 sint64 fixed32 fixed64 bool string bytes ") ∈ lw_tbl := lw_at lw_m7 157 rfl
theorem q1728 : (Jvm.Cond.methodLink "WireSchemasModel" (245 : Nat) ({ cls := "WireSchemasModel", name := "within", desc := "(II)I" } : Jvm.MethodName)) ∈ lw_all := lw_g (lw_at lw_m7 158 rfl) rfl
theorem q1729 : (Jvm.Cond.privateMethod ({ cls := "WireSchemasModel", name := "within", desc := "(II)I" } : Jvm.MethodName)) ∈ lw_tbl := lw_at lw_m7 159 rfl
theorem q1730 : (Jvm.Cond.instanceMethod ({ cls := "WireSchemasModel", name := "within", desc := "(II)I" } : Jvm.MethodName)) ∈ lw_all := lw_g (lw_at lw_m7 160 rfl) rfl
theorem q1731 : (Jvm.Cond.code ({ cls := "WireSchemasModel", name := "within", desc := "(II)I" } : Jvm.MethodName) prog_19_method_26_code (4 : Nat) (Option.some Jvm.ClassFile.FieldType.int)) ∈ lw_all := lw_g (lw_at lw_m7 161 rfl) rfl
theorem q1732 : (Jvm.Cond.methodLink "WireSchemasModel" (262 : Nat) ({ cls := "WireSchemasModel", name := "hasWrongEnum", desc := "()Z" } : Jvm.MethodName)) ∈ lw_all := lw_g (lw_at lw_m7 162 rfl) rfl
theorem q1733 : (Jvm.Cond.privateMethod ({ cls := "WireSchemasModel", name := "hasWrongEnum", desc := "()Z" } : Jvm.MethodName)) ∈ lw_tbl := lw_at lw_m7 163 rfl
theorem q1734 : (Jvm.Cond.instanceMethod ({ cls := "WireSchemasModel", name := "hasWrongEnum", desc := "()Z" } : Jvm.MethodName)) ∈ lw_all := lw_g (lw_at lw_m7 164 rfl) rfl
theorem q1735 : (Jvm.Cond.code ({ cls := "WireSchemasModel", name := "hasWrongEnum", desc := "()Z" } : Jvm.MethodName) prog_19_method_28_code (5 : Nat) (Option.some Jvm.ClassFile.FieldType.boolean)) ∈ lw_all := lw_g (lw_at lw_m7 165 rfl) rfl
theorem q1736 : (Jvm.Cond.methodLink "WireSchemasModel" (265 : Nat) ({ cls := "WireSchemasModel", name := "sameJson", desc := "(II)Z" } : Jvm.MethodName)) ∈ lw_all := lw_g (lw_at lw_m7 166 rfl) rfl
theorem q1737 : (Jvm.Cond.privateMethod ({ cls := "WireSchemasModel", name := "sameJson", desc := "(II)Z" } : Jvm.MethodName)) ∈ lw_tbl := lw_at lw_m7 167 rfl
theorem q1738 : (Jvm.Cond.instanceMethod ({ cls := "WireSchemasModel", name := "sameJson", desc := "(II)Z" } : Jvm.MethodName)) ∈ lw_all := lw_g (lw_at lw_m7 168 rfl) rfl
theorem q1739 : (Jvm.Cond.code ({ cls := "WireSchemasModel", name := "sameJson", desc := "(II)Z" } : Jvm.MethodName) prog_19_method_30_code (6 : Nat) (Option.some Jvm.ClassFile.FieldType.boolean)) ∈ lw_all := lw_g (lw_at lw_m7 169 rfl) rfl
theorem q1740 : (Jvm.Cond.methodLink "WireSchemasModel" (248 : Nat) ({ cls := "WireSchemasModel", name := "jsonName", desc := "(I[I)I" } : Jvm.MethodName)) ∈ lw_all := lw_g (lw_at lw_m7 170 rfl) rfl
theorem q1741 : (Jvm.Cond.privateMethod ({ cls := "WireSchemasModel", name := "jsonName", desc := "(I[I)I" } : Jvm.MethodName)) ∈ lw_tbl := lw_at lw_m7 171 rfl
theorem q1742 : (Jvm.Cond.instanceMethod ({ cls := "WireSchemasModel", name := "jsonName", desc := "(I[I)I" } : Jvm.MethodName)) ∈ lw_all := lw_g (lw_at lw_m7 172 rfl) rfl
theorem q1743 : (Jvm.Cond.code ({ cls := "WireSchemasModel", name := "jsonName", desc := "(I[I)I" } : Jvm.MethodName) prog_19_method_29_code (7 : Nat) (Option.some Jvm.ClassFile.FieldType.int)) ∈ lw_all := lw_g (lw_at lw_m7 173 rfl) rfl
theorem q1745 : (Jvm.Cond.instanceMethod ({ cls := "WireSchemasModel", name := "count", desc := "(I)I" } : Jvm.MethodName)) ∈ lw_all := lw_g (lw_at lw_m7 175 rfl) rfl
theorem q1746 : (Jvm.Cond.selects "WireSchemasModel" ({ cls := "WireSchemasModel", name := "count", desc := "(I)I" } : Jvm.MethodName) ({ cls := "WireSchemasModel", name := "count", desc := "(I)I" } : Jvm.MethodName)) ∈ lw_all := lw_g (lw_at lw_m7 176 rfl) rfl
theorem q1747 : (Jvm.Cond.code ({ cls := "WireSchemasModel", name := "count", desc := "(I)I" } : Jvm.MethodName) prog_19_method_34_code (2 : Nat) (Option.some Jvm.ClassFile.FieldType.int)) ∈ lw_all := lw_g (lw_at lw_m7 177 rfl) rfl
theorem q1749 : (Jvm.Cond.instanceMethod ({ cls := "WireSchemasModel", name := "field", desc := "(II)I" } : Jvm.MethodName)) ∈ lw_all := lw_g (lw_at lw_m7 179 rfl) rfl
theorem q1750 : (Jvm.Cond.selects "WireSchemasModel" ({ cls := "WireSchemasModel", name := "field", desc := "(II)I" } : Jvm.MethodName) ({ cls := "WireSchemasModel", name := "field", desc := "(II)I" } : Jvm.MethodName)) ∈ lw_all := lw_g (lw_at lw_m7 180 rfl) rfl
theorem q1751 : (Jvm.Cond.code ({ cls := "WireSchemasModel", name := "field", desc := "(II)I" } : Jvm.MethodName) prog_19_method_35_code (3 : Nat) (Option.some Jvm.ClassFile.FieldType.int)) ∈ lw_all := lw_g (lw_at lw_m7 181 rfl) rfl
theorem q1753 : (Jvm.Cond.instanceMethod ({ cls := "WireSchemasModel", name := "letter", desc := "(II)I" } : Jvm.MethodName)) ∈ lw_all := lw_g (lw_at lw_m7 183 rfl) rfl
theorem q1754 : (Jvm.Cond.selects "WireSchemasModel" ({ cls := "WireSchemasModel", name := "letter", desc := "(II)I" } : Jvm.MethodName) ({ cls := "WireSchemasModel", name := "letter", desc := "(II)I" } : Jvm.MethodName)) ∈ lw_all := lw_g (lw_at lw_m7 184 rfl) rfl
theorem q1755 : (Jvm.Cond.code ({ cls := "WireSchemasModel", name := "letter", desc := "(II)I" } : Jvm.MethodName) prog_19_method_36_code (4 : Nat) (Option.some Jvm.ClassFile.FieldType.int)) ∈ lw_all := lw_g (lw_at lw_m7 185 rfl) rfl
theorem q1757 : (Jvm.Cond.instanceMethod ({ cls := "WireSchemasModel", name := "toJson", desc := "(I)I" } : Jvm.MethodName)) ∈ lw_all := lw_g (lw_at lw_m7 187 rfl) rfl
theorem q1758 : (Jvm.Cond.selects "WireSchemasModel" ({ cls := "WireSchemasModel", name := "toJson", desc := "(I)I" } : Jvm.MethodName) ({ cls := "WireSchemasModel", name := "toJson", desc := "(I)I" } : Jvm.MethodName)) ∈ lw_all := lw_g (lw_at lw_m7 188 rfl) rfl
theorem q1759 : (Jvm.Cond.code ({ cls := "WireSchemasModel", name := "toJson", desc := "(I)I" } : Jvm.MethodName) prog_19_method_66_code (2 : Nat) (Option.some Jvm.ClassFile.FieldType.int)) ∈ lw_all := lw_g (lw_at lw_m7 189 rfl) rfl
theorem q1760 : (Jvm.Cond.methodLink "WireSchemasModel" (336 : Nat) ({ cls := "WireSchemasModel", name := "isMessage", desc := "(IIII)Z" } : Jvm.MethodName)) ∈ lw_all := lw_g (lw_at lw_m7 190 rfl) rfl
theorem q1761 : (Jvm.Cond.privateMethod ({ cls := "WireSchemasModel", name := "isMessage", desc := "(IIII)Z" } : Jvm.MethodName)) ∈ lw_tbl := lw_at lw_m7 191 rfl
theorem q1762 : (Jvm.Cond.instanceMethod ({ cls := "WireSchemasModel", name := "isMessage", desc := "(IIII)Z" } : Jvm.MethodName)) ∈ lw_all := lw_g (lw_at lw_m7 192 rfl) rfl
theorem q1763 : (Jvm.Cond.code ({ cls := "WireSchemasModel", name := "isMessage", desc := "(IIII)Z" } : Jvm.MethodName) prog_19_method_46_code (9 : Nat) (Option.some Jvm.ClassFile.FieldType.boolean)) ∈ lw_all := lw_g (lw_at lw_m7 193 rfl) rfl
theorem q1764 : (Jvm.Cond.methodLink "WireSchemasModel" (322 : Nat) ({ cls := "WireSchemasModel", name := "takeField", desc := "(I)Z" } : Jvm.MethodName)) ∈ lw_all := lw_g (lw_at lw_m7 194 rfl) rfl
theorem q1765 : (Jvm.Cond.privateMethod ({ cls := "WireSchemasModel", name := "takeField", desc := "(I)Z" } : Jvm.MethodName)) ∈ lw_tbl := lw_at lw_m7 195 rfl
theorem q1766 : (Jvm.Cond.instanceMethod ({ cls := "WireSchemasModel", name := "takeField", desc := "(I)Z" } : Jvm.MethodName)) ∈ lw_all := lw_g (lw_at lw_m7 196 rfl) rfl
theorem q1767 : (Jvm.Cond.code ({ cls := "WireSchemasModel", name := "takeField", desc := "(I)Z" } : Jvm.MethodName) prog_19_method_40_code (5 : Nat) (Option.some Jvm.ClassFile.FieldType.boolean)) ∈ lw_all := lw_g (lw_at lw_m7 197 rfl) rfl
theorem q1768 : (Jvm.Cond.methodLink "WireSchemasModel" (290 : Nat) ({ cls := "WireSchemasModel", name := "takeVarint", desc := "(I)Z" } : Jvm.MethodName)) ∈ lw_all := lw_g (lw_at lw_m7 198 rfl) rfl
theorem q1769 : (Jvm.Cond.privateMethod ({ cls := "WireSchemasModel", name := "takeVarint", desc := "(I)Z" } : Jvm.MethodName)) ∈ lw_tbl := lw_at lw_m7 199 rfl
theorem q1770 : (Jvm.Cond.instanceMethod ({ cls := "WireSchemasModel", name := "takeVarint", desc := "(I)Z" } : Jvm.MethodName)) ∈ lw_all := lw_g (lw_at lw_m7 200 rfl) rfl
theorem q1771 : (Jvm.Cond.code ({ cls := "WireSchemasModel", name := "takeVarint", desc := "(I)Z" } : Jvm.MethodName) prog_19_method_37_code (4 : Nat) (Option.some Jvm.ClassFile.FieldType.boolean)) ∈ lw_all := lw_g (lw_at lw_m7 201 rfl) rfl
theorem q1772 : (Jvm.Cond.constantLong "WireSchemasModel" (293 : Nat) (7 : Int64)) ∈ lw_all := lw_g (lw_at lw_m7 202 rfl) rfl
theorem q1773 : (Jvm.Cond.constantLong "WireSchemasModel" (298 : Nat) (536870911 : Int64)) ∈ lw_all := lw_g (lw_at lw_m7 203 rfl) rfl
theorem q1774 : (Jvm.Cond.methodLink "WireSchemasModel" (325 : Nat) ({ cls := "WireSchemasModel", name := "rightField", desc := "(I)I" } : Jvm.MethodName)) ∈ lw_all := lw_g (lw_at lw_m7 204 rfl) rfl
theorem q1775 : (Jvm.Cond.privateMethod ({ cls := "WireSchemasModel", name := "rightField", desc := "(I)I" } : Jvm.MethodName)) ∈ lw_tbl := lw_at lw_m7 205 rfl
theorem q1776 : (Jvm.Cond.instanceMethod ({ cls := "WireSchemasModel", name := "rightField", desc := "(I)I" } : Jvm.MethodName)) ∈ lw_all := lw_g (lw_at lw_m7 206 rfl) rfl
theorem q1777 : (Jvm.Cond.code ({ cls := "WireSchemasModel", name := "rightField", desc := "(I)I" } : Jvm.MethodName) prog_19_method_42_code (3 : Nat) (Option.some Jvm.ClassFile.FieldType.int)) ∈ lw_all := lw_g (lw_at lw_m7 207 rfl) rfl
theorem q1778 : (Jvm.Cond.methodLink "WireSchemasModel" (309 : Nat) ({ cls := "WireSchemasModel", name := "fieldOf", desc := "(II)I" } : Jvm.MethodName)) ∈ lw_all := lw_g (lw_at lw_m7 208 rfl) rfl
theorem q1779 : (Jvm.Cond.privateMethod ({ cls := "WireSchemasModel", name := "fieldOf", desc := "(II)I" } : Jvm.MethodName)) ∈ lw_tbl := lw_at lw_m7 209 rfl
theorem q1780 : (Jvm.Cond.instanceMethod ({ cls := "WireSchemasModel", name := "fieldOf", desc := "(II)I" } : Jvm.MethodName)) ∈ lw_all := lw_g (lw_at lw_m7 210 rfl) rfl
theorem q1781 : (Jvm.Cond.code ({ cls := "WireSchemasModel", name := "fieldOf", desc := "(II)I" } : Jvm.MethodName) prog_19_method_41_code (4 : Nat) (Option.some Jvm.ClassFile.FieldType.int)) ∈ lw_all := lw_g (lw_at lw_m7 211 rfl) rfl
theorem q1782 : (Jvm.Cond.methodLink "WireSchemasModel" (287 : Nat) ({ cls := "WireSchemasModel", name := "ownKind", desc := "(I)I" } : Jvm.MethodName)) ∈ lw_all := lw_g (lw_at lw_m7 212 rfl) rfl
theorem q1783 : (Jvm.Cond.privateMethod ({ cls := "WireSchemasModel", name := "ownKind", desc := "(I)I" } : Jvm.MethodName)) ∈ lw_tbl := lw_at lw_m7 213 rfl
theorem q1784 : (Jvm.Cond.instanceMethod ({ cls := "WireSchemasModel", name := "ownKind", desc := "(I)I" } : Jvm.MethodName)) ∈ lw_all := lw_g (lw_at lw_m7 214 rfl) rfl
theorem q1785 : (Jvm.Cond.code ({ cls := "WireSchemasModel", name := "ownKind", desc := "(I)I" } : Jvm.MethodName) prog_19_method_38_code (3 : Nat) (Option.some Jvm.ClassFile.FieldType.int)) ∈ lw_all := lw_g (lw_at lw_m7 215 rfl) rfl
theorem q1786 : (Jvm.Cond.methodLink "WireSchemasModel" (312 : Nat) ({ cls := "WireSchemasModel", name := "isPlain", desc := "(I)Z" } : Jvm.MethodName)) ∈ lw_all := lw_g (lw_at lw_m7 216 rfl) rfl
theorem q1787 : (Jvm.Cond.privateMethod ({ cls := "WireSchemasModel", name := "isPlain", desc := "(I)Z" } : Jvm.MethodName)) ∈ lw_tbl := lw_at lw_m7 217 rfl
theorem q1788 : (Jvm.Cond.instanceMethod ({ cls := "WireSchemasModel", name := "isPlain", desc := "(I)Z" } : Jvm.MethodName)) ∈ lw_all := lw_g (lw_at lw_m7 218 rfl) rfl
theorem q1789 : (Jvm.Cond.code ({ cls := "WireSchemasModel", name := "isPlain", desc := "(I)Z" } : Jvm.MethodName) prog_19_method_39_code (2 : Nat) (Option.some Jvm.ClassFile.FieldType.boolean)) ∈ lw_all := lw_g (lw_at lw_m7 219 rfl) rfl
theorem q1790 : (Jvm.Cond.methodLink "WireSchemasModel" (328 : Nat) ({ cls := "WireSchemasModel", name := "isText", desc := "([III)Z" } : Jvm.MethodName)) ∈ lw_all := lw_g (lw_at lw_m7 220 rfl) rfl
theorem q1791 : (Jvm.Cond.privateMethod ({ cls := "WireSchemasModel", name := "isText", desc := "([III)Z" } : Jvm.MethodName)) ∈ lw_tbl := lw_at lw_m7 221 rfl
theorem q1792 : (Jvm.Cond.instanceMethod ({ cls := "WireSchemasModel", name := "isText", desc := "([III)Z" } : Jvm.MethodName)) ∈ lw_all := lw_g (lw_at lw_m7 222 rfl) rfl
theorem q1793 : (Jvm.Cond.code ({ cls := "WireSchemasModel", name := "isText", desc := "([III)Z" } : Jvm.MethodName) prog_19_method_44_code (9 : Nat) (Option.some Jvm.ClassFile.FieldType.boolean)) ∈ lw_all := lw_g (lw_at lw_m7 223 rfl) rfl
theorem q1794 : (Jvm.Cond.methodLink "WireSchemasModel" (315 : Nat) ({ cls := "WireSchemasModel", name := "isTail", desc := "(I)Z" } : Jvm.MethodName)) ∈ lw_all := lw_g (lw_at lw_m7 224 rfl) rfl
theorem q1795 : (Jvm.Cond.static ({ cls := "WireSchemasModel", name := "isTail", desc := "(I)Z" } : Jvm.MethodName)) ∈ lw_all := lw_g (lw_at lw_m7 225 rfl) rfl
theorem q1796 : (Jvm.Cond.code ({ cls := "WireSchemasModel", name := "isTail", desc := "(I)Z" } : Jvm.MethodName) prog_19_method_43_code (1 : Nat) (Option.some Jvm.ClassFile.FieldType.boolean)) ∈ lw_all := lw_g (lw_at lw_m7 226 rfl) rfl
theorem q1797 : (Jvm.Cond.constant "WireSchemasModel" (318 : Nat) (55296 : Int32)) ∈ lw_all := lw_g (lw_at lw_m7 227 rfl) rfl
theorem q1798 : (Jvm.Cond.constant "WireSchemasModel" (319 : Nat) (57344 : Int32)) ∈ lw_all := lw_g (lw_at lw_m7 228 rfl) rfl
theorem q1799 : (Jvm.Cond.constant "WireSchemasModel" (320 : Nat) (65536 : Int32)) ∈ lw_all := lw_g (lw_at lw_m7 229 rfl) rfl
theorem q1800 : (Jvm.Cond.constant "WireSchemasModel" (321 : Nat) (1114111 : Int32)) ∈ lw_all := lw_g (lw_at lw_m7 230 rfl) rfl
theorem q1801 : (Jvm.Cond.methodLink "WireSchemasModel" (332 : Nat) ({ cls := "WireSchemasModel", name := "arePacked", desc := "(III)Z" } : Jvm.MethodName)) ∈ lw_all := lw_g (lw_at lw_m7 231 rfl) rfl
theorem q1802 : (Jvm.Cond.privateMethod ({ cls := "WireSchemasModel", name := "arePacked", desc := "(III)Z" } : Jvm.MethodName)) ∈ lw_tbl := lw_at lw_m7 232 rfl
theorem q1803 : (Jvm.Cond.instanceMethod ({ cls := "WireSchemasModel", name := "arePacked", desc := "(III)Z" } : Jvm.MethodName)) ∈ lw_all := lw_g (lw_at lw_m7 233 rfl) rfl
theorem q1804 : (Jvm.Cond.code ({ cls := "WireSchemasModel", name := "arePacked", desc := "(III)Z" } : Jvm.MethodName) prog_19_method_47_code (4 : Nat) (Option.some Jvm.ClassFile.FieldType.boolean)) ∈ lw_all := lw_g (lw_at lw_m7 234 rfl) rfl
theorem q1805 : (Jvm.Cond.methodLink "WireSchemasModel" (340 : Nat) ({ cls := "WireSchemasModel", name := "takeNumber", desc := "(II)Z" } : Jvm.MethodName)) ∈ lw_all := lw_g (lw_at lw_m7 235 rfl) rfl
theorem q1806 : (Jvm.Cond.privateMethod ({ cls := "WireSchemasModel", name := "takeNumber", desc := "(II)Z" } : Jvm.MethodName)) ∈ lw_tbl := lw_at lw_m7 236 rfl
theorem q1807 : (Jvm.Cond.instanceMethod ({ cls := "WireSchemasModel", name := "takeNumber", desc := "(II)Z" } : Jvm.MethodName)) ∈ lw_all := lw_g (lw_at lw_m7 237 rfl) rfl
theorem q1808 : (Jvm.Cond.code ({ cls := "WireSchemasModel", name := "takeNumber", desc := "(II)Z" } : Jvm.MethodName) prog_19_method_45_code (5 : Nat) (Option.some Jvm.ClassFile.FieldType.boolean)) ∈ lw_all := lw_g (lw_at lw_m7 238 rfl) rfl
theorem q1809 : (Jvm.Cond.methodLink "WireSchemasModel" (411 : Nat) ({ cls := "WireSchemasModel", name := "putPart", desc := "(III)V" } : Jvm.MethodName)) ∈ lw_all := lw_g (lw_at lw_m7 239 rfl) rfl
theorem q1810 : (Jvm.Cond.privateMethod ({ cls := "WireSchemasModel", name := "putPart", desc := "(III)V" } : Jvm.MethodName)) ∈ lw_tbl := lw_at lw_m8 0 rfl
theorem q1811 : (Jvm.Cond.instanceMethod ({ cls := "WireSchemasModel", name := "putPart", desc := "(III)V" } : Jvm.MethodName)) ∈ lw_all := lw_g (lw_at lw_m8 1 rfl) rfl
theorem q1812 : (Jvm.Cond.code ({ cls := "WireSchemasModel", name := "putPart", desc := "(III)V" } : Jvm.MethodName) prog_19_method_62_code (5 : Nat) (Option.none : Option Jvm.ClassFile.FieldType)) ∈ lw_all := lw_g (lw_at lw_m8 2 rfl) rfl
theorem q1813 : (Jvm.Cond.methodLink "WireSchemasModel" (415 : Nat) ({ cls := "WireSchemasModel", name := "putMessage", desc := "(III)V" } : Jvm.MethodName)) ∈ lw_all := lw_g (lw_at lw_m8 3 rfl) rfl
theorem q1814 : (Jvm.Cond.privateMethod ({ cls := "WireSchemasModel", name := "putMessage", desc := "(III)V" } : Jvm.MethodName)) ∈ lw_tbl := lw_at lw_m8 4 rfl
theorem q1815 : (Jvm.Cond.instanceMethod ({ cls := "WireSchemasModel", name := "putMessage", desc := "(III)V" } : Jvm.MethodName)) ∈ lw_all := lw_g (lw_at lw_m8 5 rfl) rfl
theorem q1816 : (Jvm.Cond.code ({ cls := "WireSchemasModel", name := "putMessage", desc := "(III)V" } : Jvm.MethodName) prog_19_method_63_code (7 : Nat) (Option.none : Option Jvm.ClassFile.FieldType)) ∈ lw_all := lw_g (lw_at lw_m8 6 rfl) rfl
theorem q1817 : (Jvm.Cond.methodLink "WireSchemasModel" (349 : Nat) ({ cls := "WireSchemasModel", name := "put", desc := "(I)V" } : Jvm.MethodName)) ∈ lw_all := lw_g (lw_at lw_m8 7 rfl) rfl
theorem q1818 : (Jvm.Cond.privateMethod ({ cls := "WireSchemasModel", name := "put", desc := "(I)V" } : Jvm.MethodName)) ∈ lw_tbl := lw_at lw_m8 8 rfl
theorem q1819 : (Jvm.Cond.instanceMethod ({ cls := "WireSchemasModel", name := "put", desc := "(I)V" } : Jvm.MethodName)) ∈ lw_all := lw_g (lw_at lw_m8 9 rfl) rfl
theorem q1820 : (Jvm.Cond.code ({ cls := "WireSchemasModel", name := "put", desc := "(I)V" } : Jvm.MethodName) prog_19_method_48_code (2 : Nat) (Option.none : Option Jvm.ClassFile.FieldType)) ∈ lw_all := lw_g (lw_at lw_m8 10 rfl) rfl
theorem q1821 : (Jvm.Cond.methodLink "WireSchemasModel" (418 : Nat) ({ cls := "WireSchemasModel", name := "after", desc := "(II)I" } : Jvm.MethodName)) ∈ lw_all := lw_g (lw_at lw_m8 11 rfl) rfl
theorem q1822 : (Jvm.Cond.privateMethod ({ cls := "WireSchemasModel", name := "after", desc := "(II)I" } : Jvm.MethodName)) ∈ lw_tbl := lw_at lw_m8 12 rfl
theorem q1823 : (Jvm.Cond.instanceMethod ({ cls := "WireSchemasModel", name := "after", desc := "(II)I" } : Jvm.MethodName)) ∈ lw_all := lw_g (lw_at lw_m8 13 rfl) rfl
theorem q1824 : (Jvm.Cond.code ({ cls := "WireSchemasModel", name := "after", desc := "(II)I" } : Jvm.MethodName) prog_19_method_59_code (5 : Nat) (Option.some Jvm.ClassFile.FieldType.int)) ∈ lw_all := lw_g (lw_at lw_m8 14 rfl) rfl
theorem q1825 : (Jvm.Cond.methodLink "WireSchemasModel" (421 : Nat) ({ cls := "WireSchemasModel", name := "putRow", desc := "(IIIIZ)Z" } : Jvm.MethodName)) ∈ lw_all := lw_g (lw_at lw_m8 15 rfl) rfl
theorem q1826 : (Jvm.Cond.privateMethod ({ cls := "WireSchemasModel", name := "putRow", desc := "(IIIIZ)Z" } : Jvm.MethodName)) ∈ lw_tbl := lw_at lw_m8 16 rfl
theorem q1827 : (Jvm.Cond.instanceMethod ({ cls := "WireSchemasModel", name := "putRow", desc := "(IIIIZ)Z" } : Jvm.MethodName)) ∈ lw_all := lw_g (lw_at lw_m8 17 rfl) rfl
theorem q1828 : (Jvm.Cond.code ({ cls := "WireSchemasModel", name := "putRow", desc := "(IIIIZ)Z" } : Jvm.MethodName) prog_19_method_64_code (11 : Nat) (Option.some Jvm.ClassFile.FieldType.boolean)) ∈ lw_all := lw_g (lw_at lw_m8 18 rfl) rfl
theorem q1829 : (Jvm.Cond.methodLink "WireSchemasModel" (443 : Nat) ({ cls := "WireSchemasModel", name := "beginElement", desc := "(IIZ)V" } : Jvm.MethodName)) ∈ lw_all := lw_g (lw_at lw_m8 19 rfl) rfl
theorem q1830 : (Jvm.Cond.privateMethod ({ cls := "WireSchemasModel", name := "beginElement", desc := "(IIZ)V" } : Jvm.MethodName)) ∈ lw_tbl := lw_at lw_m8 20 rfl
theorem q1831 : (Jvm.Cond.instanceMethod ({ cls := "WireSchemasModel", name := "beginElement", desc := "(IIZ)V" } : Jvm.MethodName)) ∈ lw_all := lw_g (lw_at lw_m8 21 rfl) rfl
theorem q1832 : (Jvm.Cond.code ({ cls := "WireSchemasModel", name := "beginElement", desc := "(IIZ)V" } : Jvm.MethodName) prog_19_method_65_code (4 : Nat) (Option.none : Option Jvm.ClassFile.FieldType)) ∈ lw_all := lw_g (lw_at lw_m8 22 rfl) rfl
theorem q1833 : (Jvm.Cond.methodLink "WireSchemasModel" (432 : Nat) ({ cls := "WireSchemasModel", name := "putName", desc := "(IZ)V" } : Jvm.MethodName)) ∈ lw_all := lw_g (lw_at lw_m8 23 rfl) rfl
theorem q1834 : (Jvm.Cond.privateMethod ({ cls := "WireSchemasModel", name := "putName", desc := "(IZ)V" } : Jvm.MethodName)) ∈ lw_tbl := lw_at lw_m8 24 rfl
theorem q1835 : (Jvm.Cond.instanceMethod ({ cls := "WireSchemasModel", name := "putName", desc := "(IZ)V" } : Jvm.MethodName)) ∈ lw_all := lw_g (lw_at lw_m8 25 rfl) rfl
theorem q1836 : (Jvm.Cond.code ({ cls := "WireSchemasModel", name := "putName", desc := "(IZ)V" } : Jvm.MethodName) prog_19_method_60_code (5 : Nat) (Option.none : Option Jvm.ClassFile.FieldType)) ∈ lw_all := lw_g (lw_at lw_m8 26 rfl) rfl
theorem q1837 : (Jvm.Cond.methodLink "WireSchemasModel" (440 : Nat) ({ cls := "WireSchemasModel", name := "putOne", desc := "(III)V" } : Jvm.MethodName)) ∈ lw_all := lw_g (lw_at lw_m8 27 rfl) rfl
theorem q1838 : (Jvm.Cond.privateMethod ({ cls := "WireSchemasModel", name := "putOne", desc := "(III)V" } : Jvm.MethodName)) ∈ lw_tbl := lw_at lw_m8 28 rfl
theorem q1839 : (Jvm.Cond.instanceMethod ({ cls := "WireSchemasModel", name := "putOne", desc := "(III)V" } : Jvm.MethodName)) ∈ lw_all := lw_g (lw_at lw_m8 29 rfl) rfl
theorem q1840 : (Jvm.Cond.code ({ cls := "WireSchemasModel", name := "putOne", desc := "(III)V" } : Jvm.MethodName) prog_19_method_61_code (4 : Nat) (Option.none : Option Jvm.ClassFile.FieldType)) ∈ lw_all := lw_g (lw_at lw_m8 30 rfl) rfl
theorem q1841 : (Jvm.Cond.methodLink "WireSchemasModel" (405 : Nat) ({ cls := "WireSchemasModel", name := "putText", desc := "(II)V" } : Jvm.MethodName)) ∈ lw_all := lw_g (lw_at lw_m8 31 rfl) rfl
theorem q1842 : (Jvm.Cond.privateMethod ({ cls := "WireSchemasModel", name := "putText", desc := "(II)V" } : Jvm.MethodName)) ∈ lw_tbl := lw_at lw_m8 32 rfl
theorem q1843 : (Jvm.Cond.instanceMethod ({ cls := "WireSchemasModel", name := "putText", desc := "(II)V" } : Jvm.MethodName)) ∈ lw_all := lw_g (lw_at lw_m8 33 rfl) rfl
theorem q1844 : (Jvm.Cond.code ({ cls := "WireSchemasModel", name := "putText", desc := "(II)V" } : Jvm.MethodName) prog_19_method_52_code (6 : Nat) (Option.none : Option Jvm.ClassFile.FieldType)) ∈ lw_all := lw_g (lw_at lw_m8 34 rfl) rfl
theorem q1845 : (Jvm.Cond.stringRef "WireSchemasModel" (369 : Nat) "\\u00") ∈ lw_tbl := lw_at lw_m8 35 rfl
theorem q1846 : (Jvm.Cond.methodLink "WireSchemasModel" (371 : Nat) ({ cls := "WireSchemasModel", name := "putAll", desc := "(Ljava/lang/String;)V" } : Jvm.MethodName)) ∈ lw_all := lw_g (lw_at lw_m8 36 rfl) rfl
theorem q1847 : (Jvm.Cond.privateMethod ({ cls := "WireSchemasModel", name := "putAll", desc := "(Ljava/lang/String;)V" } : Jvm.MethodName)) ∈ lw_tbl := lw_at lw_m8 37 rfl
theorem q1848 : (Jvm.Cond.instanceMethod ({ cls := "WireSchemasModel", name := "putAll", desc := "(Ljava/lang/String;)V" } : Jvm.MethodName)) ∈ lw_all := lw_g (lw_at lw_m8 38 rfl) rfl
theorem q1849 : (Jvm.Cond.code ({ cls := "WireSchemasModel", name := "putAll", desc := "(Ljava/lang/String;)V" } : Jvm.MethodName) prog_19_method_49_code (3 : Nat) (Option.none : Option Jvm.ClassFile.FieldType)) ∈ lw_all := lw_g (lw_at lw_m8 39 rfl) rfl
theorem q1850 : (Jvm.Cond.methodLink "WireSchemasModel" (408 : Nat) ({ cls := "WireSchemasModel", name := "putBytes", desc := "(II)V" } : Jvm.MethodName)) ∈ lw_all := lw_g (lw_at lw_m8 40 rfl) rfl
theorem q1851 : (Jvm.Cond.privateMethod ({ cls := "WireSchemasModel", name := "putBytes", desc := "(II)V" } : Jvm.MethodName)) ∈ lw_tbl := lw_at lw_m8 41 rfl
theorem q1852 : (Jvm.Cond.instanceMethod ({ cls := "WireSchemasModel", name := "putBytes", desc := "(II)V" } : Jvm.MethodName)) ∈ lw_all := lw_g (lw_at lw_m8 42 rfl) rfl
theorem q1853 : (Jvm.Cond.code ({ cls := "WireSchemasModel", name := "putBytes", desc := "(II)V" } : Jvm.MethodName) prog_19_method_54_code (7 : Nat) (Option.none : Option Jvm.ClassFile.FieldType)) ∈ lw_all := lw_g (lw_at lw_m8 43 rfl) rfl
theorem q1854 : (Jvm.Cond.methodLink "WireSchemasModel" (374 : Nat) ({ cls := "WireSchemasModel", name := "sixBits", desc := "(I)I" } : Jvm.MethodName)) ∈ lw_all := lw_g (lw_at lw_m8 44 rfl) rfl
theorem q1855 : (Jvm.Cond.static ({ cls := "WireSchemasModel", name := "sixBits", desc := "(I)I" } : Jvm.MethodName)) ∈ lw_all := lw_g (lw_at lw_m8 45 rfl) rfl
theorem q1856 : (Jvm.Cond.code ({ cls := "WireSchemasModel", name := "sixBits", desc := "(I)I" } : Jvm.MethodName) prog_19_method_53_code (1 : Nat) (Option.some Jvm.ClassFile.FieldType.int)) ∈ lw_all := lw_g (lw_at lw_m8 46 rfl) rfl
theorem q1857 : (Jvm.Cond.methodLink "WireSchemasModel" (398 : Nat) ({ cls := "WireSchemasModel", name := "meant", desc := "(IJ)J" } : Jvm.MethodName)) ∈ lw_all := lw_g (lw_at lw_m8 47 rfl) rfl
theorem q1858 : (Jvm.Cond.privateMethod ({ cls := "WireSchemasModel", name := "meant", desc := "(IJ)J" } : Jvm.MethodName)) ∈ lw_tbl := lw_at lw_m8 48 rfl
theorem q1859 : (Jvm.Cond.instanceMethod ({ cls := "WireSchemasModel", name := "meant", desc := "(IJ)J" } : Jvm.MethodName)) ∈ lw_all := lw_g (lw_at lw_m8 49 rfl) rfl
theorem q1860 : (Jvm.Cond.code ({ cls := "WireSchemasModel", name := "meant", desc := "(IJ)J" } : Jvm.MethodName) prog_19_method_55_code (4 : Nat) (Option.some Jvm.ClassFile.FieldType.long)) ∈ lw_all := lw_g (lw_at lw_m8 50 rfl) rfl
theorem q1861 : (Jvm.Cond.constantLong "WireSchemasModel" (377 : Nat) (4294967295 : Int64)) ∈ lw_all := lw_g (lw_at lw_m8 51 rfl) rfl
theorem q1862 : (Jvm.Cond.methodLink "WireSchemasModel" (436 : Nat) ({ cls := "WireSchemasModel", name := "putNumber", desc := "(IJ)V" } : Jvm.MethodName)) ∈ lw_all := lw_g (lw_at lw_m8 52 rfl) rfl
theorem q1863 : (Jvm.Cond.privateMethod ({ cls := "WireSchemasModel", name := "putNumber", desc := "(IJ)V" } : Jvm.MethodName)) ∈ lw_tbl := lw_at lw_m8 53 rfl
theorem q1864 : (Jvm.Cond.instanceMethod ({ cls := "WireSchemasModel", name := "putNumber", desc := "(IJ)V" } : Jvm.MethodName)) ∈ lw_all := lw_g (lw_at lw_m8 54 rfl) rfl
theorem q1865 : (Jvm.Cond.code ({ cls := "WireSchemasModel", name := "putNumber", desc := "(IJ)V" } : Jvm.MethodName) prog_19_method_56_code (7 : Nat) (Option.none : Option Jvm.ClassFile.FieldType)) ∈ lw_all := lw_g (lw_at lw_m8 55 rfl) rfl
theorem q1866 : (Jvm.Cond.methodLink "WireSchemasModel" (379 : Nat) ({ cls := "WireSchemasModel", name := "putSigned", desc := "(J)V" } : Jvm.MethodName)) ∈ lw_all := lw_g (lw_at lw_m8 56 rfl) rfl
theorem q1867 : (Jvm.Cond.privateMethod ({ cls := "WireSchemasModel", name := "putSigned", desc := "(J)V" } : Jvm.MethodName)) ∈ lw_tbl := lw_at lw_m8 57 rfl
theorem q1868 : (Jvm.Cond.instanceMethod ({ cls := "WireSchemasModel", name := "putSigned", desc := "(J)V" } : Jvm.MethodName)) ∈ lw_all := lw_g (lw_at lw_m8 58 rfl) rfl
theorem q1869 : (Jvm.Cond.code ({ cls := "WireSchemasModel", name := "putSigned", desc := "(J)V" } : Jvm.MethodName) prog_19_method_51_code (3 : Nat) (Option.none : Option Jvm.ClassFile.FieldType)) ∈ lw_all := lw_g (lw_at lw_m8 59 rfl) rfl
theorem q1870 : (Jvm.Cond.methodLink "WireSchemasModel" (362 : Nat) ({ cls := "WireSchemasModel", name := "putUnsigned", desc := "(J)V" } : Jvm.MethodName)) ∈ lw_all := lw_g (lw_at lw_m8 60 rfl) rfl
theorem q1871 : (Jvm.Cond.privateMethod ({ cls := "WireSchemasModel", name := "putUnsigned", desc := "(J)V" } : Jvm.MethodName)) ∈ lw_tbl := lw_at lw_m8 61 rfl
theorem q1872 : (Jvm.Cond.instanceMethod ({ cls := "WireSchemasModel", name := "putUnsigned", desc := "(J)V" } : Jvm.MethodName)) ∈ lw_all := lw_g (lw_at lw_m8 62 rfl) rfl
theorem q1873 : (Jvm.Cond.code ({ cls := "WireSchemasModel", name := "putUnsigned", desc := "(J)V" } : Jvm.MethodName) prog_19_method_50_code (3 : Nat) (Option.none : Option Jvm.ClassFile.FieldType)) ∈ lw_all := lw_g (lw_at lw_m8 63 rfl) rfl
theorem q1874 : (Jvm.Cond.constantLong "WireSchemasModel" (352 : Nat) (9 : Int64)) ∈ lw_all := lw_g (lw_at lw_m8 64 rfl) rfl
theorem q1875 : (Jvm.Cond.constantLong "WireSchemasModel" (354 : Nat) (10 : Int64)) ∈ lw_all := lw_g (lw_at lw_m8 65 rfl) rfl
theorem q1876 : (Jvm.Cond.methodLink "WireSchemasModel" (356 : Nat) ({ cls := "java/lang/Long", name := "divideUnsigned", desc := "(JJ)J" } : Jvm.MethodName)) ∈ lw_all := lw_g (lw_at lw_m8 66 rfl) rfl
theorem q1877 : (Jvm.Cond.methodLink "WireSchemasModel" (366 : Nat) ({ cls := "java/lang/Long", name := "remainderUnsigned", desc := "(JJ)J" } : Jvm.MethodName)) ∈ lw_all := lw_g (lw_at lw_m8 67 rfl) rfl
theorem q1880 : (Jvm.Cond.stringRef "WireSchemasModel" (382 : Nat) "true") ∈ lw_tbl := lw_at lw_m8 70 rfl
theorem q1881 : (Jvm.Cond.stringRef "WireSchemasModel" (384 : Nat) "false") ∈ lw_tbl := lw_at lw_m8 71 rfl
theorem q1882 : (Jvm.Cond.methodLink "WireSchemasModel" (425 : Nat) ({ cls := "WireSchemasModel", name := "find", desc := "(IIII)V" } : Jvm.MethodName)) ∈ lw_all := lw_g (lw_at lw_m8 72 rfl) rfl
theorem q1883 : (Jvm.Cond.privateMethod ({ cls := "WireSchemasModel", name := "find", desc := "(IIII)V" } : Jvm.MethodName)) ∈ lw_tbl := lw_at lw_m8 73 rfl
theorem q1884 : (Jvm.Cond.instanceMethod ({ cls := "WireSchemasModel", name := "find", desc := "(IIII)V" } : Jvm.MethodName)) ∈ lw_all := lw_g (lw_at lw_m8 74 rfl) rfl
theorem q1885 : (Jvm.Cond.code ({ cls := "WireSchemasModel", name := "find", desc := "(IIII)V" } : Jvm.MethodName) prog_19_method_57_code (9 : Nat) (Option.none : Option Jvm.ClassFile.FieldType)) ∈ lw_all := lw_g (lw_at lw_m8 75 rfl) rfl
theorem q1886 : (Jvm.Cond.methodLink "WireSchemasModel" (429 : Nat) ({ cls := "WireSchemasModel", name := "isDefault", desc := "(I)Z" } : Jvm.MethodName)) ∈ lw_all := lw_g (lw_at lw_m8 76 rfl) rfl
theorem q1887 : (Jvm.Cond.privateMethod ({ cls := "WireSchemasModel", name := "isDefault", desc := "(I)Z" } : Jvm.MethodName)) ∈ lw_tbl := lw_at lw_m8 77 rfl
theorem q1888 : (Jvm.Cond.instanceMethod ({ cls := "WireSchemasModel", name := "isDefault", desc := "(I)Z" } : Jvm.MethodName)) ∈ lw_all := lw_g (lw_at lw_m8 78 rfl) rfl
theorem q1889 : (Jvm.Cond.code ({ cls := "WireSchemasModel", name := "isDefault", desc := "(I)Z" } : Jvm.MethodName) prog_19_method_58_code (2 : Nat) (Option.some Jvm.ClassFile.FieldType.boolean)) ∈ lw_all := lw_g (lw_at lw_m8 79 rfl) rfl
theorem q1891 : (Jvm.Cond.instanceMethod ({ cls := "WireSchemasModel", name := "toWire", desc := "(I)I" } : Jvm.MethodName)) ∈ lw_all := lw_g (lw_at lw_m8 81 rfl) rfl
theorem q1892 : (Jvm.Cond.selects "WireSchemasModel" ({ cls := "WireSchemasModel", name := "toWire", desc := "(I)I" } : Jvm.MethodName) ({ cls := "WireSchemasModel", name := "toWire", desc := "(I)I" } : Jvm.MethodName)) ∈ lw_all := lw_g (lw_at lw_m8 82 rfl) rfl
theorem q1893 : (Jvm.Cond.code ({ cls := "WireSchemasModel", name := "toWire", desc := "(I)I" } : Jvm.MethodName) prog_19_method_97_code (4 : Nat) (Option.some Jvm.ClassFile.FieldType.int)) ∈ lw_all := lw_g (lw_at lw_m8 83 rfl) rfl
theorem q1894 : (Jvm.Cond.methodLink "WireSchemasModel" (527 : Nat) ({ cls := "WireSchemasModel", name := "blanks", desc := "(I)I" } : Jvm.MethodName)) ∈ lw_all := lw_g (lw_at lw_m8 84 rfl) rfl
theorem q1895 : (Jvm.Cond.privateMethod ({ cls := "WireSchemasModel", name := "blanks", desc := "(I)I" } : Jvm.MethodName)) ∈ lw_tbl := lw_at lw_m8 85 rfl
theorem q1896 : (Jvm.Cond.instanceMethod ({ cls := "WireSchemasModel", name := "blanks", desc := "(I)I" } : Jvm.MethodName)) ∈ lw_all := lw_g (lw_at lw_m8 86 rfl) rfl
theorem q1897 : (Jvm.Cond.code ({ cls := "WireSchemasModel", name := "blanks", desc := "(I)I" } : Jvm.MethodName) prog_19_method_67_code (3 : Nat) (Option.some Jvm.ClassFile.FieldType.int)) ∈ lw_all := lw_g (lw_at lw_m8 87 rfl) rfl
theorem q1898 : (Jvm.Cond.methodLink "WireSchemasModel" (517 : Nat) ({ cls := "WireSchemasModel", name := "object", desc := "(III)I" } : Jvm.MethodName)) ∈ lw_all := lw_g (lw_at lw_m8 88 rfl) rfl
theorem q1899 : (Jvm.Cond.privateMethod ({ cls := "WireSchemasModel", name := "object", desc := "(III)I" } : Jvm.MethodName)) ∈ lw_tbl := lw_at lw_m8 89 rfl
theorem q1900 : (Jvm.Cond.instanceMethod ({ cls := "WireSchemasModel", name := "object", desc := "(III)I" } : Jvm.MethodName)) ∈ lw_all := lw_g (lw_at lw_m8 90 rfl) rfl
theorem q1901 : (Jvm.Cond.code ({ cls := "WireSchemasModel", name := "object", desc := "(III)I" } : Jvm.MethodName) prog_19_method_87_code (10 : Nat) (Option.some Jvm.ClassFile.FieldType.int)) ∈ lw_all := lw_g (lw_at lw_m8 91 rfl) rfl
theorem q1902 : (Jvm.Cond.methodLink "WireSchemasModel" (447 : Nat) ({ cls := "WireSchemasModel", name := "look", desc := "(I)I" } : Jvm.MethodName)) ∈ lw_all := lw_g (lw_at lw_m8 92 rfl) rfl
theorem q1903 : (Jvm.Cond.privateMethod ({ cls := "WireSchemasModel", name := "look", desc := "(I)I" } : Jvm.MethodName)) ∈ lw_tbl := lw_at lw_m8 93 rfl
theorem q1904 : (Jvm.Cond.instanceMethod ({ cls := "WireSchemasModel", name := "look", desc := "(I)I" } : Jvm.MethodName)) ∈ lw_all := lw_g (lw_at lw_m8 94 rfl) rfl
theorem q1905 : (Jvm.Cond.code ({ cls := "WireSchemasModel", name := "look", desc := "(I)I" } : Jvm.MethodName) prog_19_method_68_code (2 : Nat) (Option.some Jvm.ClassFile.FieldType.int)) ∈ lw_all := lw_g (lw_at lw_m8 95 rfl) rfl
theorem q1906 : (Jvm.Cond.methodLink "WireSchemasModel" (503 : Nat) ({ cls := "WireSchemasModel", name := "string", desc := "(I)I" } : Jvm.MethodName)) ∈ lw_all := lw_g (lw_at lw_m8 96 rfl) rfl
theorem q1907 : (Jvm.Cond.privateMethod ({ cls := "WireSchemasModel", name := "string", desc := "(I)I" } : Jvm.MethodName)) ∈ lw_tbl := lw_at lw_m8 97 rfl
theorem q1908 : (Jvm.Cond.instanceMethod ({ cls := "WireSchemasModel", name := "string", desc := "(I)I" } : Jvm.MethodName)) ∈ lw_all := lw_g (lw_at lw_m8 98 rfl) rfl
theorem q1909 : (Jvm.Cond.code ({ cls := "WireSchemasModel", name := "string", desc := "(I)I" } : Jvm.MethodName) prog_19_method_73_code (7 : Nat) (Option.some Jvm.ClassFile.FieldType.int)) ∈ lw_all := lw_g (lw_at lw_m8 99 rfl) rfl
theorem q1910 : (Jvm.Cond.methodLink "WireSchemasModel" (450 : Nat) ({ cls := "WireSchemasModel", name := "sayByte", desc := "(I)V" } : Jvm.MethodName)) ∈ lw_all := lw_g (lw_at lw_m8 100 rfl) rfl
theorem q1911 : (Jvm.Cond.privateMethod ({ cls := "WireSchemasModel", name := "sayByte", desc := "(I)V" } : Jvm.MethodName)) ∈ lw_tbl := lw_at lw_m8 101 rfl
theorem q1912 : (Jvm.Cond.instanceMethod ({ cls := "WireSchemasModel", name := "sayByte", desc := "(I)V" } : Jvm.MethodName)) ∈ lw_all := lw_g (lw_at lw_m8 102 rfl) rfl
theorem q1913 : (Jvm.Cond.code ({ cls := "WireSchemasModel", name := "sayByte", desc := "(I)V" } : Jvm.MethodName) prog_19_method_71_code (2 : Nat) (Option.none : Option Jvm.ClassFile.FieldType)) ∈ lw_all := lw_g (lw_at lw_m8 103 rfl) rfl
theorem q1914 : (Jvm.Cond.methodLink "WireSchemasModel" (456 : Nat) ({ cls := "WireSchemasModel", name := "fourDigits", desc := "(I)I" } : Jvm.MethodName)) ∈ lw_all := lw_g (lw_at lw_m8 104 rfl) rfl
theorem q1915 : (Jvm.Cond.privateMethod ({ cls := "WireSchemasModel", name := "fourDigits", desc := "(I)I" } : Jvm.MethodName)) ∈ lw_tbl := lw_at lw_m8 105 rfl
theorem q1916 : (Jvm.Cond.instanceMethod ({ cls := "WireSchemasModel", name := "fourDigits", desc := "(I)I" } : Jvm.MethodName)) ∈ lw_all := lw_g (lw_at lw_m8 106 rfl) rfl
theorem q1917 : (Jvm.Cond.code ({ cls := "WireSchemasModel", name := "fourDigits", desc := "(I)I" } : Jvm.MethodName) prog_19_method_72_code (6 : Nat) (Option.some Jvm.ClassFile.FieldType.int)) ∈ lw_all := lw_g (lw_at lw_m8 107 rfl) rfl
theorem q1918 : (Jvm.Cond.constant "WireSchemasModel" (459 : Nat) (56320 : Int32)) ∈ lw_all := lw_g (lw_at lw_m8 108 rfl) rfl
theorem q1919 : (Jvm.Cond.methodLink "WireSchemasModel" (460 : Nat) ({ cls := "WireSchemasModel", name := "say", desc := "(I)V" } : Jvm.MethodName)) ∈ lw_all := lw_g (lw_at lw_m8 109 rfl) rfl
theorem q1920 : (Jvm.Cond.privateMethod ({ cls := "WireSchemasModel", name := "say", desc := "(I)V" } : Jvm.MethodName)) ∈ lw_tbl := lw_at lw_m8 110 rfl
theorem q1921 : (Jvm.Cond.instanceMethod ({ cls := "WireSchemasModel", name := "say", desc := "(I)V" } : Jvm.MethodName)) ∈ lw_all := lw_g (lw_at lw_m8 111 rfl) rfl
theorem q1922 : (Jvm.Cond.code ({ cls := "WireSchemasModel", name := "say", desc := "(I)V" } : Jvm.MethodName) prog_19_method_70_code (2 : Nat) (Option.none : Option Jvm.ClassFile.FieldType)) ∈ lw_all := lw_g (lw_at lw_m8 112 rfl) rfl
theorem q1923 : (Jvm.Cond.methodLink "WireSchemasModel" (533 : Nat) ({ cls := "WireSchemasModel", name := "fieldNamed", desc := "(I)I" } : Jvm.MethodName)) ∈ lw_all := lw_g (lw_at lw_m8 113 rfl) rfl
theorem q1924 : (Jvm.Cond.privateMethod ({ cls := "WireSchemasModel", name := "fieldNamed", desc := "(I)I" } : Jvm.MethodName)) ∈ lw_tbl := lw_at lw_m8 114 rfl
theorem q1925 : (Jvm.Cond.instanceMethod ({ cls := "WireSchemasModel", name := "fieldNamed", desc := "(I)I" } : Jvm.MethodName)) ∈ lw_all := lw_g (lw_at lw_m8 115 rfl) rfl
theorem q1926 : (Jvm.Cond.code ({ cls := "WireSchemasModel", name := "fieldNamed", desc := "(I)I" } : Jvm.MethodName) prog_19_method_86_code (7 : Nat) (Option.some Jvm.ClassFile.FieldType.int)) ∈ lw_all := lw_g (lw_at lw_m8 116 rfl) rfl
theorem q1927 : (Jvm.Cond.stringRef "WireSchemasModel" (536 : Nat) "null") ∈ lw_tbl := lw_at lw_m8 117 rfl
theorem q1928 : (Jvm.Cond.methodLink "WireSchemasModel" (510 : Nat) ({ cls := "WireSchemasModel", name := "literal", desc := "(ILjava/lang/String;)I" } : Jvm.MethodName)) ∈ lw_all := lw_g (lw_at lw_m8 118 rfl) rfl
theorem q1929 : (Jvm.Cond.privateMethod ({ cls := "WireSchemasModel", name := "literal", desc := "(ILjava/lang/String;)I" } : Jvm.MethodName)) ∈ lw_tbl := lw_at lw_m8 119 rfl
theorem q1930 : (Jvm.Cond.instanceMethod ({ cls := "WireSchemasModel", name := "literal", desc := "(ILjava/lang/String;)I" } : Jvm.MethodName)) ∈ lw_all := lw_g (lw_at lw_m8 120 rfl) rfl
theorem q1931 : (Jvm.Cond.code ({ cls := "WireSchemasModel", name := "literal", desc := "(ILjava/lang/String;)I" } : Jvm.MethodName) prog_19_method_69_code (4 : Nat) (Option.some Jvm.ClassFile.FieldType.int)) ∈ lw_all := lw_g (lw_at lw_m8 121 rfl) rfl
theorem q1932 : (Jvm.Cond.methodLink "WireSchemasModel" (538 : Nat) ({ cls := "WireSchemasModel", name := "array", desc := "(III)I" } : Jvm.MethodName)) ∈ lw_all := lw_g (lw_at lw_m8 122 rfl) rfl
theorem q1933 : (Jvm.Cond.privateMethod ({ cls := "WireSchemasModel", name := "array", desc := "(III)I" } : Jvm.MethodName)) ∈ lw_tbl := lw_at lw_m8 123 rfl
theorem q1934 : (Jvm.Cond.instanceMethod ({ cls := "WireSchemasModel", name := "array", desc := "(III)I" } : Jvm.MethodName)) ∈ lw_all := lw_g (lw_at lw_m8 124 rfl) rfl
theorem q1935 : (Jvm.Cond.code ({ cls := "WireSchemasModel", name := "array", desc := "(III)I" } : Jvm.MethodName) prog_19_method_85_code (5 : Nat) (Option.some Jvm.ClassFile.FieldType.int)) ∈ lw_all := lw_g (lw_at lw_m8 125 rfl) rfl
theorem q1936 : (Jvm.Cond.methodLink "WireSchemasModel" (530 : Nat) ({ cls := "WireSchemasModel", name := "value", desc := "(III)I" } : Jvm.MethodName)) ∈ lw_all := lw_g (lw_at lw_m8 126 rfl) rfl
theorem q1937 : (Jvm.Cond.privateMethod ({ cls := "WireSchemasModel", name := "value", desc := "(III)I" } : Jvm.MethodName)) ∈ lw_tbl := lw_at lw_m8 127 rfl
theorem q1938 : (Jvm.Cond.instanceMethod ({ cls := "WireSchemasModel", name := "value", desc := "(III)I" } : Jvm.MethodName)) ∈ lw_all := lw_g (lw_at lw_m8 128 rfl) rfl
theorem q1939 : (Jvm.Cond.code ({ cls := "WireSchemasModel", name := "value", desc := "(III)I" } : Jvm.MethodName) prog_19_method_84_code (7 : Nat) (Option.some Jvm.ClassFile.FieldType.int)) ∈ lw_all := lw_g (lw_at lw_m8 129 rfl) rfl
theorem q1940 : (Jvm.Cond.methodLink "WireSchemasModel" (514 : Nat) ({ cls := "WireSchemasModel", name := "unbase", desc := "()Z" } : Jvm.MethodName)) ∈ lw_all := lw_g (lw_at lw_m8 130 rfl) rfl
theorem q1941 : (Jvm.Cond.privateMethod ({ cls := "WireSchemasModel", name := "unbase", desc := "()Z" } : Jvm.MethodName)) ∈ lw_tbl := lw_at lw_m8 131 rfl
theorem q1942 : (Jvm.Cond.instanceMethod ({ cls := "WireSchemasModel", name := "unbase", desc := "()Z" } : Jvm.MethodName)) ∈ lw_all := lw_g (lw_at lw_m8 132 rfl) rfl
theorem q1943 : (Jvm.Cond.code ({ cls := "WireSchemasModel", name := "unbase", desc := "()Z" } : Jvm.MethodName) prog_19_method_82_code (7 : Nat) (Option.some Jvm.ClassFile.FieldType.boolean)) ∈ lw_all := lw_g (lw_at lw_m8 133 rfl) rfl
theorem q1944 : (Jvm.Cond.methodLink "WireSchemasModel" (506 : Nat) ({ cls := "WireSchemasModel", name := "sixOf", desc := "(I)I" } : Jvm.MethodName)) ∈ lw_all := lw_g (lw_at lw_m8 134 rfl) rfl
theorem q1945 : (Jvm.Cond.static ({ cls := "WireSchemasModel", name := "sixOf", desc := "(I)I" } : Jvm.MethodName)) ∈ lw_all := lw_g (lw_at lw_m8 135 rfl) rfl
theorem q1946 : (Jvm.Cond.code ({ cls := "WireSchemasModel", name := "sixOf", desc := "(I)I" } : Jvm.MethodName) prog_19_method_81_code (1 : Nat) (Option.some Jvm.ClassFile.FieldType.int)) ∈ lw_all := lw_g (lw_at lw_m8 136 rfl) rfl
theorem q1947 : (Jvm.Cond.constant "WireSchemasModel" (509 : Nat) (16777215 : Int32)) ∈ lw_all := lw_g (lw_at lw_m8 137 rfl) rfl
theorem q1948 : (Jvm.Cond.methodLink "WireSchemasModel" (521 : Nat) ({ cls := "WireSchemasModel", name := "valueNamed", desc := "(I)I" } : Jvm.MethodName)) ∈ lw_all := lw_g (lw_at lw_m8 138 rfl) rfl
theorem q1949 : (Jvm.Cond.privateMethod ({ cls := "WireSchemasModel", name := "valueNamed", desc := "(I)I" } : Jvm.MethodName)) ∈ lw_tbl := lw_at lw_m8 139 rfl
theorem q1950 : (Jvm.Cond.instanceMethod ({ cls := "WireSchemasModel", name := "valueNamed", desc := "(I)I" } : Jvm.MethodName)) ∈ lw_all := lw_g (lw_at lw_m8 140 rfl) rfl
theorem q1951 : (Jvm.Cond.code ({ cls := "WireSchemasModel", name := "valueNamed", desc := "(I)I" } : Jvm.MethodName) prog_19_method_83_code (5 : Nat) (Option.some Jvm.ClassFile.FieldType.int)) ∈ lw_all := lw_g (lw_at lw_m8 141 rfl) rfl
theorem q1952 : (Jvm.Cond.methodLink "WireSchemasModel" (524 : Nat) ({ cls := "WireSchemasModel", name := "numberOf", desc := "(II)I" } : Jvm.MethodName)) ∈ lw_all := lw_g (lw_at lw_m8 142 rfl) rfl
theorem q1953 : (Jvm.Cond.privateMethod ({ cls := "WireSchemasModel", name := "numberOf", desc := "(II)I" } : Jvm.MethodName)) ∈ lw_tbl := lw_at lw_m8 143 rfl
theorem q1954 : (Jvm.Cond.instanceMethod ({ cls := "WireSchemasModel", name := "numberOf", desc := "(II)I" } : Jvm.MethodName)) ∈ lw_all := lw_g (lw_at lw_m8 144 rfl) rfl
theorem q1955 : (Jvm.Cond.code ({ cls := "WireSchemasModel", name := "numberOf", desc := "(II)I" } : Jvm.MethodName) prog_19_method_80_code (5 : Nat) (Option.some Jvm.ClassFile.FieldType.int)) ∈ lw_all := lw_g (lw_at lw_m8 145 rfl) rfl
theorem q1956 : (Jvm.Cond.methodLink "WireSchemasModel" (494 : Nat) ({ cls := "WireSchemasModel", name := "numberText", desc := "(I)I" } : Jvm.MethodName)) ∈ lw_all := lw_g (lw_at lw_m8 146 rfl) rfl
theorem q1957 : (Jvm.Cond.privateMethod ({ cls := "WireSchemasModel", name := "numberText", desc := "(I)I" } : Jvm.MethodName)) ∈ lw_tbl := lw_at lw_m8 147 rfl
theorem q1958 : (Jvm.Cond.instanceMethod ({ cls := "WireSchemasModel", name := "numberText", desc := "(I)I" } : Jvm.MethodName)) ∈ lw_all := lw_g (lw_at lw_m8 148 rfl) rfl
theorem q1959 : (Jvm.Cond.code ({ cls := "WireSchemasModel", name := "numberText", desc := "(I)I" } : Jvm.MethodName) prog_19_method_76_code (4 : Nat) (Option.some Jvm.ClassFile.FieldType.int)) ∈ lw_all := lw_g (lw_at lw_m8 149 rfl) rfl
theorem q1960 : (Jvm.Cond.methodLink "WireSchemasModel" (466 : Nat) ({ cls := "WireSchemasModel", name := "symbol", desc := "(I)I" } : Jvm.MethodName)) ∈ lw_all := lw_g (lw_at lw_m8 150 rfl) rfl
theorem q1961 : (Jvm.Cond.privateMethod ({ cls := "WireSchemasModel", name := "symbol", desc := "(I)I" } : Jvm.MethodName)) ∈ lw_tbl := lw_at lw_m8 151 rfl
theorem q1962 : (Jvm.Cond.instanceMethod ({ cls := "WireSchemasModel", name := "symbol", desc := "(I)I" } : Jvm.MethodName)) ∈ lw_all := lw_g (lw_at lw_m8 152 rfl) rfl
theorem q1963 : (Jvm.Cond.code ({ cls := "WireSchemasModel", name := "symbol", desc := "(I)I" } : Jvm.MethodName) prog_19_method_74_code (2 : Nat) (Option.some Jvm.ClassFile.FieldType.int)) ∈ lw_all := lw_g (lw_at lw_m8 153 rfl) rfl
theorem q1964 : (Jvm.Cond.methodLink "WireSchemasModel" (469 : Nat) ({ cls := "WireSchemasModel", name := "digits", desc := "(I)I" } : Jvm.MethodName)) ∈ lw_all := lw_g (lw_at lw_m8 154 rfl) rfl
theorem q1965 : (Jvm.Cond.privateMethod ({ cls := "WireSchemasModel", name := "digits", desc := "(I)I" } : Jvm.MethodName)) ∈ lw_tbl := lw_at lw_m8 155 rfl
theorem q1966 : (Jvm.Cond.instanceMethod ({ cls := "WireSchemasModel", name := "digits", desc := "(I)I" } : Jvm.MethodName)) ∈ lw_all := lw_g (lw_at lw_m8 156 rfl) rfl
theorem q1967 : (Jvm.Cond.code ({ cls := "WireSchemasModel", name := "digits", desc := "(I)I" } : Jvm.MethodName) prog_19_method_75_code (3 : Nat) (Option.some Jvm.ClassFile.FieldType.int)) ∈ lw_all := lw_g (lw_at lw_m8 157 rfl) rfl
theorem q1968 : (Jvm.Cond.methodLink "WireSchemasModel" (497 : Nat) ({ cls := "WireSchemasModel", name := "isWhole", desc := "(II)Z" } : Jvm.MethodName)) ∈ lw_all := lw_g (lw_at lw_m8 158 rfl) rfl
theorem q1969 : (Jvm.Cond.privateMethod ({ cls := "WireSchemasModel", name := "isWhole", desc := "(II)Z" } : Jvm.MethodName)) ∈ lw_tbl := lw_at lw_m8 159 rfl
theorem q1970 : (Jvm.Cond.instanceMethod ({ cls := "WireSchemasModel", name := "isWhole", desc := "(II)Z" } : Jvm.MethodName)) ∈ lw_all := lw_g (lw_at lw_m8 160 rfl) rfl
theorem q1971 : (Jvm.Cond.code ({ cls := "WireSchemasModel", name := "isWhole", desc := "(II)Z" } : Jvm.MethodName) prog_19_method_77_code (13 : Nat) (Option.some Jvm.ClassFile.FieldType.boolean)) ∈ lw_all := lw_g (lw_at lw_m8 161 rfl) rfl
theorem q1972 : (Jvm.Cond.constant "WireSchemasModel" (475 : Nat) (100000 : Int32)) ∈ lw_all := lw_g (lw_at lw_m8 162 rfl) rfl
theorem q1973 : (Jvm.Cond.methodLink "WireSchemasModel" (479 : Nat) ({ cls := "WireSchemasModel", name := "grows", desc := "(I)Z" } : Jvm.MethodName)) ∈ lw_all := lw_g (lw_at lw_m8 163 rfl) rfl
theorem q1974 : (Jvm.Cond.privateMethod ({ cls := "WireSchemasModel", name := "grows", desc := "(I)Z" } : Jvm.MethodName)) ∈ lw_tbl := lw_at lw_m8 164 rfl
theorem q1975 : (Jvm.Cond.instanceMethod ({ cls := "WireSchemasModel", name := "grows", desc := "(I)Z" } : Jvm.MethodName)) ∈ lw_all := lw_g (lw_at lw_m8 165 rfl) rfl
theorem q1976 : (Jvm.Cond.code ({ cls := "WireSchemasModel", name := "grows", desc := "(I)Z" } : Jvm.MethodName) prog_19_method_78_code (2 : Nat) (Option.some Jvm.ClassFile.FieldType.boolean)) ∈ lw_all := lw_g (lw_at lw_m8 166 rfl) rfl
theorem q1977 : (Jvm.Cond.constantLong "WireSchemasModel" (482 : Nat) (-1 : Int64)) ∈ lw_all := lw_g (lw_at lw_m8 167 rfl) rfl
theorem q1978 : (Jvm.Cond.methodLink "WireSchemasModel" (484 : Nat) ({ cls := "java/lang/Long", name := "compareUnsigned", desc := "(JJ)I" } : Jvm.MethodName)) ∈ lw_all := lw_g (lw_at lw_m8 168 rfl) rfl
theorem q1979 : (Jvm.Cond.methodLink "WireSchemasModel" (500 : Nat) ({ cls := "WireSchemasModel", name := "fits", desc := "(I)Z" } : Jvm.MethodName)) ∈ lw_all := lw_g (lw_at lw_m8 169 rfl) rfl
theorem q1980 : (Jvm.Cond.privateMethod ({ cls := "WireSchemasModel", name := "fits", desc := "(I)Z" } : Jvm.MethodName)) ∈ lw_tbl := lw_at lw_m8 170 rfl
theorem q1981 : (Jvm.Cond.instanceMethod ({ cls := "WireSchemasModel", name := "fits", desc := "(I)Z" } : Jvm.MethodName)) ∈ lw_all := lw_g (lw_at lw_m8 171 rfl) rfl
theorem q1982 : (Jvm.Cond.code ({ cls := "WireSchemasModel", name := "fits", desc := "(I)Z" } : Jvm.MethodName) prog_19_method_79_code (6 : Nat) (Option.some Jvm.ClassFile.FieldType.boolean)) ∈ lw_all := lw_g (lw_at lw_m8 172 rfl) rfl
theorem q1983 : (Jvm.Cond.constantLong "WireSchemasModel" (488 : Nat) (9223372036854775807 : Int64)) ∈ lw_all := lw_g (lw_at lw_m8 173 rfl) rfl
theorem q1984 : (Jvm.Cond.constantLong "WireSchemasModel" (492 : Nat) (2147483647 : Int64)) ∈ lw_all := lw_g (lw_at lw_m8 174 rfl) rfl
theorem q1985 : (Jvm.Cond.methodLink "WireSchemasModel" (551 : Nat) ({ cls := "WireSchemasModel", name := "putObject", desc := "(II)V" } : Jvm.MethodName)) ∈ lw_all := lw_g (lw_at lw_m8 175 rfl) rfl
theorem q1986 : (Jvm.Cond.privateMethod ({ cls := "WireSchemasModel", name := "putObject", desc := "(II)V" } : Jvm.MethodName)) ∈ lw_tbl := lw_at lw_m8 176 rfl
theorem q1987 : (Jvm.Cond.instanceMethod ({ cls := "WireSchemasModel", name := "putObject", desc := "(II)V" } : Jvm.MethodName)) ∈ lw_all := lw_g (lw_at lw_m8 177 rfl) rfl
theorem q1988 : (Jvm.Cond.code ({ cls := "WireSchemasModel", name := "putObject", desc := "(II)V" } : Jvm.MethodName) prog_19_method_96_code (6 : Nat) (Option.none : Option Jvm.ClassFile.FieldType)) ∈ lw_all := lw_g (lw_at lw_m8 178 rfl) rfl
theorem q1989 : (Jvm.Cond.methodLink "WireSchemasModel" (566 : Nat) ({ cls := "WireSchemasModel", name := "member", desc := "(III)I" } : Jvm.MethodName)) ∈ lw_all := lw_g (lw_at lw_m8 179 rfl) rfl
theorem q1990 : (Jvm.Cond.privateMethod ({ cls := "WireSchemasModel", name := "member", desc := "(III)I" } : Jvm.MethodName)) ∈ lw_tbl := lw_at lw_m8 180 rfl
theorem q1991 : (Jvm.Cond.instanceMethod ({ cls := "WireSchemasModel", name := "member", desc := "(III)I" } : Jvm.MethodName)) ∈ lw_all := lw_g (lw_at lw_m8 181 rfl) rfl
theorem q1992 : (Jvm.Cond.code ({ cls := "WireSchemasModel", name := "member", desc := "(III)I" } : Jvm.MethodName) prog_19_method_88_code (8 : Nat) (Option.some Jvm.ClassFile.FieldType.int)) ∈ lw_all := lw_g (lw_at lw_m8 182 rfl) rfl
theorem q1993 : (Jvm.Cond.methodLink "WireSchemasModel" (569 : Nat) ({ cls := "WireSchemasModel", name := "putArray", desc := "(II)V" } : Jvm.MethodName)) ∈ lw_all := lw_g (lw_at lw_m8 183 rfl) rfl
theorem q1994 : (Jvm.Cond.privateMethod ({ cls := "WireSchemasModel", name := "putArray", desc := "(II)V" } : Jvm.MethodName)) ∈ lw_tbl := lw_at lw_m8 184 rfl
theorem q1995 : (Jvm.Cond.instanceMethod ({ cls := "WireSchemasModel", name := "putArray", desc := "(II)V" } : Jvm.MethodName)) ∈ lw_all := lw_g (lw_at lw_m8 185 rfl) rfl
theorem q1996 : (Jvm.Cond.code ({ cls := "WireSchemasModel", name := "putArray", desc := "(II)V" } : Jvm.MethodName) prog_19_method_95_code (7 : Nat) (Option.none : Option Jvm.ClassFile.FieldType)) ∈ lw_all := lw_g (lw_at lw_m8 186 rfl) rfl
theorem q1997 : (Jvm.Cond.methodLink "WireSchemasModel" (548 : Nat) ({ cls := "WireSchemasModel", name := "putTag", desc := "(II)V" } : Jvm.MethodName)) ∈ lw_all := lw_g (lw_at lw_m8 187 rfl) rfl
theorem q1998 : (Jvm.Cond.privateMethod ({ cls := "WireSchemasModel", name := "putTag", desc := "(II)V" } : Jvm.MethodName)) ∈ lw_tbl := lw_at lw_m8 188 rfl
theorem q1999 : (Jvm.Cond.instanceMethod ({ cls := "WireSchemasModel", name := "putTag", desc := "(II)V" } : Jvm.MethodName)) ∈ lw_all := lw_g (lw_at lw_m8 189 rfl) rfl
theorem q2000 : (Jvm.Cond.code ({ cls := "WireSchemasModel", name := "putTag", desc := "(II)V" } : Jvm.MethodName) prog_19_method_90_code (3 : Nat) (Option.none : Option Jvm.ClassFile.FieldType)) ∈ lw_all := lw_g (lw_at lw_m8 190 rfl) rfl
theorem q2001 : (Jvm.Cond.constantLong "WireSchemasModel" (543 : Nat) (8 : Int64)) ∈ lw_all := lw_g (lw_at lw_m8 191 rfl) rfl
theorem q2002 : (Jvm.Cond.methodLink "WireSchemasModel" (545 : Nat) ({ cls := "WireSchemasModel", name := "putVarint", desc := "(J)V" } : Jvm.MethodName)) ∈ lw_all := lw_g (lw_at lw_m8 192 rfl) rfl
theorem q2003 : (Jvm.Cond.privateMethod ({ cls := "WireSchemasModel", name := "putVarint", desc := "(J)V" } : Jvm.MethodName)) ∈ lw_tbl := lw_at lw_m8 193 rfl
theorem q2004 : (Jvm.Cond.instanceMethod ({ cls := "WireSchemasModel", name := "putVarint", desc := "(J)V" } : Jvm.MethodName)) ∈ lw_all := lw_g (lw_at lw_m8 194 rfl) rfl
theorem q2005 : (Jvm.Cond.code ({ cls := "WireSchemasModel", name := "putVarint", desc := "(J)V" } : Jvm.MethodName) prog_19_method_89_code (5 : Nat) (Option.none : Option Jvm.ClassFile.FieldType)) ∈ lw_all := lw_g (lw_at lw_m8 195 rfl) rfl
theorem q2006 : (Jvm.Cond.constantLong "WireSchemasModel" (541 : Nat) (127 : Int64)) ∈ lw_all := lw_g (lw_at lw_m8 196 rfl) rfl
theorem q2007 : (Jvm.Cond.methodLink "WireSchemasModel" (557 : Nat) ({ cls := "WireSchemasModel", name := "putWhole", desc := "(I)V" } : Jvm.MethodName)) ∈ lw_all := lw_g (lw_at lw_m8 197 rfl) rfl
theorem q2008 : (Jvm.Cond.privateMethod ({ cls := "WireSchemasModel", name := "putWhole", desc := "(I)V" } : Jvm.MethodName)) ∈ lw_tbl := lw_at lw_m8 198 rfl
theorem q2009 : (Jvm.Cond.instanceMethod ({ cls := "WireSchemasModel", name := "putWhole", desc := "(I)V" } : Jvm.MethodName)) ∈ lw_all := lw_g (lw_at lw_m8 199 rfl) rfl
theorem q2010 : (Jvm.Cond.code ({ cls := "WireSchemasModel", name := "putWhole", desc := "(I)V" } : Jvm.MethodName) prog_19_method_91_code (7 : Nat) (Option.none : Option Jvm.ClassFile.FieldType)) ∈ lw_all := lw_g (lw_at lw_m8 200 rfl) rfl
theorem q2011 : (Jvm.Cond.methodLink "WireSchemasModel" (563 : Nat) ({ cls := "WireSchemasModel", name := "putValue", desc := "(II)V" } : Jvm.MethodName)) ∈ lw_all := lw_g (lw_at lw_m8 201 rfl) rfl
theorem q2012 : (Jvm.Cond.privateMethod ({ cls := "WireSchemasModel", name := "putValue", desc := "(II)V" } : Jvm.MethodName)) ∈ lw_tbl := lw_at lw_m8 202 rfl
theorem q2013 : (Jvm.Cond.instanceMethod ({ cls := "WireSchemasModel", name := "putValue", desc := "(II)V" } : Jvm.MethodName)) ∈ lw_all := lw_g (lw_at lw_m8 203 rfl) rfl
theorem q2014 : (Jvm.Cond.code ({ cls := "WireSchemasModel", name := "putValue", desc := "(II)V" } : Jvm.MethodName) prog_19_method_94_code (5 : Nat) (Option.none : Option Jvm.ClassFile.FieldType)) ∈ lw_all := lw_g (lw_at lw_m8 204 rfl) rfl
theorem q2015 : (Jvm.Cond.methodLink "WireSchemasModel" (554 : Nat) ({ cls := "WireSchemasModel", name := "putLength", desc := "(I)V" } : Jvm.MethodName)) ∈ lw_all := lw_g (lw_at lw_m8 205 rfl) rfl
theorem q2016 : (Jvm.Cond.privateMethod ({ cls := "WireSchemasModel", name := "putLength", desc := "(I)V" } : Jvm.MethodName)) ∈ lw_tbl := lw_at lw_m8 206 rfl
theorem q2017 : (Jvm.Cond.instanceMethod ({ cls := "WireSchemasModel", name := "putLength", desc := "(I)V" } : Jvm.MethodName)) ∈ lw_all := lw_g (lw_at lw_m8 207 rfl) rfl
theorem q2018 : (Jvm.Cond.code ({ cls := "WireSchemasModel", name := "putLength", desc := "(I)V" } : Jvm.MethodName) prog_19_method_92_code (5 : Nat) (Option.none : Option Jvm.ClassFile.FieldType)) ∈ lw_all := lw_g (lw_at lw_m8 208 rfl) rfl
theorem q2019 : (Jvm.Cond.methodLink "WireSchemasModel" (560 : Nat) ({ cls := "WireSchemasModel", name := "putSaid", desc := "()V" } : Jvm.MethodName)) ∈ lw_all := lw_g (lw_at lw_m8 209 rfl) rfl
theorem q2020 : (Jvm.Cond.privateMethod ({ cls := "WireSchemasModel", name := "putSaid", desc := "()V" } : Jvm.MethodName)) ∈ lw_tbl := lw_at lw_m8 210 rfl
theorem q2021 : (Jvm.Cond.instanceMethod ({ cls := "WireSchemasModel", name := "putSaid", desc := "()V" } : Jvm.MethodName)) ∈ lw_all := lw_g (lw_at lw_m8 211 rfl) rfl
theorem q2022 : (Jvm.Cond.code ({ cls := "WireSchemasModel", name := "putSaid", desc := "()V" } : Jvm.MethodName) prog_19_method_93_code (2 : Nat) (Option.none : Option Jvm.ClassFile.FieldType)) ∈ lw_all := lw_g (lw_at lw_m8 212 rfl) rfl
theorem q2024 : (Jvm.Cond.instanceMethod ({ cls := "WireSchemasModel", name := "turn", desc := "()Z" } : Jvm.MethodName)) ∈ lw_all := lw_g (lw_at lw_m8 214 rfl) rfl
theorem q2025 : (Jvm.Cond.selects "WireSchemasModel" ({ cls := "WireSchemasModel", name := "turn", desc := "()Z" } : Jvm.MethodName) ({ cls := "WireSchemasModel", name := "turn", desc := "()Z" } : Jvm.MethodName)) ∈ lw_all := lw_g (lw_at lw_m8 215 rfl) rfl
theorem q2026 : (Jvm.Cond.code ({ cls := "WireSchemasModel", name := "turn", desc := "()Z" } : Jvm.MethodName) prog_19_method_98_code (2 : Nat) (Option.some Jvm.ClassFile.FieldType.boolean)) ∈ lw_all := lw_g (lw_at lw_m8 216 rfl) rfl
theorem q2028 : (Jvm.Cond.instanceMethod ({ cls := "WireSchemasModel", name := "output", desc := "(I)I" } : Jvm.MethodName)) ∈ lw_all := lw_g (lw_at lw_m8 218 rfl) rfl
theorem q2029 : (Jvm.Cond.selects "WireSchemasModel" ({ cls := "WireSchemasModel", name := "output", desc := "(I)I" } : Jvm.MethodName) ({ cls := "WireSchemasModel", name := "output", desc := "(I)I" } : Jvm.MethodName)) ∈ lw_all := lw_g (lw_at lw_m8 219 rfl) rfl
theorem q2030 : (Jvm.Cond.code ({ cls := "WireSchemasModel", name := "output", desc := "(I)I" } : Jvm.MethodName) prog_19_method_99_code (2 : Nat) (Option.some Jvm.ClassFile.FieldType.int)) ∈ lw_all := lw_g (lw_at lw_m8 220 rfl) rfl
theorem q2038 : (Jvm.Cond.castable "WireSchemasModel" "java/lang/Object") ∈ lw_tbl := lw_at lw_m8 228 rfl
theorem in_X4 : ∀ w ∈ wsX40, w ∈ lw_all := lw_in wsX40 [1479, 1481, 1483, 1485, 1487, 1489, 1491, 1493, 1495, 1497, 1499, 1501, 1503, 1505, 1507, 1509, 1511, 1513, 1515, 1517, 1519, 1521, 1523, 1525, 1527, 1529, 1531, 1533, 1535, 1537, 1539, 1541, 1543, 1545, 1547, 1549, 1551, 1553, 1555, 1557, 1559, 1561, 1563, 1565, 1567, 1569, 1571, 1573, 1575, 1577, 1579, 1581, 1583, 1585, 1587, 1589, 1591, 1593, 1595, 1597, 1599] (by decide +kernel) (by decide +kernel)
/-! WireSchemas$SchemaReader -/
def RX5 : String := "WireSchemas$SchemaReader"
def TX5 : u_T := fun k => match k with
  | 0 => ("WireSchemas$SchemaReader", "text", "[B", true)
  | 1 => ("WireSchemas$SchemaReader", "size", "I", true)
  | 2 => ("WireSchemas$SchemaReader", "at", "I", false)
  | 3 => ("WireSchemas$SchemaReader", "token", "I", false)
  | 4 => ("WireSchemas$SchemaReader", "begin", "I", false)
  | 5 => ("WireSchemas$SchemaReader", "value", "I", false)
  | _ => ("WireSchemas$SchemaReader", "schema", "LWireSchemas$Schema;", true)
def tyX5 : Nat → FieldType := fun k => match k with
  | 0 => .array .byte
  | 1 => .int
  | 2 => .int
  | 3 => .int
  | 4 => .int
  | 5 => .int
  | _ => .object "WireSchemas$Schema"
abbrev wsX50 : List Cond := u_ws RX5 TX5 7
theorem nmX5 : ∀ a, a < 7 → ∀ b, b < 7 → a ≠ b → (TX5 a).2.1 ≠ (TX5 b).2.1 := by decide +kernel
theorem tyX5_ok : ∀ k, k < 7 → parseFieldDescriptor (TX5 k).2.2.1 = some (tyX5 k) := by decide +kernel
abbrev cX5_init : ByteArray := prog_11_method_1_code
def yX5_init : MethodName := ⟨RX5, "<init>", "([BI)V"⟩
abbrev cX5_read : ByteArray := prog_11_method_14_code
def yX5_read : MethodName := ⟨RX5, "read", "()LWireSchemas$Schema;"⟩
abbrev cX5_next : ByteArray := prog_11_method_7_code
def yX5_next : MethodName := ⟨RX5, "next", "()V"⟩
abbrev cX5_look : ByteArray := prog_11_method_4_code
def yX5_look : MethodName := ⟨RX5, "look", "(I)I"⟩
abbrev cX5_isLetter : ByteArray := prog_11_method_5_code
def yX5_isLetter : MethodName := ⟨RX5, "isLetter", "(I)Z"⟩
abbrev cX5_isDigit : ByteArray := prog_11_method_6_code
def yX5_isDigit : MethodName := ⟨RX5, "isDigit", "(I)Z"⟩
abbrev cX5_word : ByteArray := prog_11_method_10_code
def yX5_word : MethodName := ⟨RX5, "word", "(Ljava/lang/String;)V"⟩
abbrev cX5_isWord : ByteArray := prog_11_method_8_code
def yX5_isWord : MethodName := ⟨RX5, "isWord", "(Ljava/lang/String;)Z"⟩
abbrev cX5_must : ByteArray := prog_11_method_3_code
def yX5_must : MethodName := ⟨RX5, "must", "(Z)V"⟩
abbrev cX5_fail : ByteArray := prog_11_method_2_code
def yX5_fail : MethodName := ⟨RX5, "fail", "()V"⟩
abbrev cX5_sign : ByteArray := prog_11_method_11_code
def yX5_sign : MethodName := ⟨RX5, "sign", "(I)V"⟩
abbrev cX5_isSign : ByteArray := prog_11_method_9_code
def yX5_isSign : MethodName := ⟨RX5, "isSign", "(I)Z"⟩
abbrev cX5_message : ByteArray := prog_11_method_16_code
def yX5_message : MethodName := ⟨RX5, "message", "(LWireSchemas$SchemaReader;LWireSchemas$Scope;I)V"⟩
abbrev cX5_name : ByteArray := prog_11_method_12_code
def yX5_name : MethodName := ⟨RX5, "name", "()LWireSchemas$Row;"⟩
abbrev cX5_enumeration : ByteArray := prog_11_method_15_code
def yX5_enumeration : MethodName := ⟨RX5, "enumeration", "(LWireSchemas$Scope;)V"⟩
abbrev cX5_number : ByteArray := prog_11_method_13_code
def yX5_number : MethodName := ⟨RX5, "number", "()I"⟩
abbrev cX5_oneof : ByteArray := prog_11_method_17_code
def yX5_oneof : MethodName := ⟨RX5, "oneof", "(LWireSchemas$MessageType;)V"⟩
abbrev cX5_plain : ByteArray := prog_11_method_20_code
def yX5_plain : MethodName := ⟨RX5, "plain", "(LWireSchemas$MessageType;)LWireSchemas$Field;"⟩
abbrev cX5_reserve : ByteArray := prog_11_method_18_code
def yX5_reserve : MethodName := ⟨RX5, "reserve", "(LWireSchemas$MessageType;)V"⟩
abbrev cX5_field : ByteArray := prog_11_method_19_code
def yX5_field : MethodName := ⟨RX5, "field", "(LWireSchemas$MessageType;)V"⟩
theorem q140 : (Jvm.Cond.initialized "WireSchemas$SchemaReader") ∈ lw_all := lw_g (lw_at lw_m1 10 rfl) rfl
theorem q216 : (Jvm.Cond.fieldLinkNest "WireSchemas$SchemaReader" (161 : Nat) "WireSchemas$Scope" "messages" "Ljava/util/ArrayList;" "WireSchemas") ∈ lw_tbl := lw_at lw_m1 86 rfl
theorem q218 : (Jvm.Cond.fieldLinkNest "WireSchemas$SchemaReader" (134 : Nat) "WireSchemas$Scope" "enums" "Ljava/util/ArrayList;" "WireSchemas") ∈ lw_tbl := lw_at lw_m1 88 rfl
theorem q221 : (Jvm.Cond.fieldLinkNest "WireSchemas$SchemaReader" (137 : Nat) "WireSchemas$Scope" "names" "Ljava/util/ArrayList;" "WireSchemas") ∈ lw_tbl := lw_at lw_m1 91 rfl
theorem q235 : (Jvm.Cond.fieldLinkNest "WireSchemas$SchemaReader" (100 : Nat) "WireSchemas$Schema" "scope" "LWireSchemas$Scope;" "WireSchemas") ∈ lw_tbl := lw_at lw_m1 105 rfl
theorem q239 : (Jvm.Cond.fieldLinkNest "WireSchemas$SchemaReader" (153 : Nat) "WireSchemas$Schema" "messages" "Ljava/util/ArrayList;" "WireSchemas") ∈ lw_tbl := lw_at lw_m1 109 rfl
theorem q243 : (Jvm.Cond.fieldLinkNest "WireSchemas$SchemaReader" (113 : Nat) "WireSchemas$Schema" "enums" "Ljava/util/ArrayList;" "WireSchemas") ∈ lw_tbl := lw_at lw_m1 113 rfl
theorem q247 : (Jvm.Cond.fieldLinkNest "WireSchemas$SchemaReader" (206 : Nat) "WireSchemas$Schema" "fields" "Ljava/util/ArrayList;" "WireSchemas") ∈ lw_tbl := lw_at lw_m1 117 rfl
theorem q248 : (Jvm.Cond.fieldLinkNest "WireSchemas$SchemaReader" (143 : Nat) "WireSchemas$Schema" "values" "I" "WireSchemas") ∈ lw_tbl := lw_at lw_m1 118 rfl
theorem q249 : (Jvm.Cond.fieldLinkNest "WireSchemas$SchemaReader" (177 : Nat) "WireSchemas$Schema" "oneofs" "I" "WireSchemas") ∈ lw_tbl := lw_at lw_m1 119 rfl
theorem q250 : (Jvm.Cond.fieldLinkNest "WireSchemas$SchemaReader" (190 : Nat) "WireSchemas$Schema" "reserved" "I" "WireSchemas") ∈ lw_tbl := lw_at lw_m1 120 rfl
theorem q333 : (Jvm.Cond.instantiable "WireSchemas$SchemaReader" (7 : Nat)) ∈ lw_all := lw_g (lw_at lw_m1 203 rfl) rfl
theorem q335 : (Jvm.Cond.instanceMethod ({ cls := "WireSchemas$SchemaReader", name := "<init>", desc := "([BI)V" } : Jvm.MethodName)) ∈ lw_all := lw_g (lw_at lw_m1 205 rfl) rfl
theorem q336 : (Jvm.Cond.code ({ cls := "WireSchemas$SchemaReader", name := "<init>", desc := "([BI)V" } : Jvm.MethodName) prog_11_method_1_code (3 : Nat) (Option.none : Option Jvm.ClassFile.FieldType)) ∈ lw_all := lw_g (lw_at lw_m1 206 rfl) rfl
theorem q337 : (Jvm.Cond.methodLink "WireSchemas$SchemaReader" (3 : Nat) ({ cls := "java/lang/Object", name := "<init>", desc := "()V" } : Jvm.MethodName)) ∈ lw_all := lw_g (lw_at lw_m1 207 rfl) rfl
theorem q338 : (Jvm.Cond.classLink "WireSchemas$SchemaReader" (9 : Nat) "WireSchemas$Schema") ∈ lw_all := lw_g (lw_at lw_m1 208 rfl) rfl
theorem q339 : (Jvm.Cond.methodLinkNest "WireSchemas$SchemaReader" (11 : Nat) ({ cls := "WireSchemas$Schema", name := "<init>", desc := "()V" } : Jvm.MethodName) "WireSchemas") ∈ lw_tbl := lw_at lw_m1 209 rfl
theorem q340 : (Jvm.Cond.fieldLink "WireSchemas$SchemaReader" (18 : Nat) "WireSchemas$SchemaReader" "text" "[B") ∈ lw_all := lw_g (lw_at lw_m1 210 rfl) rfl
theorem q341 : (Jvm.Cond.fieldLink "WireSchemas$SchemaReader" (22 : Nat) "WireSchemas$SchemaReader" "size" "I") ∈ lw_all := lw_g (lw_at lw_m1 211 rfl) rfl
theorem q342 : (Jvm.Cond.fieldLink "WireSchemas$SchemaReader" (32 : Nat) "WireSchemas$SchemaReader" "at" "I") ∈ lw_all := lw_g (lw_at lw_m1 212 rfl) rfl
theorem q343 : (Jvm.Cond.fieldLink "WireSchemas$SchemaReader" (42 : Nat) "WireSchemas$SchemaReader" "token" "I") ∈ lw_all := lw_g (lw_at lw_m1 213 rfl) rfl
theorem q344 : (Jvm.Cond.fieldLink "WireSchemas$SchemaReader" (39 : Nat) "WireSchemas$SchemaReader" "begin" "I") ∈ lw_all := lw_g (lw_at lw_m1 214 rfl) rfl
theorem q345 : (Jvm.Cond.fieldLink "WireSchemas$SchemaReader" (52 : Nat) "WireSchemas$SchemaReader" "value" "I") ∈ lw_all := lw_g (lw_at lw_m1 215 rfl) rfl
theorem q346 : (Jvm.Cond.fieldLink "WireSchemas$SchemaReader" (12 : Nat) "WireSchemas$SchemaReader" "schema" "LWireSchemas$Schema;") ∈ lw_all := lw_g (lw_at lw_m1 216 rfl) rfl
theorem q347 : (Jvm.Cond.laysFinal "WireSchemas$SchemaReader" "WireSchemas$SchemaReader" "text" "[B") ∈ lw_all := lw_g (lw_at lw_m1 217 rfl) rfl
theorem q348 : (Jvm.Cond.soleField "WireSchemas$SchemaReader" "text") ∈ lw_all := lw_g (lw_at lw_m1 218 rfl) rfl
theorem q349 : (Jvm.Cond.laysFinal "WireSchemas$SchemaReader" "WireSchemas$SchemaReader" "size" "I") ∈ lw_all := lw_g (lw_at lw_m1 219 rfl) rfl
theorem q350 : (Jvm.Cond.soleField "WireSchemas$SchemaReader" "size") ∈ lw_all := lw_g (lw_at lw_m1 220 rfl) rfl
theorem q351 : (Jvm.Cond.lays "WireSchemas$SchemaReader" "WireSchemas$SchemaReader" "at" "I") ∈ lw_all := lw_g (lw_at lw_m1 221 rfl) rfl
theorem q352 : (Jvm.Cond.soleField "WireSchemas$SchemaReader" "at") ∈ lw_all := lw_g (lw_at lw_m1 222 rfl) rfl
theorem q353 : (Jvm.Cond.lays "WireSchemas$SchemaReader" "WireSchemas$SchemaReader" "token" "I") ∈ lw_all := lw_g (lw_at lw_m1 223 rfl) rfl
theorem q354 : (Jvm.Cond.soleField "WireSchemas$SchemaReader" "token") ∈ lw_all := lw_g (lw_at lw_m1 224 rfl) rfl
theorem q355 : (Jvm.Cond.lays "WireSchemas$SchemaReader" "WireSchemas$SchemaReader" "begin" "I") ∈ lw_all := lw_g (lw_at lw_m1 225 rfl) rfl
theorem q356 : (Jvm.Cond.soleField "WireSchemas$SchemaReader" "begin") ∈ lw_all := lw_g (lw_at lw_m1 226 rfl) rfl
theorem q357 : (Jvm.Cond.lays "WireSchemas$SchemaReader" "WireSchemas$SchemaReader" "value" "I") ∈ lw_all := lw_g (lw_at lw_m1 227 rfl) rfl
theorem q358 : (Jvm.Cond.soleField "WireSchemas$SchemaReader" "value") ∈ lw_all := lw_g (lw_at lw_m1 228 rfl) rfl
theorem q359 : (Jvm.Cond.laysFinal "WireSchemas$SchemaReader" "WireSchemas$SchemaReader" "schema" "LWireSchemas$Schema;") ∈ lw_all := lw_g (lw_at lw_m1 229 rfl) rfl
theorem q360 : (Jvm.Cond.soleField "WireSchemas$SchemaReader" "schema") ∈ lw_all := lw_g (lw_at lw_m1 230 rfl) rfl
theorem q361 : (Jvm.Cond.superclass "WireSchemas$SchemaReader" "java/lang/Object") ∈ lw_all := lw_g (lw_at lw_m1 231 rfl) rfl
theorem q363 : (Jvm.Cond.instanceMethod ({ cls := "WireSchemas$SchemaReader", name := "read", desc := "()LWireSchemas$Schema;" } : Jvm.MethodName)) ∈ lw_all := lw_g (lw_at lw_m1 233 rfl) rfl
theorem q364 : (Jvm.Cond.selects "WireSchemas$SchemaReader" ({ cls := "WireSchemas$SchemaReader", name := "read", desc := "()LWireSchemas$Schema;" } : Jvm.MethodName) ({ cls := "WireSchemas$SchemaReader", name := "read", desc := "()LWireSchemas$Schema;" } : Jvm.MethodName)) ∈ lw_all := lw_g (lw_at lw_m1 234 rfl) rfl
theorem q365 : (Jvm.Cond.code ({ cls := "WireSchemas$SchemaReader", name := "read", desc := "()LWireSchemas$Schema;" } : Jvm.MethodName) prog_11_method_14_code (1 : Nat) (Option.some (Jvm.ClassFile.FieldType.object "WireSchemas$Schema"))) ∈ lw_all := lw_g (lw_at lw_m1 235 rfl) rfl
theorem q366 : (Jvm.Cond.methodLink "WireSchemas$SchemaReader" (73 : Nat) ({ cls := "WireSchemas$SchemaReader", name := "next", desc := "()V" } : Jvm.MethodName)) ∈ lw_all := lw_g (lw_at lw_m1 236 rfl) rfl
theorem q367 : (Jvm.Cond.privateMethod ({ cls := "WireSchemas$SchemaReader", name := "next", desc := "()V" } : Jvm.MethodName)) ∈ lw_tbl := lw_at lw_m1 237 rfl
theorem q368 : (Jvm.Cond.instanceMethod ({ cls := "WireSchemas$SchemaReader", name := "next", desc := "()V" } : Jvm.MethodName)) ∈ lw_all := lw_g (lw_at lw_m1 238 rfl) rfl
theorem q369 : (Jvm.Cond.code ({ cls := "WireSchemas$SchemaReader", name := "next", desc := "()V" } : Jvm.MethodName) prog_11_method_7_code (2 : Nat) (Option.none : Option Jvm.ClassFile.FieldType)) ∈ lw_all := lw_g (lw_at lw_m1 239 rfl) rfl
theorem q370 : (Jvm.Cond.methodLink "WireSchemas$SchemaReader" (35 : Nat) ({ cls := "WireSchemas$SchemaReader", name := "look", desc := "(I)I" } : Jvm.MethodName)) ∈ lw_all := lw_g (lw_at lw_m2 0 rfl) rfl
theorem q371 : (Jvm.Cond.privateMethod ({ cls := "WireSchemas$SchemaReader", name := "look", desc := "(I)I" } : Jvm.MethodName)) ∈ lw_tbl := lw_at lw_m2 1 rfl
theorem q372 : (Jvm.Cond.instanceMethod ({ cls := "WireSchemas$SchemaReader", name := "look", desc := "(I)I" } : Jvm.MethodName)) ∈ lw_all := lw_g (lw_at lw_m2 2 rfl) rfl
theorem q373 : (Jvm.Cond.code ({ cls := "WireSchemas$SchemaReader", name := "look", desc := "(I)I" } : Jvm.MethodName) prog_11_method_4_code (2 : Nat) (Option.some Jvm.ClassFile.FieldType.int)) ∈ lw_all := lw_g (lw_at lw_m2 3 rfl) rfl
theorem q374 : (Jvm.Cond.methodLink "WireSchemas$SchemaReader" (45 : Nat) ({ cls := "WireSchemas$SchemaReader", name := "isLetter", desc := "(I)Z" } : Jvm.MethodName)) ∈ lw_all := lw_g (lw_at lw_m2 4 rfl) rfl
theorem q375 : (Jvm.Cond.static ({ cls := "WireSchemas$SchemaReader", name := "isLetter", desc := "(I)Z" } : Jvm.MethodName)) ∈ lw_all := lw_g (lw_at lw_m2 5 rfl) rfl
theorem q376 : (Jvm.Cond.code ({ cls := "WireSchemas$SchemaReader", name := "isLetter", desc := "(I)Z" } : Jvm.MethodName) prog_11_method_5_code (1 : Nat) (Option.some Jvm.ClassFile.FieldType.boolean)) ∈ lw_all := lw_g (lw_at lw_m2 6 rfl) rfl
theorem q377 : (Jvm.Cond.methodLink "WireSchemas$SchemaReader" (49 : Nat) ({ cls := "WireSchemas$SchemaReader", name := "isDigit", desc := "(I)Z" } : Jvm.MethodName)) ∈ lw_all := lw_g (lw_at lw_m2 7 rfl) rfl
theorem q378 : (Jvm.Cond.static ({ cls := "WireSchemas$SchemaReader", name := "isDigit", desc := "(I)Z" } : Jvm.MethodName)) ∈ lw_all := lw_g (lw_at lw_m2 8 rfl) rfl
theorem q379 : (Jvm.Cond.code ({ cls := "WireSchemas$SchemaReader", name := "isDigit", desc := "(I)Z" } : Jvm.MethodName) prog_11_method_6_code (1 : Nat) (Option.some Jvm.ClassFile.FieldType.boolean)) ∈ lw_all := lw_g (lw_at lw_m2 9 rfl) rfl
theorem q380 : (Jvm.Cond.stringRef "WireSchemas$SchemaReader" (86 : Nat) "syntax") ∈ lw_tbl := lw_at lw_m2 10 rfl
theorem q381 : (Jvm.Cond.methodLink "WireSchemas$SchemaReader" (88 : Nat) ({ cls := "WireSchemas$SchemaReader", name := "word", desc := "(Ljava/lang/String;)V" } : Jvm.MethodName)) ∈ lw_all := lw_g (lw_at lw_m2 11 rfl) rfl
theorem q382 : (Jvm.Cond.privateMethod ({ cls := "WireSchemas$SchemaReader", name := "word", desc := "(Ljava/lang/String;)V" } : Jvm.MethodName)) ∈ lw_tbl := lw_at lw_m2 12 rfl
theorem q383 : (Jvm.Cond.instanceMethod ({ cls := "WireSchemas$SchemaReader", name := "word", desc := "(Ljava/lang/String;)V" } : Jvm.MethodName)) ∈ lw_all := lw_g (lw_at lw_m2 13 rfl) rfl
theorem q384 : (Jvm.Cond.code ({ cls := "WireSchemas$SchemaReader", name := "word", desc := "(Ljava/lang/String;)V" } : Jvm.MethodName) prog_11_method_10_code (2 : Nat) (Option.none : Option Jvm.ClassFile.FieldType)) ∈ lw_all := lw_g (lw_at lw_m2 14 rfl) rfl
theorem q385 : (Jvm.Cond.methodLink "WireSchemas$SchemaReader" (65 : Nat) ({ cls := "WireSchemas$SchemaReader", name := "isWord", desc := "(Ljava/lang/String;)Z" } : Jvm.MethodName)) ∈ lw_all := lw_g (lw_at lw_m2 15 rfl) rfl
theorem q386 : (Jvm.Cond.privateMethod ({ cls := "WireSchemas$SchemaReader", name := "isWord", desc := "(Ljava/lang/String;)Z" } : Jvm.MethodName)) ∈ lw_tbl := lw_at lw_m2 16 rfl
theorem q387 : (Jvm.Cond.instanceMethod ({ cls := "WireSchemas$SchemaReader", name := "isWord", desc := "(Ljava/lang/String;)Z" } : Jvm.MethodName)) ∈ lw_all := lw_g (lw_at lw_m2 17 rfl) rfl
theorem q388 : (Jvm.Cond.code ({ cls := "WireSchemas$SchemaReader", name := "isWord", desc := "(Ljava/lang/String;)Z" } : Jvm.MethodName) prog_11_method_8_code (3 : Nat) (Option.some Jvm.ClassFile.FieldType.boolean)) ∈ lw_all := lw_g (lw_at lw_m2 18 rfl) rfl
theorem q389 : (Jvm.Cond.methodLink "WireSchemas$SchemaReader" (55 : Nat) ({ cls := "java/lang/String", name := "length", desc := "()I" } : Jvm.MethodName)) ∈ lw_all := lw_g (lw_at lw_m2 19 rfl) rfl
theorem q399 : (Jvm.Cond.methodLink "WireSchemas$SchemaReader" (61 : Nat) ({ cls := "java/lang/String", name := "charAt", desc := "(I)C" } : Jvm.MethodName)) ∈ lw_all := lw_g (lw_at lw_m2 29 rfl) rfl
theorem q437 : (Jvm.Cond.methodLink "WireSchemas$SchemaReader" (69 : Nat) ({ cls := "WireSchemas$SchemaReader", name := "must", desc := "(Z)V" } : Jvm.MethodName)) ∈ lw_all := lw_g (lw_at lw_m2 67 rfl) rfl
theorem q438 : (Jvm.Cond.privateMethod ({ cls := "WireSchemas$SchemaReader", name := "must", desc := "(Z)V" } : Jvm.MethodName)) ∈ lw_tbl := lw_at lw_m2 68 rfl
theorem q439 : (Jvm.Cond.instanceMethod ({ cls := "WireSchemas$SchemaReader", name := "must", desc := "(Z)V" } : Jvm.MethodName)) ∈ lw_all := lw_g (lw_at lw_m2 69 rfl) rfl
theorem q440 : (Jvm.Cond.code ({ cls := "WireSchemas$SchemaReader", name := "must", desc := "(Z)V" } : Jvm.MethodName) prog_11_method_3_code (2 : Nat) (Option.none : Option Jvm.ClassFile.FieldType)) ∈ lw_all := lw_g (lw_at lw_m2 70 rfl) rfl
theorem q441 : (Jvm.Cond.methodLink "WireSchemas$SchemaReader" (29 : Nat) ({ cls := "WireSchemas$SchemaReader", name := "fail", desc := "()V" } : Jvm.MethodName)) ∈ lw_all := lw_g (lw_at lw_m2 71 rfl) rfl
theorem q442 : (Jvm.Cond.static ({ cls := "WireSchemas$SchemaReader", name := "fail", desc := "()V" } : Jvm.MethodName)) ∈ lw_all := lw_g (lw_at lw_m2 72 rfl) rfl
theorem q443 : (Jvm.Cond.code ({ cls := "WireSchemas$SchemaReader", name := "fail", desc := "()V" } : Jvm.MethodName) prog_11_method_2_code (0 : Nat) (Option.none : Option Jvm.ClassFile.FieldType)) ∈ lw_all := lw_g (lw_at lw_m2 73 rfl) rfl
theorem q444 : (Jvm.Cond.classLink "WireSchemas$SchemaReader" (26 : Nat) "java/lang/IllegalArgumentException") ∈ lw_all := lw_g (lw_at lw_m2 74 rfl) rfl
theorem q483 : (Jvm.Cond.methodLink "WireSchemas$SchemaReader" (28 : Nat) ({ cls := "java/lang/IllegalArgumentException", name := "<init>", desc := "()V" } : Jvm.MethodName)) ∈ lw_all := lw_g (lw_at lw_m2 113 rfl) rfl
theorem q505 : (Jvm.Cond.methodLink "WireSchemas$SchemaReader" (92 : Nat) ({ cls := "WireSchemas$SchemaReader", name := "sign", desc := "(I)V" } : Jvm.MethodName)) ∈ lw_all := lw_g (lw_at lw_m2 135 rfl) rfl
theorem q506 : (Jvm.Cond.privateMethod ({ cls := "WireSchemas$SchemaReader", name := "sign", desc := "(I)V" } : Jvm.MethodName)) ∈ lw_tbl := lw_at lw_m2 136 rfl
theorem q507 : (Jvm.Cond.instanceMethod ({ cls := "WireSchemas$SchemaReader", name := "sign", desc := "(I)V" } : Jvm.MethodName)) ∈ lw_all := lw_g (lw_at lw_m2 137 rfl) rfl
theorem q508 : (Jvm.Cond.code ({ cls := "WireSchemas$SchemaReader", name := "sign", desc := "(I)V" } : Jvm.MethodName) prog_11_method_11_code (2 : Nat) (Option.none : Option Jvm.ClassFile.FieldType)) ∈ lw_all := lw_g (lw_at lw_m2 138 rfl) rfl
theorem q509 : (Jvm.Cond.methodLink "WireSchemas$SchemaReader" (76 : Nat) ({ cls := "WireSchemas$SchemaReader", name := "isSign", desc := "(I)Z" } : Jvm.MethodName)) ∈ lw_all := lw_g (lw_at lw_m2 139 rfl) rfl
theorem q510 : (Jvm.Cond.privateMethod ({ cls := "WireSchemas$SchemaReader", name := "isSign", desc := "(I)Z" } : Jvm.MethodName)) ∈ lw_tbl := lw_at lw_m2 140 rfl
theorem q511 : (Jvm.Cond.instanceMethod ({ cls := "WireSchemas$SchemaReader", name := "isSign", desc := "(I)Z" } : Jvm.MethodName)) ∈ lw_all := lw_g (lw_at lw_m2 141 rfl) rfl
theorem q512 : (Jvm.Cond.code ({ cls := "WireSchemas$SchemaReader", name := "isSign", desc := "(I)Z" } : Jvm.MethodName) prog_11_method_9_code (2 : Nat) (Option.some Jvm.ClassFile.FieldType.boolean)) ∈ lw_all := lw_g (lw_at lw_m2 142 rfl) rfl
theorem q513 : (Jvm.Cond.stringRef "WireSchemas$SchemaReader" (96 : Nat) "proto3") ∈ lw_tbl := lw_at lw_m2 143 rfl
theorem q514 : (Jvm.Cond.stringRef "WireSchemas$SchemaReader" (98 : Nat) "message") ∈ lw_tbl := lw_at lw_m2 144 rfl
theorem q515 : (Jvm.Cond.methodLink "WireSchemas$SchemaReader" (104 : Nat) ({ cls := "WireSchemas$SchemaReader", name := "message", desc := "(LWireSchemas$SchemaReader;LWireSchemas$Scope;I)V" } : Jvm.MethodName)) ∈ lw_all := lw_g (lw_at lw_m2 145 rfl) rfl
theorem q516 : (Jvm.Cond.static ({ cls := "WireSchemas$SchemaReader", name := "message", desc := "(LWireSchemas$SchemaReader;LWireSchemas$Scope;I)V" } : Jvm.MethodName)) ∈ lw_all := lw_g (lw_at lw_m2 146 rfl) rfl
theorem q517 : (Jvm.Cond.code ({ cls := "WireSchemas$SchemaReader", name := "message", desc := "(LWireSchemas$SchemaReader;LWireSchemas$Scope;I)V" } : Jvm.MethodName) prog_11_method_16_code (4 : Nat) (Option.none : Option Jvm.ClassFile.FieldType)) ∈ lw_all := lw_g (lw_at lw_m2 147 rfl) rfl
theorem q518 : (Jvm.Cond.methodLink "WireSchemas$SchemaReader" (117 : Nat) ({ cls := "java/util/ArrayList", name := "size", desc := "()I" } : Jvm.MethodName)) ∈ lw_all := lw_g (lw_at lw_m2 148 rfl) rfl
theorem q522 : (Jvm.Cond.classLink "WireSchemas$SchemaReader" (156 : Nat) "WireSchemas$MessageType") ∈ lw_all := lw_g (lw_at lw_m2 152 rfl) rfl
theorem q524 : (Jvm.Cond.methodLink "WireSchemas$SchemaReader" (123 : Nat) ({ cls := "WireSchemas$SchemaReader", name := "name", desc := "()LWireSchemas$Row;" } : Jvm.MethodName)) ∈ lw_all := lw_g (lw_at lw_m2 154 rfl) rfl
theorem q525 : (Jvm.Cond.privateMethod ({ cls := "WireSchemas$SchemaReader", name := "name", desc := "()LWireSchemas$Row;" } : Jvm.MethodName)) ∈ lw_tbl := lw_at lw_m2 155 rfl
theorem q526 : (Jvm.Cond.instanceMethod ({ cls := "WireSchemas$SchemaReader", name := "name", desc := "()LWireSchemas$Row;" } : Jvm.MethodName)) ∈ lw_all := lw_g (lw_at lw_m2 156 rfl) rfl
theorem q527 : (Jvm.Cond.code ({ cls := "WireSchemas$SchemaReader", name := "name", desc := "()LWireSchemas$Row;" } : Jvm.MethodName) prog_11_method_12_code (2 : Nat) (Option.some (Jvm.ClassFile.FieldType.object "WireSchemas$Row"))) ∈ lw_all := lw_g (lw_at lw_m2 157 rfl) rfl
theorem q528 : (Jvm.Cond.classLink "WireSchemas$SchemaReader" (79 : Nat) "WireSchemas$Row") ∈ lw_all := lw_g (lw_at lw_m2 158 rfl) rfl
theorem q529 : (Jvm.Cond.methodLinkNest "WireSchemas$SchemaReader" (81 : Nat) ({ cls := "WireSchemas$Row", name := "<init>", desc := "()V" } : Jvm.MethodName) "WireSchemas") ∈ lw_tbl := lw_at lw_m2 159 rfl
theorem q530 : (Jvm.Cond.methodLink "WireSchemas$SchemaReader" (82 : Nat) ({ cls := "WireSchemas$Row", name := "addAll", desc := "([BII)V" } : Jvm.MethodName)) ∈ lw_all := lw_g (lw_at lw_m2 160 rfl) rfl
theorem q542 : (Jvm.Cond.methodLink "WireSchemas$SchemaReader" (158 : Nat) ({ cls := "WireSchemas$MessageType", name := "<init>", desc := "(ILWireSchemas$Row;LWireSchemas$Scope;)V" } : Jvm.MethodName)) ∈ lw_all := lw_g (lw_at lw_m2 172 rfl) rfl
theorem q556 : (Jvm.Cond.fieldLinkNest "WireSchemas$SchemaReader" (162 : Nat) "WireSchemas$MessageType" "name" "LWireSchemas$Row;" "WireSchemas") ∈ lw_tbl := lw_at lw_m2 186 rfl
theorem q559 : (Jvm.Cond.fieldLinkNest "WireSchemas$SchemaReader" (163 : Nat) "WireSchemas$MessageType" "scope" "LWireSchemas$Scope;" "WireSchemas") ∈ lw_tbl := lw_at lw_m2 189 rfl
theorem q562 : (Jvm.Cond.fieldLinkNest "WireSchemas$SchemaReader" (222 : Nat) "WireSchemas$MessageType" "fields" "Ljava/util/ArrayList;" "WireSchemas") ∈ lw_tbl := lw_at lw_m2 192 rfl
theorem q565 : (Jvm.Cond.fieldLinkNest "WireSchemas$SchemaReader" (180 : Nat) "WireSchemas$MessageType" "oneofs" "Ljava/util/ArrayList;" "WireSchemas") ∈ lw_tbl := lw_at lw_m2 195 rfl
theorem q568 : (Jvm.Cond.fieldLinkNest "WireSchemas$SchemaReader" (192 : Nat) "WireSchemas$MessageType" "reserved" "[I" "WireSchemas") ∈ lw_tbl := lw_at lw_m2 198 rfl
theorem q570 : (Jvm.Cond.fieldLinkNest "WireSchemas$SchemaReader" (194 : Nat) "WireSchemas$MessageType" "reservedCount" "I" "WireSchemas") ∈ lw_tbl := lw_at lw_m2 200 rfl
theorem q592 : (Jvm.Cond.methodLink "WireSchemas$SchemaReader" (130 : Nat) ({ cls := "java/util/ArrayList", name := "add", desc := "(Ljava/lang/Object;)Z" } : Jvm.MethodName)) ∈ lw_all := lw_g (lw_at lw_m2 222 rfl) rfl
theorem q630 : (Jvm.Cond.selects "WireSchemas$SchemaReader" ({ cls := "java/lang/Object", name := "getClass", desc := "()Ljava/lang/Class;" } : Jvm.MethodName) ({ cls := "java/lang/Object", name := "getClass", desc := "()Ljava/lang/Class;" } : Jvm.MethodName)) ∈ lw_all := lw_g (lw_at lw_m3 20 rfl) rfl
theorem q652 : (Jvm.Cond.stringRef "WireSchemas$SchemaReader" (107 : Nat) "enum") ∈ lw_tbl := lw_at lw_m3 42 rfl
theorem q653 : (Jvm.Cond.methodLink "WireSchemas$SchemaReader" (109 : Nat) ({ cls := "WireSchemas$SchemaReader", name := "enumeration", desc := "(LWireSchemas$Scope;)V" } : Jvm.MethodName)) ∈ lw_all := lw_g (lw_at lw_m3 43 rfl) rfl
theorem q654 : (Jvm.Cond.privateMethod ({ cls := "WireSchemas$SchemaReader", name := "enumeration", desc := "(LWireSchemas$Scope;)V" } : Jvm.MethodName)) ∈ lw_tbl := lw_at lw_m3 44 rfl
theorem q655 : (Jvm.Cond.instanceMethod ({ cls := "WireSchemas$SchemaReader", name := "enumeration", desc := "(LWireSchemas$Scope;)V" } : Jvm.MethodName)) ∈ lw_all := lw_g (lw_at lw_m3 45 rfl) rfl
theorem q656 : (Jvm.Cond.code ({ cls := "WireSchemas$SchemaReader", name := "enumeration", desc := "(LWireSchemas$Scope;)V" } : Jvm.MethodName) prog_11_method_15_code (4 : Nat) (Option.none : Option Jvm.ClassFile.FieldType)) ∈ lw_all := lw_g (lw_at lw_m3 46 rfl) rfl
theorem q657 : (Jvm.Cond.classLink "WireSchemas$SchemaReader" (121 : Nat) "WireSchemas$EnumType") ∈ lw_all := lw_g (lw_at lw_m3 47 rfl) rfl
theorem q659 : (Jvm.Cond.methodLink "WireSchemas$SchemaReader" (127 : Nat) ({ cls := "WireSchemas$EnumType", name := "<init>", desc := "(ILWireSchemas$Row;)V" } : Jvm.MethodName)) ∈ lw_all := lw_g (lw_at lw_m3 49 rfl) rfl
theorem q669 : (Jvm.Cond.fieldLinkNest "WireSchemas$SchemaReader" (140 : Nat) "WireSchemas$EnumType" "name" "LWireSchemas$Row;" "WireSchemas") ∈ lw_tbl := lw_at lw_m3 59 rfl
theorem q671 : (Jvm.Cond.fieldLinkNest "WireSchemas$SchemaReader" (149 : Nat) "WireSchemas$EnumType" "names" "Ljava/util/ArrayList;" "WireSchemas") ∈ lw_tbl := lw_at lw_m3 61 rfl
theorem q674 : (Jvm.Cond.fieldLinkNest "WireSchemas$SchemaReader" (146 : Nat) "WireSchemas$EnumType" "values" "[I" "WireSchemas") ∈ lw_tbl := lw_at lw_m3 64 rfl
theorem q684 : (Jvm.Cond.methodLink "WireSchemas$SchemaReader" (150 : Nat) ({ cls := "WireSchemas$SchemaReader", name := "number", desc := "()I" } : Jvm.MethodName)) ∈ lw_all := lw_g (lw_at lw_m3 74 rfl) rfl
theorem q685 : (Jvm.Cond.privateMethod ({ cls := "WireSchemas$SchemaReader", name := "number", desc := "()I" } : Jvm.MethodName)) ∈ lw_tbl := lw_at lw_m3 75 rfl
theorem q686 : (Jvm.Cond.instanceMethod ({ cls := "WireSchemas$SchemaReader", name := "number", desc := "()I" } : Jvm.MethodName)) ∈ lw_all := lw_g (lw_at lw_m3 76 rfl) rfl
theorem q687 : (Jvm.Cond.code ({ cls := "WireSchemas$SchemaReader", name := "number", desc := "()I" } : Jvm.MethodName) prog_11_method_13_code (2 : Nat) (Option.some Jvm.ClassFile.FieldType.int)) ∈ lw_all := lw_g (lw_at lw_m3 77 rfl) rfl
theorem q688 : (Jvm.Cond.stringRef "WireSchemas$SchemaReader" (164 : Nat) "oneof") ∈ lw_tbl := lw_at lw_m3 78 rfl
theorem q689 : (Jvm.Cond.methodLink "WireSchemas$SchemaReader" (166 : Nat) ({ cls := "WireSchemas$SchemaReader", name := "oneof", desc := "(LWireSchemas$MessageType;)V" } : Jvm.MethodName)) ∈ lw_all := lw_g (lw_at lw_m3 79 rfl) rfl
theorem q690 : (Jvm.Cond.privateMethod ({ cls := "WireSchemas$SchemaReader", name := "oneof", desc := "(LWireSchemas$MessageType;)V" } : Jvm.MethodName)) ∈ lw_tbl := lw_at lw_m3 80 rfl
theorem q691 : (Jvm.Cond.instanceMethod ({ cls := "WireSchemas$SchemaReader", name := "oneof", desc := "(LWireSchemas$MessageType;)V" } : Jvm.MethodName)) ∈ lw_all := lw_g (lw_at lw_m3 81 rfl) rfl
theorem q692 : (Jvm.Cond.code ({ cls := "WireSchemas$SchemaReader", name := "oneof", desc := "(LWireSchemas$MessageType;)V" } : Jvm.MethodName) prog_11_method_17_code (3 : Nat) (Option.none : Option Jvm.ClassFile.FieldType)) ∈ lw_all := lw_g (lw_at lw_m3 82 rfl) rfl
theorem q693 : (Jvm.Cond.methodLink "WireSchemas$SchemaReader" (182 : Nat) ({ cls := "WireSchemas$SchemaReader", name := "plain", desc := "(LWireSchemas$MessageType;)LWireSchemas$Field;" } : Jvm.MethodName)) ∈ lw_all := lw_g (lw_at lw_m3 83 rfl) rfl
theorem q694 : (Jvm.Cond.privateMethod ({ cls := "WireSchemas$SchemaReader", name := "plain", desc := "(LWireSchemas$MessageType;)LWireSchemas$Field;" } : Jvm.MethodName)) ∈ lw_tbl := lw_at lw_m3 84 rfl
theorem q695 : (Jvm.Cond.instanceMethod ({ cls := "WireSchemas$SchemaReader", name := "plain", desc := "(LWireSchemas$MessageType;)LWireSchemas$Field;" } : Jvm.MethodName)) ∈ lw_all := lw_g (lw_at lw_m3 85 rfl) rfl
theorem q696 : (Jvm.Cond.code ({ cls := "WireSchemas$SchemaReader", name := "plain", desc := "(LWireSchemas$MessageType;)LWireSchemas$Field;" } : Jvm.MethodName) prog_11_method_20_code (5 : Nat) (Option.some (Jvm.ClassFile.FieldType.object "WireSchemas$Field"))) ∈ lw_all := lw_g (lw_at lw_m3 86 rfl) rfl
theorem q697 : (Jvm.Cond.classLink "WireSchemas$SchemaReader" (118 : Nat) "java/util/ArrayList") ∈ lw_all := lw_g (lw_at lw_m3 87 rfl) rfl
theorem q698 : (Jvm.Cond.methodLink "WireSchemas$SchemaReader" (209 : Nat) ({ cls := "java/util/ArrayList", name := "<init>", desc := "()V" } : Jvm.MethodName)) ∈ lw_all := lw_g (lw_at lw_m3 88 rfl) rfl
theorem q699 : (Jvm.Cond.classLink "WireSchemas$SchemaReader" (187 : Nat) "WireSchemas$Field") ∈ lw_all := lw_g (lw_at lw_m3 89 rfl) rfl
theorem q701 : (Jvm.Cond.methodLink "WireSchemas$SchemaReader" (210 : Nat) ({ cls := "WireSchemas$Field", name := "<init>", desc := "(LWireSchemas$MessageType;LWireSchemas$Row;)V" } : Jvm.MethodName)) ∈ lw_all := lw_g (lw_at lw_m3 91 rfl) rfl
theorem q729 : (Jvm.Cond.fieldLinkNest "WireSchemas$SchemaReader" (220 : Nat) "WireSchemas$Field" "number" "I" "WireSchemas") ∈ lw_tbl := lw_at lw_m3 119 rfl
theorem q740 : (Jvm.Cond.fieldLinkNest "WireSchemas$SchemaReader" (186 : Nat) "WireSchemas$Field" "oneof" "I" "WireSchemas") ∈ lw_tbl := lw_at lw_m3 130 rfl
theorem q749 : (Jvm.Cond.fieldLinkNest "WireSchemas$SchemaReader" (201 : Nat) "WireSchemas$Field" "repeated" "Z" "WireSchemas") ∈ lw_tbl := lw_at lw_m3 139 rfl
theorem q752 : (Jvm.Cond.fieldLinkNest "WireSchemas$SchemaReader" (204 : Nat) "WireSchemas$Field" "optional" "Z" "WireSchemas") ∈ lw_tbl := lw_at lw_m3 142 rfl
theorem q764 : (Jvm.Cond.fieldLinkNest "WireSchemas$SchemaReader" (213 : Nat) "WireSchemas$Field" "path" "Ljava/util/ArrayList;" "WireSchemas") ∈ lw_tbl := lw_at lw_m3 154 rfl
theorem q790 : (Jvm.Cond.methodLink "WireSchemas$SchemaReader" (216 : Nat) ({ cls := "java/util/ArrayList", name := "get", desc := "(I)Ljava/lang/Object;" } : Jvm.MethodName)) ∈ lw_all := lw_g (lw_at lw_m3 180 rfl) rfl
theorem q802 : (Jvm.Cond.stringRef "WireSchemas$SchemaReader" (169 : Nat) "reserved") ∈ lw_tbl := lw_at lw_m3 192 rfl
theorem q803 : (Jvm.Cond.methodLink "WireSchemas$SchemaReader" (171 : Nat) ({ cls := "WireSchemas$SchemaReader", name := "reserve", desc := "(LWireSchemas$MessageType;)V" } : Jvm.MethodName)) ∈ lw_all := lw_g (lw_at lw_m3 193 rfl) rfl
theorem q804 : (Jvm.Cond.privateMethod ({ cls := "WireSchemas$SchemaReader", name := "reserve", desc := "(LWireSchemas$MessageType;)V" } : Jvm.MethodName)) ∈ lw_tbl := lw_at lw_m3 194 rfl
theorem q805 : (Jvm.Cond.instanceMethod ({ cls := "WireSchemas$SchemaReader", name := "reserve", desc := "(LWireSchemas$MessageType;)V" } : Jvm.MethodName)) ∈ lw_all := lw_g (lw_at lw_m3 195 rfl) rfl
theorem q806 : (Jvm.Cond.code ({ cls := "WireSchemas$SchemaReader", name := "reserve", desc := "(LWireSchemas$MessageType;)V" } : Jvm.MethodName) prog_11_method_18_code (2 : Nat) (Option.none : Option Jvm.ClassFile.FieldType)) ∈ lw_all := lw_g (lw_at lw_m3 196 rfl) rfl
theorem q807 : (Jvm.Cond.methodLink "WireSchemas$SchemaReader" (174 : Nat) ({ cls := "WireSchemas$SchemaReader", name := "field", desc := "(LWireSchemas$MessageType;)V" } : Jvm.MethodName)) ∈ lw_all := lw_g (lw_at lw_m3 197 rfl) rfl
theorem q808 : (Jvm.Cond.privateMethod ({ cls := "WireSchemas$SchemaReader", name := "field", desc := "(LWireSchemas$MessageType;)V" } : Jvm.MethodName)) ∈ lw_tbl := lw_at lw_m3 198 rfl
theorem q809 : (Jvm.Cond.instanceMethod ({ cls := "WireSchemas$SchemaReader", name := "field", desc := "(LWireSchemas$MessageType;)V" } : Jvm.MethodName)) ∈ lw_all := lw_g (lw_at lw_m3 199 rfl) rfl
theorem q810 : (Jvm.Cond.code ({ cls := "WireSchemas$SchemaReader", name := "field", desc := "(LWireSchemas$MessageType;)V" } : Jvm.MethodName) prog_11_method_19_code (5 : Nat) (Option.none : Option Jvm.ClassFile.FieldType)) ∈ lw_all := lw_g (lw_at lw_m3 200 rfl) rfl
theorem q811 : (Jvm.Cond.stringRef "WireSchemas$SchemaReader" (197 : Nat) "repeated") ∈ lw_tbl := lw_at lw_m3 201 rfl
theorem q812 : (Jvm.Cond.stringRef "WireSchemas$SchemaReader" (199 : Nat) "optional") ∈ lw_tbl := lw_at lw_m3 202 rfl
theorem q2039 : (Jvm.Cond.castable "WireSchemas$SchemaReader" "java/lang/Object") ∈ lw_tbl := lw_at lw_m8 229 rfl
theorem in_X5 : ∀ w ∈ wsX50, w ∈ lw_all := lw_in wsX50 [347, 349, 351, 353, 355, 357, 359] (by decide +kernel) (by decide +kernel)
/-! WireSchemas$MessageType -/
def RX6 : String := "WireSchemas$MessageType"
def TX6 : u_T := fun k => match k with
  | 0 => ("WireSchemas$MessageType", "number", "I", true)
  | 1 => ("WireSchemas$MessageType", "name", "LWireSchemas$Row;", true)
  | 2 => ("WireSchemas$MessageType", "scope", "LWireSchemas$Scope;", true)
  | 3 => ("WireSchemas$MessageType", "fields", "Ljava/util/ArrayList;", true)
  | 4 => ("WireSchemas$MessageType", "oneofs", "Ljava/util/ArrayList;", true)
  | 5 => ("WireSchemas$MessageType", "reserved", "[I", true)
  | 6 => ("WireSchemas$MessageType", "reservedCount", "I", false)
  | _ => ("WireSchemas$MessageType", "ordered", "[LWireSchemas$Field;", false)
def tyX6 : Nat → FieldType := fun k => match k with
  | 0 => .int
  | 1 => .object "WireSchemas$Row"
  | 2 => .object "WireSchemas$Scope"
  | 3 => .object "java/util/ArrayList"
  | 4 => .object "java/util/ArrayList"
  | 5 => .array .int
  | 6 => .int
  | _ => .array (.object "WireSchemas$Field")
abbrev wsX60 : List Cond := u_ws RX6 TX6 8
theorem nmX6 : ∀ a, a < 8 → ∀ b, b < 8 → a ≠ b → (TX6 a).2.1 ≠ (TX6 b).2.1 := by decide +kernel
theorem tyX6_ok : ∀ k, k < 8 → parseFieldDescriptor (TX6 k).2.2.1 = some (tyX6 k) := by decide +kernel
abbrev cX6_init : ByteArray := prog_8_method_1_code
def yX6_init : MethodName := ⟨RX6, "<init>", "(ILWireSchemas$Row;LWireSchemas$Scope;)V"⟩
abbrev cX6_order : ByteArray := prog_8_method_4_code
def yX6_order : MethodName := ⟨RX6, "order", "()V"⟩
abbrev cX6_byNumber : ByteArray := prog_8_method_2_code
def yX6_byNumber : MethodName := ⟨RX6, "byNumber", "(J)LWireSchemas$Field;"⟩
abbrev cX6_byName : ByteArray := prog_8_method_3_code
def yX6_byName : MethodName := ⟨RX6, "byName", "(LWireSchemas$Row;)LWireSchemas$Field;"⟩
theorem q149 : (Jvm.Cond.initialized "WireSchemas$MessageType") ∈ lw_all := lw_g (lw_at lw_m1 19 rfl) rfl
theorem q523 : (Jvm.Cond.instantiable "WireSchemas$MessageType" (8 : Nat)) ∈ lw_all := lw_g (lw_at lw_m2 153 rfl) rfl
theorem q543 : (Jvm.Cond.instanceMethod ({ cls := "WireSchemas$MessageType", name := "<init>", desc := "(ILWireSchemas$Row;LWireSchemas$Scope;)V" } : Jvm.MethodName)) ∈ lw_all := lw_g (lw_at lw_m2 173 rfl) rfl
theorem q544 : (Jvm.Cond.code ({ cls := "WireSchemas$MessageType", name := "<init>", desc := "(ILWireSchemas$Row;LWireSchemas$Scope;)V" } : Jvm.MethodName) prog_8_method_1_code (4 : Nat) (Option.none : Option Jvm.ClassFile.FieldType)) ∈ lw_all := lw_g (lw_at lw_m2 174 rfl) rfl
theorem q545 : (Jvm.Cond.methodLink "WireSchemas$MessageType" (3 : Nat) ({ cls := "java/lang/Object", name := "<init>", desc := "()V" } : Jvm.MethodName)) ∈ lw_all := lw_g (lw_at lw_m2 175 rfl) rfl
theorem q546 : (Jvm.Cond.classLink "WireSchemas$MessageType" (9 : Nat) "java/util/ArrayList") ∈ lw_all := lw_g (lw_at lw_m2 176 rfl) rfl
theorem q547 : (Jvm.Cond.methodLink "WireSchemas$MessageType" (11 : Nat) ({ cls := "java/util/ArrayList", name := "<init>", desc := "()V" } : Jvm.MethodName)) ∈ lw_all := lw_g (lw_at lw_m2 177 rfl) rfl
theorem q548 : (Jvm.Cond.classLink "WireSchemas$MessageType" (25 : Nat) "WireSchemas$Field") ∈ lw_all := lw_g (lw_at lw_m2 178 rfl) rfl
theorem q550 : (Jvm.Cond.classLink "WireSchemas$MessageType" (39 : Nat) "WireSchemas$Scope") ∈ lw_all := lw_g (lw_at lw_m2 180 rfl) rfl
theorem q551 : (Jvm.Cond.methodLink "WireSchemas$MessageType" (41 : Nat) ({ cls := "WireSchemas$Scope", name := "<init>", desc := "(LWireSchemas$Scope;)V" } : Jvm.MethodName)) ∈ lw_all := lw_g (lw_at lw_m2 181 rfl) rfl
theorem q552 : (Jvm.Cond.fieldLink "WireSchemas$MessageType" (31 : Nat) "WireSchemas$MessageType" "number" "I") ∈ lw_all := lw_g (lw_at lw_m2 182 rfl) rfl
theorem q554 : (Jvm.Cond.fieldLink "WireSchemas$MessageType" (35 : Nat) "WireSchemas$MessageType" "name" "LWireSchemas$Row;") ∈ lw_all := lw_g (lw_at lw_m2 184 rfl) rfl
theorem q557 : (Jvm.Cond.fieldLink "WireSchemas$MessageType" (44 : Nat) "WireSchemas$MessageType" "scope" "LWireSchemas$Scope;") ∈ lw_all := lw_g (lw_at lw_m2 187 rfl) rfl
theorem q560 : (Jvm.Cond.fieldLink "WireSchemas$MessageType" (12 : Nat) "WireSchemas$MessageType" "fields" "Ljava/util/ArrayList;") ∈ lw_all := lw_g (lw_at lw_m2 190 rfl) rfl
theorem q563 : (Jvm.Cond.fieldLink "WireSchemas$MessageType" (18 : Nat) "WireSchemas$MessageType" "oneofs" "Ljava/util/ArrayList;") ∈ lw_all := lw_g (lw_at lw_m2 193 rfl) rfl
theorem q566 : (Jvm.Cond.fieldLink "WireSchemas$MessageType" (21 : Nat) "WireSchemas$MessageType" "reserved" "[I") ∈ lw_all := lw_g (lw_at lw_m2 196 rfl) rfl
theorem q571 : (Jvm.Cond.fieldLink "WireSchemas$MessageType" (27 : Nat) "WireSchemas$MessageType" "ordered" "[LWireSchemas$Field;") ∈ lw_all := lw_g (lw_at lw_m2 201 rfl) rfl
theorem q574 : (Jvm.Cond.laysFinal "WireSchemas$MessageType" "WireSchemas$MessageType" "number" "I") ∈ lw_all := lw_g (lw_at lw_m2 204 rfl) rfl
theorem q575 : (Jvm.Cond.soleField "WireSchemas$MessageType" "number") ∈ lw_all := lw_g (lw_at lw_m2 205 rfl) rfl
theorem q576 : (Jvm.Cond.laysFinal "WireSchemas$MessageType" "WireSchemas$MessageType" "name" "LWireSchemas$Row;") ∈ lw_all := lw_g (lw_at lw_m2 206 rfl) rfl
theorem q577 : (Jvm.Cond.soleField "WireSchemas$MessageType" "name") ∈ lw_all := lw_g (lw_at lw_m2 207 rfl) rfl
theorem q578 : (Jvm.Cond.laysFinal "WireSchemas$MessageType" "WireSchemas$MessageType" "scope" "LWireSchemas$Scope;") ∈ lw_all := lw_g (lw_at lw_m2 208 rfl) rfl
theorem q579 : (Jvm.Cond.soleField "WireSchemas$MessageType" "scope") ∈ lw_all := lw_g (lw_at lw_m2 209 rfl) rfl
theorem q580 : (Jvm.Cond.laysFinal "WireSchemas$MessageType" "WireSchemas$MessageType" "fields" "Ljava/util/ArrayList;") ∈ lw_all := lw_g (lw_at lw_m2 210 rfl) rfl
theorem q581 : (Jvm.Cond.soleField "WireSchemas$MessageType" "fields") ∈ lw_all := lw_g (lw_at lw_m2 211 rfl) rfl
theorem q582 : (Jvm.Cond.laysFinal "WireSchemas$MessageType" "WireSchemas$MessageType" "oneofs" "Ljava/util/ArrayList;") ∈ lw_all := lw_g (lw_at lw_m2 212 rfl) rfl
theorem q583 : (Jvm.Cond.soleField "WireSchemas$MessageType" "oneofs") ∈ lw_all := lw_g (lw_at lw_m2 213 rfl) rfl
theorem q584 : (Jvm.Cond.laysFinal "WireSchemas$MessageType" "WireSchemas$MessageType" "reserved" "[I") ∈ lw_all := lw_g (lw_at lw_m2 214 rfl) rfl
theorem q585 : (Jvm.Cond.soleField "WireSchemas$MessageType" "reserved") ∈ lw_all := lw_g (lw_at lw_m2 215 rfl) rfl
theorem q586 : (Jvm.Cond.lays "WireSchemas$MessageType" "WireSchemas$MessageType" "reservedCount" "I") ∈ lw_all := lw_g (lw_at lw_m2 216 rfl) rfl
theorem q587 : (Jvm.Cond.soleField "WireSchemas$MessageType" "reservedCount") ∈ lw_all := lw_g (lw_at lw_m2 217 rfl) rfl
theorem q588 : (Jvm.Cond.lays "WireSchemas$MessageType" "WireSchemas$MessageType" "ordered" "[LWireSchemas$Field;") ∈ lw_all := lw_g (lw_at lw_m2 218 rfl) rfl
theorem q589 : (Jvm.Cond.soleField "WireSchemas$MessageType" "ordered") ∈ lw_all := lw_g (lw_at lw_m2 219 rfl) rfl
theorem q590 : (Jvm.Cond.superclass "WireSchemas$MessageType" "java/lang/Object") ∈ lw_all := lw_g (lw_at lw_m2 220 rfl) rfl
theorem q627 : (Jvm.Cond.selects "WireSchemas$MessageType" ({ cls := "java/lang/Object", name := "getClass", desc := "()Ljava/lang/Class;" } : Jvm.MethodName) ({ cls := "java/lang/Object", name := "getClass", desc := "()Ljava/lang/Class;" } : Jvm.MethodName)) ∈ lw_all := lw_g (lw_at lw_m3 17 rfl) rfl
theorem q718 : (Jvm.Cond.fieldLinkNest "WireSchemas$MessageType" (58 : Nat) "WireSchemas$Field" "name" "LWireSchemas$Row;" "WireSchemas") ∈ lw_tbl := lw_at lw_m3 108 rfl
theorem q721 : (Jvm.Cond.fieldLinkNest "WireSchemas$MessageType" (49 : Nat) "WireSchemas$Field" "json" "LWireSchemas$Row;" "WireSchemas") ∈ lw_tbl := lw_at lw_m3 111 rfl
theorem q725 : (Jvm.Cond.fieldLinkNest "WireSchemas$MessageType" (48 : Nat) "WireSchemas$Field" "number" "I" "WireSchemas") ∈ lw_tbl := lw_at lw_m3 115 rfl
theorem q741 : (Jvm.Cond.fieldLinkNest "WireSchemas$MessageType" (67 : Nat) "WireSchemas$Field" "place" "I" "WireSchemas") ∈ lw_tbl := lw_at lw_m3 131 rfl
theorem q897 : (Jvm.Cond.instanceMethod ({ cls := "WireSchemas$MessageType", name := "order", desc := "()V" } : Jvm.MethodName)) ∈ lw_all := lw_g (lw_at lw_m4 47 rfl) rfl
theorem q898 : (Jvm.Cond.selects "WireSchemas$MessageType" ({ cls := "WireSchemas$MessageType", name := "order", desc := "()V" } : Jvm.MethodName) ({ cls := "WireSchemas$MessageType", name := "order", desc := "()V" } : Jvm.MethodName)) ∈ lw_all := lw_g (lw_at lw_m4 48 rfl) rfl
theorem q899 : (Jvm.Cond.code ({ cls := "WireSchemas$MessageType", name := "order", desc := "()V" } : Jvm.MethodName) prog_8_method_4_code (3 : Nat) (Option.none : Option Jvm.ClassFile.FieldType)) ∈ lw_all := lw_g (lw_at lw_m4 49 rfl) rfl
theorem q900 : (Jvm.Cond.methodLink "WireSchemas$MessageType" (59 : Nat) ({ cls := "java/util/ArrayList", name := "size", desc := "()I" } : Jvm.MethodName)) ∈ lw_all := lw_g (lw_at lw_m4 50 rfl) rfl
theorem q901 : (Jvm.Cond.methodLink "WireSchemas$MessageType" (63 : Nat) ({ cls := "java/util/ArrayList", name := "get", desc := "(I)Ljava/lang/Object;" } : Jvm.MethodName)) ∈ lw_all := lw_g (lw_at lw_m4 51 rfl) rfl
theorem q992 : (Jvm.Cond.instanceMethod ({ cls := "WireSchemas$MessageType", name := "byNumber", desc := "(J)LWireSchemas$Field;" } : Jvm.MethodName)) ∈ lw_all := lw_g (lw_at lw_m4 142 rfl) rfl
theorem q993 : (Jvm.Cond.selects "WireSchemas$MessageType" ({ cls := "WireSchemas$MessageType", name := "byNumber", desc := "(J)LWireSchemas$Field;" } : Jvm.MethodName) ({ cls := "WireSchemas$MessageType", name := "byNumber", desc := "(J)LWireSchemas$Field;" } : Jvm.MethodName)) ∈ lw_all := lw_g (lw_at lw_m4 143 rfl) rfl
theorem q994 : (Jvm.Cond.code ({ cls := "WireSchemas$MessageType", name := "byNumber", desc := "(J)LWireSchemas$Field;" } : Jvm.MethodName) prog_8_method_2_code (7 : Nat) (Option.some (Jvm.ClassFile.FieldType.object "WireSchemas$Field"))) ∈ lw_all := lw_g (lw_at lw_m4 144 rfl) rfl
theorem q1279 : (Jvm.Cond.instanceMethod ({ cls := "WireSchemas$MessageType", name := "byName", desc := "(LWireSchemas$Row;)LWireSchemas$Field;" } : Jvm.MethodName)) ∈ lw_all := lw_g (lw_at lw_m5 189 rfl) rfl
theorem q1280 : (Jvm.Cond.selects "WireSchemas$MessageType" ({ cls := "WireSchemas$MessageType", name := "byName", desc := "(LWireSchemas$Row;)LWireSchemas$Field;" } : Jvm.MethodName) ({ cls := "WireSchemas$MessageType", name := "byName", desc := "(LWireSchemas$Row;)LWireSchemas$Field;" } : Jvm.MethodName)) ∈ lw_all := lw_g (lw_at lw_m5 190 rfl) rfl
theorem q1281 : (Jvm.Cond.code ({ cls := "WireSchemas$MessageType", name := "byName", desc := "(LWireSchemas$Row;)LWireSchemas$Field;" } : Jvm.MethodName) prog_8_method_3_code (6 : Nat) (Option.some (Jvm.ClassFile.FieldType.object "WireSchemas$Field"))) ∈ lw_all := lw_g (lw_at lw_m5 191 rfl) rfl
theorem q1282 : (Jvm.Cond.methodLink "WireSchemas$MessageType" (52 : Nat) ({ cls := "WireSchemas$Row", name := "same", desc := "(LWireSchemas$Row;)Z" } : Jvm.MethodName)) ∈ lw_all := lw_g (lw_at lw_m5 192 rfl) rfl
theorem q2041 : (Jvm.Cond.castable "WireSchemas$MessageType" "java/lang/Object") ∈ lw_tbl := lw_at lw_m8 231 rfl
theorem in_X6 : ∀ w ∈ wsX60, w ∈ lw_all := lw_in wsX60 [574, 576, 578, 580, 582, 584, 586, 588] (by decide +kernel) (by decide +kernel)
/-! WireSchemas$EnumType -/
def RX7 : String := "WireSchemas$EnumType"
def TX7 : u_T := fun k => match k with
  | 0 => ("WireSchemas$EnumType", "number", "I", true)
  | 1 => ("WireSchemas$EnumType", "name", "LWireSchemas$Row;", true)
  | 2 => ("WireSchemas$EnumType", "names", "Ljava/util/ArrayList;", true)
  | _ => ("WireSchemas$EnumType", "values", "[I", true)
def tyX7 : Nat → FieldType := fun k => match k with
  | 0 => .int
  | 1 => .object "WireSchemas$Row"
  | 2 => .object "java/util/ArrayList"
  | _ => .array .int
abbrev wsX70 : List Cond := u_ws RX7 TX7 4
theorem nmX7 : ∀ a, a < 4 → ∀ b, b < 4 → a ≠ b → (TX7 a).2.1 ≠ (TX7 b).2.1 := by decide +kernel
theorem tyX7_ok : ∀ k, k < 4 → parseFieldDescriptor (TX7 k).2.2.1 = some (tyX7 k) := by decide +kernel
abbrev cX7_init : ByteArray := prog_4_method_1_code
def yX7_init : MethodName := ⟨RX7, "<init>", "(ILWireSchemas$Row;)V"⟩
abbrev cX7_isRight : ByteArray := prog_4_method_4_code
def yX7_isRight : MethodName := ⟨RX7, "isRight", "()Z"⟩
abbrev cX7_nameOf : ByteArray := prog_4_method_2_code
def yX7_nameOf : MethodName := ⟨RX7, "nameOf", "(J)LWireSchemas$Row;"⟩
abbrev cX7_valueOf : ByteArray := prog_4_method_3_code
def yX7_valueOf : MethodName := ⟨RX7, "valueOf", "(LWireSchemas$Row;)I"⟩
theorem q153 : (Jvm.Cond.initialized "WireSchemas$EnumType") ∈ lw_all := lw_g (lw_at lw_m1 23 rfl) rfl
theorem q624 : (Jvm.Cond.selects "WireSchemas$EnumType" ({ cls := "java/lang/Object", name := "getClass", desc := "()Ljava/lang/Class;" } : Jvm.MethodName) ({ cls := "java/lang/Object", name := "getClass", desc := "()Ljava/lang/Class;" } : Jvm.MethodName)) ∈ lw_all := lw_g (lw_at lw_m3 14 rfl) rfl
theorem q658 : (Jvm.Cond.instantiable "WireSchemas$EnumType" (4 : Nat)) ∈ lw_all := lw_g (lw_at lw_m3 48 rfl) rfl
theorem q660 : (Jvm.Cond.instanceMethod ({ cls := "WireSchemas$EnumType", name := "<init>", desc := "(ILWireSchemas$Row;)V" } : Jvm.MethodName)) ∈ lw_all := lw_g (lw_at lw_m3 50 rfl) rfl
theorem q661 : (Jvm.Cond.code ({ cls := "WireSchemas$EnumType", name := "<init>", desc := "(ILWireSchemas$Row;)V" } : Jvm.MethodName) prog_4_method_1_code (3 : Nat) (Option.none : Option Jvm.ClassFile.FieldType)) ∈ lw_all := lw_g (lw_at lw_m3 51 rfl) rfl
theorem q662 : (Jvm.Cond.methodLink "WireSchemas$EnumType" (3 : Nat) ({ cls := "java/lang/Object", name := "<init>", desc := "()V" } : Jvm.MethodName)) ∈ lw_all := lw_g (lw_at lw_m3 52 rfl) rfl
theorem q663 : (Jvm.Cond.classLink "WireSchemas$EnumType" (9 : Nat) "java/util/ArrayList") ∈ lw_all := lw_g (lw_at lw_m3 53 rfl) rfl
theorem q664 : (Jvm.Cond.methodLink "WireSchemas$EnumType" (11 : Nat) ({ cls := "java/util/ArrayList", name := "<init>", desc := "()V" } : Jvm.MethodName)) ∈ lw_all := lw_g (lw_at lw_m3 54 rfl) rfl
theorem q665 : (Jvm.Cond.fieldLink "WireSchemas$EnumType" (22 : Nat) "WireSchemas$EnumType" "number" "I") ∈ lw_all := lw_g (lw_at lw_m3 55 rfl) rfl
theorem q667 : (Jvm.Cond.fieldLink "WireSchemas$EnumType" (26 : Nat) "WireSchemas$EnumType" "name" "LWireSchemas$Row;") ∈ lw_all := lw_g (lw_at lw_m3 57 rfl) rfl
theorem q670 : (Jvm.Cond.fieldLink "WireSchemas$EnumType" (12 : Nat) "WireSchemas$EnumType" "names" "Ljava/util/ArrayList;") ∈ lw_all := lw_g (lw_at lw_m3 60 rfl) rfl
theorem q672 : (Jvm.Cond.fieldLink "WireSchemas$EnumType" (18 : Nat) "WireSchemas$EnumType" "values" "[I") ∈ lw_all := lw_g (lw_at lw_m3 62 rfl) rfl
theorem q675 : (Jvm.Cond.laysFinal "WireSchemas$EnumType" "WireSchemas$EnumType" "number" "I") ∈ lw_all := lw_g (lw_at lw_m3 65 rfl) rfl
theorem q676 : (Jvm.Cond.soleField "WireSchemas$EnumType" "number") ∈ lw_all := lw_g (lw_at lw_m3 66 rfl) rfl
theorem q677 : (Jvm.Cond.laysFinal "WireSchemas$EnumType" "WireSchemas$EnumType" "name" "LWireSchemas$Row;") ∈ lw_all := lw_g (lw_at lw_m3 67 rfl) rfl
theorem q678 : (Jvm.Cond.soleField "WireSchemas$EnumType" "name") ∈ lw_all := lw_g (lw_at lw_m3 68 rfl) rfl
theorem q679 : (Jvm.Cond.laysFinal "WireSchemas$EnumType" "WireSchemas$EnumType" "names" "Ljava/util/ArrayList;") ∈ lw_all := lw_g (lw_at lw_m3 69 rfl) rfl
theorem q680 : (Jvm.Cond.soleField "WireSchemas$EnumType" "names") ∈ lw_all := lw_g (lw_at lw_m3 70 rfl) rfl
theorem q681 : (Jvm.Cond.laysFinal "WireSchemas$EnumType" "WireSchemas$EnumType" "values" "[I") ∈ lw_all := lw_g (lw_at lw_m3 71 rfl) rfl
theorem q682 : (Jvm.Cond.soleField "WireSchemas$EnumType" "values") ∈ lw_all := lw_g (lw_at lw_m3 72 rfl) rfl
theorem q683 : (Jvm.Cond.superclass "WireSchemas$EnumType" "java/lang/Object") ∈ lw_all := lw_g (lw_at lw_m3 73 rfl) rfl
theorem q892 : (Jvm.Cond.instanceMethod ({ cls := "WireSchemas$EnumType", name := "isRight", desc := "()Z" } : Jvm.MethodName)) ∈ lw_all := lw_g (lw_at lw_m4 42 rfl) rfl
theorem q893 : (Jvm.Cond.selects "WireSchemas$EnumType" ({ cls := "WireSchemas$EnumType", name := "isRight", desc := "()Z" } : Jvm.MethodName) ({ cls := "WireSchemas$EnumType", name := "isRight", desc := "()Z" } : Jvm.MethodName)) ∈ lw_all := lw_g (lw_at lw_m4 43 rfl) rfl
theorem q894 : (Jvm.Cond.code ({ cls := "WireSchemas$EnumType", name := "isRight", desc := "()Z" } : Jvm.MethodName) prog_4_method_4_code (4 : Nat) (Option.some Jvm.ClassFile.FieldType.boolean)) ∈ lw_all := lw_g (lw_at lw_m4 44 rfl) rfl
theorem q895 : (Jvm.Cond.methodLink "WireSchemas$EnumType" (30 : Nat) ({ cls := "java/util/ArrayList", name := "size", desc := "()I" } : Jvm.MethodName)) ∈ lw_all := lw_g (lw_at lw_m4 45 rfl) rfl
theorem q1131 : (Jvm.Cond.instanceMethod ({ cls := "WireSchemas$EnumType", name := "nameOf", desc := "(J)LWireSchemas$Row;" } : Jvm.MethodName)) ∈ lw_all := lw_g (lw_at lw_m5 41 rfl) rfl
theorem q1132 : (Jvm.Cond.selects "WireSchemas$EnumType" ({ cls := "WireSchemas$EnumType", name := "nameOf", desc := "(J)LWireSchemas$Row;" } : Jvm.MethodName) ({ cls := "WireSchemas$EnumType", name := "nameOf", desc := "(J)LWireSchemas$Row;" } : Jvm.MethodName)) ∈ lw_all := lw_g (lw_at lw_m5 42 rfl) rfl
theorem q1133 : (Jvm.Cond.code ({ cls := "WireSchemas$EnumType", name := "nameOf", desc := "(J)LWireSchemas$Row;" } : Jvm.MethodName) prog_4_method_2_code (4 : Nat) (Option.some (Jvm.ClassFile.FieldType.object "WireSchemas$Row"))) ∈ lw_all := lw_g (lw_at lw_m5 43 rfl) rfl
theorem q1134 : (Jvm.Cond.methodLink "WireSchemas$EnumType" (34 : Nat) ({ cls := "java/util/ArrayList", name := "get", desc := "(I)Ljava/lang/Object;" } : Jvm.MethodName)) ∈ lw_all := lw_g (lw_at lw_m5 44 rfl) rfl
theorem q1135 : (Jvm.Cond.classLink "WireSchemas$EnumType" (38 : Nat) "WireSchemas$Row") ∈ lw_all := lw_g (lw_at lw_m5 45 rfl) rfl
theorem q1324 : (Jvm.Cond.instanceMethod ({ cls := "WireSchemas$EnumType", name := "valueOf", desc := "(LWireSchemas$Row;)I" } : Jvm.MethodName)) ∈ lw_all := lw_g (lw_at lw_m5 234 rfl) rfl
theorem q1325 : (Jvm.Cond.selects "WireSchemas$EnumType" ({ cls := "WireSchemas$EnumType", name := "valueOf", desc := "(LWireSchemas$Row;)I" } : Jvm.MethodName) ({ cls := "WireSchemas$EnumType", name := "valueOf", desc := "(LWireSchemas$Row;)I" } : Jvm.MethodName)) ∈ lw_all := lw_g (lw_at lw_m5 235 rfl) rfl
theorem q1326 : (Jvm.Cond.code ({ cls := "WireSchemas$EnumType", name := "valueOf", desc := "(LWireSchemas$Row;)I" } : Jvm.MethodName) prog_4_method_3_code (3 : Nat) (Option.some Jvm.ClassFile.FieldType.int)) ∈ lw_all := lw_g (lw_at lw_m5 236 rfl) rfl
theorem q1327 : (Jvm.Cond.methodLink "WireSchemas$EnumType" (40 : Nat) ({ cls := "WireSchemas$Row", name := "same", desc := "(LWireSchemas$Row;)Z" } : Jvm.MethodName)) ∈ lw_all := lw_g (lw_at lw_m5 237 rfl) rfl
theorem q2042 : (Jvm.Cond.castable "WireSchemas$EnumType" "java/lang/Object") ∈ lw_tbl := lw_at lw_m8 232 rfl
theorem in_X7 : ∀ w ∈ wsX70, w ∈ lw_all := lw_in wsX70 [675, 677, 679, 681] (by decide +kernel) (by decide +kernel)
/-! WireSchemas$Field -/
def RX8 : String := "WireSchemas$Field"
def TX8 : u_T := fun k => match k with
  | 0 => ("WireSchemas$Field", "of", "LWireSchemas$MessageType;", true)
  | 1 => ("WireSchemas$Field", "name", "LWireSchemas$Row;", true)
  | 2 => ("WireSchemas$Field", "json", "LWireSchemas$Row;", true)
  | 3 => ("WireSchemas$Field", "number", "I", false)
  | 4 => ("WireSchemas$Field", "kind", "I", false)
  | 5 => ("WireSchemas$Field", "oneof", "I", false)
  | 6 => ("WireSchemas$Field", "place", "I", false)
  | 7 => ("WireSchemas$Field", "repeated", "Z", false)
  | 8 => ("WireSchemas$Field", "optional", "Z", false)
  | 9 => ("WireSchemas$Field", "message", "LWireSchemas$MessageType;", false)
  | 10 => ("WireSchemas$Field", "enumType", "LWireSchemas$EnumType;", false)
  | _ => ("WireSchemas$Field", "path", "Ljava/util/ArrayList;", true)
def tyX8 : Nat → FieldType := fun k => match k with
  | 0 => .object "WireSchemas$MessageType"
  | 1 => .object "WireSchemas$Row"
  | 2 => .object "WireSchemas$Row"
  | 3 => .int
  | 4 => .int
  | 5 => .int
  | 6 => .int
  | 7 => .boolean
  | 8 => .boolean
  | 9 => .object "WireSchemas$MessageType"
  | 10 => .object "WireSchemas$EnumType"
  | _ => .object "java/util/ArrayList"
abbrev wsX80 : List Cond := u_ws RX8 TX8 12
theorem nmX8 : ∀ a, a < 12 → ∀ b, b < 12 → a ≠ b → (TX8 a).2.1 ≠ (TX8 b).2.1 := by decide +kernel
theorem tyX8_ok : ∀ k, k < 12 → parseFieldDescriptor (TX8 k).2.2.1 = some (tyX8 k) := by decide +kernel
abbrev cX8_init : ByteArray := prog_5_method_1_code
def yX8_init : MethodName := ⟨RX8, "<init>", "(LWireSchemas$MessageType;LWireSchemas$Row;)V"⟩
abbrev cX8_wire : ByteArray := prog_5_method_4_code
def yX8_wire : MethodName := ⟨RX8, "wire", "()I"⟩
abbrev cX8_isPlain : ByteArray := prog_5_method_2_code
def yX8_isPlain : MethodName := ⟨RX8, "isPlain", "()Z"⟩
abbrev cX8_keepsDefault : ByteArray := prog_5_method_3_code
def yX8_keepsDefault : MethodName := ⟨RX8, "keepsDefault", "()Z"⟩
theorem q154 : (Jvm.Cond.initialized "WireSchemas$Field") ∈ lw_all := lw_g (lw_at lw_m1 24 rfl) rfl
theorem q277 : (Jvm.Cond.fieldLinkNest "WireSchemas$Field" (39 : Nat) "WireSchemas$Row" "size" "I" "WireSchemas") ∈ lw_tbl := lw_at lw_m1 147 rfl
theorem q625 : (Jvm.Cond.selects "WireSchemas$Field" ({ cls := "java/lang/Object", name := "getClass", desc := "()Ljava/lang/Class;" } : Jvm.MethodName) ({ cls := "java/lang/Object", name := "getClass", desc := "()Ljava/lang/Class;" } : Jvm.MethodName)) ∈ lw_all := lw_g (lw_at lw_m3 15 rfl) rfl
theorem q700 : (Jvm.Cond.instantiable "WireSchemas$Field" (12 : Nat)) ∈ lw_all := lw_g (lw_at lw_m3 90 rfl) rfl
theorem q702 : (Jvm.Cond.instanceMethod ({ cls := "WireSchemas$Field", name := "<init>", desc := "(LWireSchemas$MessageType;LWireSchemas$Row;)V" } : Jvm.MethodName)) ∈ lw_all := lw_g (lw_at lw_m3 92 rfl) rfl
theorem q703 : (Jvm.Cond.code ({ cls := "WireSchemas$Field", name := "<init>", desc := "(LWireSchemas$MessageType;LWireSchemas$Row;)V" } : Jvm.MethodName) prog_5_method_1_code (6 : Nat) (Option.none : Option Jvm.ClassFile.FieldType)) ∈ lw_all := lw_g (lw_at lw_m3 93 rfl) rfl
theorem q704 : (Jvm.Cond.methodLink "WireSchemas$Field" (3 : Nat) ({ cls := "java/lang/Object", name := "<init>", desc := "()V" } : Jvm.MethodName)) ∈ lw_all := lw_g (lw_at lw_m3 94 rfl) rfl
theorem q705 : (Jvm.Cond.classLink "WireSchemas$Field" (9 : Nat) "WireSchemas$Row") ∈ lw_all := lw_g (lw_at lw_m3 95 rfl) rfl
theorem q706 : (Jvm.Cond.methodLinkNest "WireSchemas$Field" (11 : Nat) ({ cls := "WireSchemas$Row", name := "<init>", desc := "()V" } : Jvm.MethodName) "WireSchemas") ∈ lw_tbl := lw_at lw_m3 96 rfl
theorem q707 : (Jvm.Cond.classLink "WireSchemas$Field" (25 : Nat) "java/util/ArrayList") ∈ lw_all := lw_g (lw_at lw_m3 97 rfl) rfl
theorem q708 : (Jvm.Cond.methodLink "WireSchemas$Field" (27 : Nat) ({ cls := "java/util/ArrayList", name := "<init>", desc := "()V" } : Jvm.MethodName)) ∈ lw_all := lw_g (lw_at lw_m3 98 rfl) rfl
theorem q709 : (Jvm.Cond.methodLink "WireSchemas$Field" (42 : Nat) ({ cls := "WireSchemas$Row", name := "at", desc := "(I)I" } : Jvm.MethodName)) ∈ lw_all := lw_g (lw_at lw_m3 99 rfl) rfl
theorem q713 : (Jvm.Cond.methodLink "WireSchemas$Field" (46 : Nat) ({ cls := "WireSchemas$Row", name := "add", desc := "(I)V" } : Jvm.MethodName)) ∈ lw_all := lw_g (lw_at lw_m3 103 rfl) rfl
theorem q714 : (Jvm.Cond.fieldLink "WireSchemas$Field" (32 : Nat) "WireSchemas$Field" "of" "LWireSchemas$MessageType;") ∈ lw_all := lw_g (lw_at lw_m3 104 rfl) rfl
theorem q717 : (Jvm.Cond.fieldLink "WireSchemas$Field" (36 : Nat) "WireSchemas$Field" "name" "LWireSchemas$Row;") ∈ lw_all := lw_g (lw_at lw_m3 107 rfl) rfl
theorem q720 : (Jvm.Cond.fieldLink "WireSchemas$Field" (12 : Nat) "WireSchemas$Field" "json" "LWireSchemas$Row;") ∈ lw_all := lw_g (lw_at lw_m3 110 rfl) rfl
theorem q730 : (Jvm.Cond.fieldLink "WireSchemas$Field" (18 : Nat) "WireSchemas$Field" "kind" "I") ∈ lw_all := lw_g (lw_at lw_m3 120 rfl) rfl
theorem q737 : (Jvm.Cond.fieldLink "WireSchemas$Field" (22 : Nat) "WireSchemas$Field" "oneof" "I") ∈ lw_all := lw_g (lw_at lw_m3 127 rfl) rfl
theorem q750 : (Jvm.Cond.fieldLink "WireSchemas$Field" (50 : Nat) "WireSchemas$Field" "optional" "Z") ∈ lw_all := lw_g (lw_at lw_m3 140 rfl) rfl
theorem q753 : (Jvm.Cond.fieldLink "WireSchemas$Field" (54 : Nat) "WireSchemas$Field" "message" "LWireSchemas$MessageType;") ∈ lw_all := lw_g (lw_at lw_m3 143 rfl) rfl
theorem q762 : (Jvm.Cond.fieldLink "WireSchemas$Field" (28 : Nat) "WireSchemas$Field" "path" "Ljava/util/ArrayList;") ∈ lw_all := lw_g (lw_at lw_m3 152 rfl) rfl
theorem q765 : (Jvm.Cond.laysFinal "WireSchemas$Field" "WireSchemas$Field" "of" "LWireSchemas$MessageType;") ∈ lw_all := lw_g (lw_at lw_m3 155 rfl) rfl
theorem q766 : (Jvm.Cond.soleField "WireSchemas$Field" "of") ∈ lw_all := lw_g (lw_at lw_m3 156 rfl) rfl
theorem q767 : (Jvm.Cond.laysFinal "WireSchemas$Field" "WireSchemas$Field" "name" "LWireSchemas$Row;") ∈ lw_all := lw_g (lw_at lw_m3 157 rfl) rfl
theorem q768 : (Jvm.Cond.soleField "WireSchemas$Field" "name") ∈ lw_all := lw_g (lw_at lw_m3 158 rfl) rfl
theorem q769 : (Jvm.Cond.laysFinal "WireSchemas$Field" "WireSchemas$Field" "json" "LWireSchemas$Row;") ∈ lw_all := lw_g (lw_at lw_m3 159 rfl) rfl
theorem q770 : (Jvm.Cond.soleField "WireSchemas$Field" "json") ∈ lw_all := lw_g (lw_at lw_m3 160 rfl) rfl
theorem q771 : (Jvm.Cond.lays "WireSchemas$Field" "WireSchemas$Field" "number" "I") ∈ lw_all := lw_g (lw_at lw_m3 161 rfl) rfl
theorem q772 : (Jvm.Cond.soleField "WireSchemas$Field" "number") ∈ lw_all := lw_g (lw_at lw_m3 162 rfl) rfl
theorem q773 : (Jvm.Cond.lays "WireSchemas$Field" "WireSchemas$Field" "kind" "I") ∈ lw_all := lw_g (lw_at lw_m3 163 rfl) rfl
theorem q774 : (Jvm.Cond.soleField "WireSchemas$Field" "kind") ∈ lw_all := lw_g (lw_at lw_m3 164 rfl) rfl
theorem q775 : (Jvm.Cond.lays "WireSchemas$Field" "WireSchemas$Field" "oneof" "I") ∈ lw_all := lw_g (lw_at lw_m3 165 rfl) rfl
theorem q776 : (Jvm.Cond.soleField "WireSchemas$Field" "oneof") ∈ lw_all := lw_g (lw_at lw_m3 166 rfl) rfl
theorem q777 : (Jvm.Cond.lays "WireSchemas$Field" "WireSchemas$Field" "place" "I") ∈ lw_all := lw_g (lw_at lw_m3 167 rfl) rfl
theorem q778 : (Jvm.Cond.soleField "WireSchemas$Field" "place") ∈ lw_all := lw_g (lw_at lw_m3 168 rfl) rfl
theorem q779 : (Jvm.Cond.lays "WireSchemas$Field" "WireSchemas$Field" "repeated" "Z") ∈ lw_all := lw_g (lw_at lw_m3 169 rfl) rfl
theorem q780 : (Jvm.Cond.soleField "WireSchemas$Field" "repeated") ∈ lw_all := lw_g (lw_at lw_m3 170 rfl) rfl
theorem q781 : (Jvm.Cond.lays "WireSchemas$Field" "WireSchemas$Field" "optional" "Z") ∈ lw_all := lw_g (lw_at lw_m3 171 rfl) rfl
theorem q782 : (Jvm.Cond.soleField "WireSchemas$Field" "optional") ∈ lw_all := lw_g (lw_at lw_m3 172 rfl) rfl
theorem q783 : (Jvm.Cond.lays "WireSchemas$Field" "WireSchemas$Field" "message" "LWireSchemas$MessageType;") ∈ lw_all := lw_g (lw_at lw_m3 173 rfl) rfl
theorem q784 : (Jvm.Cond.soleField "WireSchemas$Field" "message") ∈ lw_all := lw_g (lw_at lw_m3 174 rfl) rfl
theorem q785 : (Jvm.Cond.lays "WireSchemas$Field" "WireSchemas$Field" "enumType" "LWireSchemas$EnumType;") ∈ lw_all := lw_g (lw_at lw_m3 175 rfl) rfl
theorem q786 : (Jvm.Cond.soleField "WireSchemas$Field" "enumType") ∈ lw_all := lw_g (lw_at lw_m3 176 rfl) rfl
theorem q787 : (Jvm.Cond.laysFinal "WireSchemas$Field" "WireSchemas$Field" "path" "Ljava/util/ArrayList;") ∈ lw_all := lw_g (lw_at lw_m3 177 rfl) rfl
theorem q788 : (Jvm.Cond.soleField "WireSchemas$Field" "path") ∈ lw_all := lw_g (lw_at lw_m3 178 rfl) rfl
theorem q789 : (Jvm.Cond.superclass "WireSchemas$Field" "java/lang/Object") ∈ lw_all := lw_g (lw_at lw_m3 179 rfl) rfl
theorem q996 : (Jvm.Cond.instanceMethod ({ cls := "WireSchemas$Field", name := "wire", desc := "()I" } : Jvm.MethodName)) ∈ lw_all := lw_g (lw_at lw_m4 146 rfl) rfl
theorem q997 : (Jvm.Cond.selects "WireSchemas$Field" ({ cls := "WireSchemas$Field", name := "wire", desc := "()I" } : Jvm.MethodName) ({ cls := "WireSchemas$Field", name := "wire", desc := "()I" } : Jvm.MethodName)) ∈ lw_all := lw_g (lw_at lw_m4 147 rfl) rfl
theorem q998 : (Jvm.Cond.code ({ cls := "WireSchemas$Field", name := "wire", desc := "()I" } : Jvm.MethodName) prog_5_method_4_code (1 : Nat) (Option.some Jvm.ClassFile.FieldType.int)) ∈ lw_all := lw_g (lw_at lw_m4 148 rfl) rfl
theorem q999 : (Jvm.Cond.methodLink "WireSchemas$Field" (57 : Nat) ({ cls := "WireSchemas$Field", name := "isPlain", desc := "()Z" } : Jvm.MethodName)) ∈ lw_all := lw_g (lw_at lw_m4 149 rfl) rfl
theorem q1000 : (Jvm.Cond.instanceMethod ({ cls := "WireSchemas$Field", name := "isPlain", desc := "()Z" } : Jvm.MethodName)) ∈ lw_all := lw_g (lw_at lw_m4 150 rfl) rfl
theorem q1001 : (Jvm.Cond.selects "WireSchemas$Field" ({ cls := "WireSchemas$Field", name := "isPlain", desc := "()Z" } : Jvm.MethodName) ({ cls := "WireSchemas$Field", name := "isPlain", desc := "()Z" } : Jvm.MethodName)) ∈ lw_all := lw_g (lw_at lw_m4 151 rfl) rfl
theorem q1002 : (Jvm.Cond.code ({ cls := "WireSchemas$Field", name := "isPlain", desc := "()Z" } : Jvm.MethodName) prog_5_method_2_code (1 : Nat) (Option.some Jvm.ClassFile.FieldType.boolean)) ∈ lw_all := lw_g (lw_at lw_m4 152 rfl) rfl
theorem q1068 : (Jvm.Cond.instanceMethod ({ cls := "WireSchemas$Field", name := "keepsDefault", desc := "()Z" } : Jvm.MethodName)) ∈ lw_all := lw_g (lw_at lw_m4 218 rfl) rfl
theorem q1069 : (Jvm.Cond.selects "WireSchemas$Field" ({ cls := "WireSchemas$Field", name := "keepsDefault", desc := "()Z" } : Jvm.MethodName) ({ cls := "WireSchemas$Field", name := "keepsDefault", desc := "()Z" } : Jvm.MethodName)) ∈ lw_all := lw_g (lw_at lw_m4 219 rfl) rfl
theorem q1070 : (Jvm.Cond.code ({ cls := "WireSchemas$Field", name := "keepsDefault", desc := "()Z" } : Jvm.MethodName) prog_5_method_3_code (1 : Nat) (Option.some Jvm.ClassFile.FieldType.boolean)) ∈ lw_all := lw_g (lw_at lw_m4 220 rfl) rfl
theorem q2032 : (Jvm.Cond.castable "WireSchemas$Field" "java/lang/Object") ∈ lw_tbl := lw_at lw_m8 222 rfl
theorem in_X8 : ∀ w ∈ wsX80, w ∈ lw_all := lw_in wsX80 [765, 767, 769, 771, 773, 775, 777, 779, 781, 783, 785, 787] (by decide +kernel) (by decide +kernel)
/-! WireSchemas$Checker -/
def RX9 : String := "WireSchemas$Checker"
def TX9 : u_T := fun k => match k with
  | _ => ("WireSchemas$Checker", "schema", "LWireSchemas$Schema;", true)
def tyX9 : Nat → FieldType := fun k => match k with
  | _ => .object "WireSchemas$Schema"
abbrev wsX90 : List Cond := u_ws RX9 TX9 1
theorem nmX9 : ∀ a, a < 1 → ∀ b, b < 1 → a ≠ b → (TX9 a).2.1 ≠ (TX9 b).2.1 := by decide +kernel
theorem tyX9_ok : ∀ k, k < 1 → parseFieldDescriptor (TX9 k).2.2.1 = some (tyX9 k) := by decide +kernel
abbrev cX9_init : ByteArray := prog_3_method_1_code
def yX9_init : MethodName := ⟨RX9, "<init>", "(LWireSchemas$Schema;)V"⟩
abbrev cX9_fault : ByteArray := prog_3_method_8_code
def yX9_fault : MethodName := ⟨RX9, "fault", "()I"⟩
abbrev cX9_namesClash : ByteArray := prog_3_method_3_code
def yX9_namesClash : MethodName := ⟨RX9, "namesClash", "()Z"⟩
abbrev cX9_isTwice : ByteArray := prog_3_method_2_code
def yX9_isTwice : MethodName := ⟨RX9, "isTwice", "(Ljava/util/ArrayList;)Z"⟩
abbrev cX9_isNumber : ByteArray := prog_3_method_4_code
def yX9_isNumber : MethodName := ⟨RX9, "isNumber", "(LWireSchemas$Field;)Z"⟩
abbrev cX9_resolve : ByteArray := prog_3_method_6_code
def yX9_resolve : MethodName := ⟨RX9, "resolve", "(LWireSchemas$Field;)Z"⟩
abbrev cX9_scalar : ByteArray := prog_3_method_5_code
def yX9_scalar : MethodName := ⟨RX9, "scalar", "(LWireSchemas$Row;)I"⟩
abbrev cX9_jsonClashes : ByteArray := prog_3_method_7_code
def yX9_jsonClashes : MethodName := ⟨RX9, "jsonClashes", "()Z"⟩
theorem q156 : (Jvm.Cond.initialized "WireSchemas$Checker") ∈ lw_all := lw_g (lw_at lw_m1 26 rfl) rfl
theorem q214 : (Jvm.Cond.fieldLinkNest "WireSchemas$Checker" (130 : Nat) "WireSchemas$Scope" "around" "LWireSchemas$Scope;" "WireSchemas") ∈ lw_tbl := lw_at lw_m1 84 rfl
theorem q220 : (Jvm.Cond.fieldLinkNest "WireSchemas$Checker" (37 : Nat) "WireSchemas$Scope" "names" "Ljava/util/ArrayList;" "WireSchemas") ∈ lw_tbl := lw_at lw_m1 90 rfl
theorem q234 : (Jvm.Cond.fieldLinkNest "WireSchemas$Checker" (31 : Nat) "WireSchemas$Schema" "scope" "LWireSchemas$Scope;" "WireSchemas") ∈ lw_tbl := lw_at lw_m1 104 rfl
theorem q237 : (Jvm.Cond.fieldLinkNest "WireSchemas$Checker" (47 : Nat) "WireSchemas$Schema" "messages" "Ljava/util/ArrayList;" "WireSchemas") ∈ lw_tbl := lw_at lw_m1 107 rfl
theorem q242 : (Jvm.Cond.fieldLinkNest "WireSchemas$Checker" (154 : Nat) "WireSchemas$Schema" "enums" "Ljava/util/ArrayList;" "WireSchemas") ∈ lw_tbl := lw_at lw_m1 112 rfl
theorem q246 : (Jvm.Cond.fieldLinkNest "WireSchemas$Checker" (139 : Nat) "WireSchemas$Schema" "fields" "Ljava/util/ArrayList;" "WireSchemas") ∈ lw_tbl := lw_at lw_m1 116 rfl
theorem q558 : (Jvm.Cond.fieldLinkNest "WireSchemas$Checker" (69 : Nat) "WireSchemas$MessageType" "scope" "LWireSchemas$Scope;" "WireSchemas") ∈ lw_tbl := lw_at lw_m2 188 rfl
theorem q561 : (Jvm.Cond.fieldLinkNest "WireSchemas$Checker" (53 : Nat) "WireSchemas$MessageType" "fields" "Ljava/util/ArrayList;" "WireSchemas") ∈ lw_tbl := lw_at lw_m2 191 rfl
theorem q564 : (Jvm.Cond.fieldLinkNest "WireSchemas$Checker" (66 : Nat) "WireSchemas$MessageType" "oneofs" "Ljava/util/ArrayList;" "WireSchemas") ∈ lw_tbl := lw_at lw_m2 194 rfl
theorem q567 : (Jvm.Cond.fieldLinkNest "WireSchemas$Checker" (82 : Nat) "WireSchemas$MessageType" "reserved" "[I" "WireSchemas") ∈ lw_tbl := lw_at lw_m2 197 rfl
theorem q569 : (Jvm.Cond.fieldLinkNest "WireSchemas$Checker" (79 : Nat) "WireSchemas$MessageType" "reservedCount" "I" "WireSchemas") ∈ lw_tbl := lw_at lw_m2 199 rfl
theorem q623 : (Jvm.Cond.selects "WireSchemas$Checker" ({ cls := "java/lang/Object", name := "getClass", desc := "()Ljava/lang/Class;" } : Jvm.MethodName) ({ cls := "java/lang/Object", name := "getClass", desc := "()Ljava/lang/Class;" } : Jvm.MethodName)) ∈ lw_all := lw_g (lw_at lw_m3 13 rfl) rfl
theorem q715 : (Jvm.Cond.fieldLinkNest "WireSchemas$Checker" (75 : Nat) "WireSchemas$Field" "of" "LWireSchemas$MessageType;" "WireSchemas") ∈ lw_tbl := lw_at lw_m3 105 rfl
theorem q719 : (Jvm.Cond.fieldLinkNest "WireSchemas$Checker" (58 : Nat) "WireSchemas$Field" "name" "LWireSchemas$Row;" "WireSchemas") ∈ lw_tbl := lw_at lw_m3 109 rfl
theorem q722 : (Jvm.Cond.fieldLinkNest "WireSchemas$Checker" (140 : Nat) "WireSchemas$Field" "json" "LWireSchemas$Row;" "WireSchemas") ∈ lw_tbl := lw_at lw_m3 112 rfl
theorem q726 : (Jvm.Cond.fieldLinkNest "WireSchemas$Checker" (70 : Nat) "WireSchemas$Field" "number" "I" "WireSchemas") ∈ lw_tbl := lw_at lw_m3 116 rfl
theorem q733 : (Jvm.Cond.fieldLinkNest "WireSchemas$Checker" (119 : Nat) "WireSchemas$Field" "kind" "I" "WireSchemas") ∈ lw_tbl := lw_at lw_m3 123 rfl
theorem q754 : (Jvm.Cond.fieldLinkNest "WireSchemas$Checker" (133 : Nat) "WireSchemas$Field" "message" "LWireSchemas$MessageType;" "WireSchemas") ∈ lw_tbl := lw_at lw_m3 144 rfl
theorem q759 : (Jvm.Cond.fieldLinkNest "WireSchemas$Checker" (135 : Nat) "WireSchemas$Field" "enumType" "LWireSchemas$EnumType;" "WireSchemas") ∈ lw_tbl := lw_at lw_m3 149 rfl
theorem q763 : (Jvm.Cond.fieldLinkNest "WireSchemas$Checker" (112 : Nat) "WireSchemas$Field" "path" "Ljava/util/ArrayList;" "WireSchemas") ∈ lw_tbl := lw_at lw_m3 153 rfl
theorem q814 : (Jvm.Cond.instantiable "WireSchemas$Checker" (1 : Nat)) ∈ lw_all := lw_g (lw_at lw_m3 204 rfl) rfl
theorem q816 : (Jvm.Cond.instanceMethod ({ cls := "WireSchemas$Checker", name := "<init>", desc := "(LWireSchemas$Schema;)V" } : Jvm.MethodName)) ∈ lw_all := lw_g (lw_at lw_m3 206 rfl) rfl
theorem q817 : (Jvm.Cond.code ({ cls := "WireSchemas$Checker", name := "<init>", desc := "(LWireSchemas$Schema;)V" } : Jvm.MethodName) prog_3_method_1_code (2 : Nat) (Option.none : Option Jvm.ClassFile.FieldType)) ∈ lw_all := lw_g (lw_at lw_m3 207 rfl) rfl
theorem q818 : (Jvm.Cond.methodLink "WireSchemas$Checker" (3 : Nat) ({ cls := "java/lang/Object", name := "<init>", desc := "()V" } : Jvm.MethodName)) ∈ lw_all := lw_g (lw_at lw_m3 208 rfl) rfl
theorem q819 : (Jvm.Cond.fieldLink "WireSchemas$Checker" (9 : Nat) "WireSchemas$Checker" "schema" "LWireSchemas$Schema;") ∈ lw_all := lw_g (lw_at lw_m3 209 rfl) rfl
theorem q820 : (Jvm.Cond.laysFinal "WireSchemas$Checker" "WireSchemas$Checker" "schema" "LWireSchemas$Schema;") ∈ lw_all := lw_g (lw_at lw_m3 210 rfl) rfl
theorem q821 : (Jvm.Cond.soleField "WireSchemas$Checker" "schema") ∈ lw_all := lw_g (lw_at lw_m3 211 rfl) rfl
theorem q822 : (Jvm.Cond.superclass "WireSchemas$Checker" "java/lang/Object") ∈ lw_all := lw_g (lw_at lw_m3 212 rfl) rfl
theorem q824 : (Jvm.Cond.instanceMethod ({ cls := "WireSchemas$Checker", name := "fault", desc := "()I" } : Jvm.MethodName)) ∈ lw_all := lw_g (lw_at lw_m3 214 rfl) rfl
theorem q825 : (Jvm.Cond.selects "WireSchemas$Checker" ({ cls := "WireSchemas$Checker", name := "fault", desc := "()I" } : Jvm.MethodName) ({ cls := "WireSchemas$Checker", name := "fault", desc := "()I" } : Jvm.MethodName)) ∈ lw_all := lw_g (lw_at lw_m3 215 rfl) rfl
theorem q826 : (Jvm.Cond.code ({ cls := "WireSchemas$Checker", name := "fault", desc := "()I" } : Jvm.MethodName) prog_3_method_8_code (5 : Nat) (Option.some Jvm.ClassFile.FieldType.int)) ∈ lw_all := lw_g (lw_at lw_m3 216 rfl) rfl
theorem q827 : (Jvm.Cond.methodLink "WireSchemas$Checker" (143 : Nat) ({ cls := "WireSchemas$Checker", name := "namesClash", desc := "()Z" } : Jvm.MethodName)) ∈ lw_all := lw_g (lw_at lw_m3 217 rfl) rfl
theorem q828 : (Jvm.Cond.privateMethod ({ cls := "WireSchemas$Checker", name := "namesClash", desc := "()Z" } : Jvm.MethodName)) ∈ lw_tbl := lw_at lw_m3 218 rfl
theorem q829 : (Jvm.Cond.instanceMethod ({ cls := "WireSchemas$Checker", name := "namesClash", desc := "()Z" } : Jvm.MethodName)) ∈ lw_all := lw_g (lw_at lw_m3 219 rfl) rfl
theorem q830 : (Jvm.Cond.code ({ cls := "WireSchemas$Checker", name := "namesClash", desc := "()Z" } : Jvm.MethodName) prog_3_method_3_code (6 : Nat) (Option.some Jvm.ClassFile.FieldType.boolean)) ∈ lw_all := lw_g (lw_at lw_m3 220 rfl) rfl
theorem q831 : (Jvm.Cond.methodLink "WireSchemas$Checker" (43 : Nat) ({ cls := "WireSchemas$Checker", name := "isTwice", desc := "(Ljava/util/ArrayList;)Z" } : Jvm.MethodName)) ∈ lw_all := lw_g (lw_at lw_m3 221 rfl) rfl
theorem q832 : (Jvm.Cond.static ({ cls := "WireSchemas$Checker", name := "isTwice", desc := "(Ljava/util/ArrayList;)Z" } : Jvm.MethodName)) ∈ lw_all := lw_g (lw_at lw_m3 222 rfl) rfl
theorem q833 : (Jvm.Cond.code ({ cls := "WireSchemas$Checker", name := "isTwice", desc := "(Ljava/util/ArrayList;)Z" } : Jvm.MethodName) prog_3_method_2_code (4 : Nat) (Option.some Jvm.ClassFile.FieldType.boolean)) ∈ lw_all := lw_g (lw_at lw_m3 223 rfl) rfl
theorem q834 : (Jvm.Cond.methodLink "WireSchemas$Checker" (15 : Nat) ({ cls := "java/util/ArrayList", name := "size", desc := "()I" } : Jvm.MethodName)) ∈ lw_all := lw_g (lw_at lw_m3 224 rfl) rfl
theorem q835 : (Jvm.Cond.methodLink "WireSchemas$Checker" (21 : Nat) ({ cls := "java/util/ArrayList", name := "get", desc := "(I)Ljava/lang/Object;" } : Jvm.MethodName)) ∈ lw_all := lw_g (lw_at lw_m3 225 rfl) rfl
theorem q836 : (Jvm.Cond.classLink "WireSchemas$Checker" (25 : Nat) "WireSchemas$Row") ∈ lw_all := lw_g (lw_at lw_m3 226 rfl) rfl
theorem q837 : (Jvm.Cond.methodLink "WireSchemas$Checker" (27 : Nat) ({ cls := "WireSchemas$Row", name := "same", desc := "(LWireSchemas$Row;)Z" } : Jvm.MethodName)) ∈ lw_all := lw_g (lw_at lw_m3 227 rfl) rfl
theorem q845 : (Jvm.Cond.classLink "WireSchemas$Checker" (50 : Nat) "WireSchemas$MessageType") ∈ lw_all := lw_g (lw_at lw_m3 235 rfl) rfl
theorem q846 : (Jvm.Cond.classLink "WireSchemas$Checker" (16 : Nat) "java/util/ArrayList") ∈ lw_all := lw_g (lw_at lw_m3 236 rfl) rfl
theorem q847 : (Jvm.Cond.methodLink "WireSchemas$Checker" (52 : Nat) ({ cls := "java/util/ArrayList", name := "<init>", desc := "()V" } : Jvm.MethodName)) ∈ lw_all := lw_g (lw_at lw_m3 237 rfl) rfl
theorem q848 : (Jvm.Cond.classLink "WireSchemas$Checker" (56 : Nat) "WireSchemas$Field") ∈ lw_all := lw_g (lw_at lw_m3 238 rfl) rfl
theorem q849 : (Jvm.Cond.methodLink "WireSchemas$Checker" (62 : Nat) ({ cls := "java/util/ArrayList", name := "add", desc := "(Ljava/lang/Object;)Z" } : Jvm.MethodName)) ∈ lw_all := lw_g (lw_at lw_m3 239 rfl) rfl
theorem q850 : (Jvm.Cond.methodLink "WireSchemas$Checker" (147 : Nat) ({ cls := "WireSchemas$Checker", name := "isNumber", desc := "(LWireSchemas$Field;)Z" } : Jvm.MethodName)) ∈ lw_all := lw_g (lw_at lw_m4 0 rfl) rfl
theorem q851 : (Jvm.Cond.static ({ cls := "WireSchemas$Checker", name := "isNumber", desc := "(LWireSchemas$Field;)Z" } : Jvm.MethodName)) ∈ lw_all := lw_g (lw_at lw_m4 1 rfl) rfl
theorem q852 : (Jvm.Cond.code ({ cls := "WireSchemas$Checker", name := "isNumber", desc := "(LWireSchemas$Field;)Z" } : Jvm.MethodName) prog_3_method_4_code (3 : Nat) (Option.some Jvm.ClassFile.FieldType.boolean)) ∈ lw_all := lw_g (lw_at lw_m4 2 rfl) rfl
theorem q853 : (Jvm.Cond.constant "WireSchemas$Checker" (74 : Nat) (536870911 : Int32)) ∈ lw_all := lw_g (lw_at lw_m4 3 rfl) rfl
theorem q854 : (Jvm.Cond.methodLink "WireSchemas$Checker" (151 : Nat) ({ cls := "WireSchemas$Checker", name := "resolve", desc := "(LWireSchemas$Field;)Z" } : Jvm.MethodName)) ∈ lw_all := lw_g (lw_at lw_m4 4 rfl) rfl
theorem q855 : (Jvm.Cond.static ({ cls := "WireSchemas$Checker", name := "resolve", desc := "(LWireSchemas$Field;)Z" } : Jvm.MethodName)) ∈ lw_all := lw_g (lw_at lw_m4 5 rfl) rfl
theorem q856 : (Jvm.Cond.code ({ cls := "WireSchemas$Checker", name := "resolve", desc := "(LWireSchemas$Field;)Z" } : Jvm.MethodName) prog_3_method_6_code (7 : Nat) (Option.some Jvm.ClassFile.FieldType.boolean)) ∈ lw_all := lw_g (lw_at lw_m4 6 rfl) rfl
theorem q857 : (Jvm.Cond.methodLink "WireSchemas$Checker" (115 : Nat) ({ cls := "WireSchemas$Checker", name := "scalar", desc := "(LWireSchemas$Row;)I" } : Jvm.MethodName)) ∈ lw_all := lw_g (lw_at lw_m4 7 rfl) rfl
theorem q858 : (Jvm.Cond.static ({ cls := "WireSchemas$Checker", name := "scalar", desc := "(LWireSchemas$Row;)I" } : Jvm.MethodName)) ∈ lw_all := lw_g (lw_at lw_m4 8 rfl) rfl
theorem q859 : (Jvm.Cond.code ({ cls := "WireSchemas$Checker", name := "scalar", desc := "(LWireSchemas$Row;)I" } : Jvm.MethodName) prog_3_method_5_code (2 : Nat) (Option.some Jvm.ClassFile.FieldType.int)) ∈ lw_all := lw_g (lw_at lw_m4 9 rfl) rfl
theorem q860 : (Jvm.Cond.stringRef "WireSchemas$Checker" (86 : Nat) "int32") ∈ lw_tbl := lw_at lw_m4 10 rfl
theorem q861 : (Jvm.Cond.methodLink "WireSchemas$Checker" (88 : Nat) ({ cls := "WireSchemas$Row", name := "is", desc := "(Ljava/lang/String;)Z" } : Jvm.MethodName)) ∈ lw_all := lw_g (lw_at lw_m4 11 rfl) rfl
theorem q867 : (Jvm.Cond.stringRef "WireSchemas$Checker" (92 : Nat) "int64") ∈ lw_tbl := lw_at lw_m4 17 rfl
theorem q868 : (Jvm.Cond.stringRef "WireSchemas$Checker" (94 : Nat) "uint32") ∈ lw_tbl := lw_at lw_m4 18 rfl
theorem q869 : (Jvm.Cond.stringRef "WireSchemas$Checker" (96 : Nat) "uint64") ∈ lw_tbl := lw_at lw_m4 19 rfl
theorem q870 : (Jvm.Cond.stringRef "WireSchemas$Checker" (98 : Nat) "sint32") ∈ lw_tbl := lw_at lw_m4 20 rfl
theorem q871 : (Jvm.Cond.stringRef "WireSchemas$Checker" (100 : Nat) "sint64") ∈ lw_tbl := lw_at lw_m4 21 rfl
theorem q872 : (Jvm.Cond.stringRef "WireSchemas$Checker" (102 : Nat) "fixed32") ∈ lw_tbl := lw_at lw_m4 22 rfl
theorem q873 : (Jvm.Cond.stringRef "WireSchemas$Checker" (104 : Nat) "fixed64") ∈ lw_tbl := lw_at lw_m4 23 rfl
theorem q874 : (Jvm.Cond.stringRef "WireSchemas$Checker" (106 : Nat) "bool") ∈ lw_tbl := lw_at lw_m4 24 rfl
theorem q875 : (Jvm.Cond.stringRef "WireSchemas$Checker" (108 : Nat) "string") ∈ lw_tbl := lw_at lw_m4 25 rfl
theorem q876 : (Jvm.Cond.stringRef "WireSchemas$Checker" (110 : Nat) "bytes") ∈ lw_tbl := lw_at lw_m4 26 rfl
theorem q877 : (Jvm.Cond.methodLink "WireSchemas$Checker" (122 : Nat) ({ cls := "WireSchemas$Scope", name := "message", desc := "(LWireSchemas$Row;)LWireSchemas$MessageType;" } : Jvm.MethodName)) ∈ lw_all := lw_g (lw_at lw_m4 27 rfl) rfl
theorem q885 : (Jvm.Cond.methodLink "WireSchemas$Checker" (126 : Nat) ({ cls := "WireSchemas$Scope", name := "enumOf", desc := "(LWireSchemas$Row;)LWireSchemas$EnumType;" } : Jvm.MethodName)) ∈ lw_all := lw_g (lw_at lw_m4 35 rfl) rfl
theorem q890 : (Jvm.Cond.classLink "WireSchemas$Checker" (157 : Nat) "WireSchemas$EnumType") ∈ lw_all := lw_g (lw_at lw_m4 40 rfl) rfl
theorem q891 : (Jvm.Cond.methodLink "WireSchemas$Checker" (159 : Nat) ({ cls := "WireSchemas$EnumType", name := "isRight", desc := "()Z" } : Jvm.MethodName)) ∈ lw_all := lw_g (lw_at lw_m4 41 rfl) rfl
theorem q896 : (Jvm.Cond.methodLink "WireSchemas$Checker" (162 : Nat) ({ cls := "WireSchemas$MessageType", name := "order", desc := "()V" } : Jvm.MethodName)) ∈ lw_all := lw_g (lw_at lw_m4 46 rfl) rfl
theorem q902 : (Jvm.Cond.methodLink "WireSchemas$Checker" (165 : Nat) ({ cls := "WireSchemas$Checker", name := "jsonClashes", desc := "()Z" } : Jvm.MethodName)) ∈ lw_all := lw_g (lw_at lw_m4 52 rfl) rfl
theorem q903 : (Jvm.Cond.privateMethod ({ cls := "WireSchemas$Checker", name := "jsonClashes", desc := "()Z" } : Jvm.MethodName)) ∈ lw_tbl := lw_at lw_m4 53 rfl
theorem q904 : (Jvm.Cond.instanceMethod ({ cls := "WireSchemas$Checker", name := "jsonClashes", desc := "()Z" } : Jvm.MethodName)) ∈ lw_all := lw_g (lw_at lw_m4 54 rfl) rfl
theorem q905 : (Jvm.Cond.code ({ cls := "WireSchemas$Checker", name := "jsonClashes", desc := "()Z" } : Jvm.MethodName) prog_3_method_7_code (4 : Nat) (Option.some Jvm.ClassFile.FieldType.boolean)) ∈ lw_all := lw_g (lw_at lw_m4 55 rfl) rfl
theorem q2043 : (Jvm.Cond.castable "WireSchemas$Checker" "java/lang/Object") ∈ lw_tbl := lw_at lw_m8 233 rfl
theorem in_X9 : ∀ w ∈ wsX90, w ∈ lw_all := lw_in wsX90 [820] (by decide +kernel) (by decide +kernel)
theorem q130 : (Jvm.Cond.initialized "WireSchemasLaw") ∈ lw_all := lw_g (lw_at lw_m1 0 rfl) rfl
theorem q166 : (Jvm.Cond.classLink "WireSchemasLaw" (7 : Nat) "WireSchemas") ∈ lw_all := lw_g (lw_at lw_m1 36 rfl) rfl
theorem q168 : (Jvm.Cond.methodLink "WireSchemasLaw" (9 : Nat) ({ cls := "WireSchemas", name := "<init>", desc := "()V" } : Jvm.MethodName)) ∈ lw_all := lw_g (lw_at lw_m1 38 rfl) rfl
theorem q312 : (Jvm.Cond.methodLink "WireSchemasLaw" (13 : Nat) ({ cls := "WireSchemas", name := "feed", desc := "(IIIII)Z" } : Jvm.MethodName)) ∈ lw_all := lw_g (lw_at lw_m1 182 rfl) rfl
theorem q320 : (Jvm.Cond.methodLink "WireSchemasLaw" (18 : Nat) ({ cls := "WireSchemas", name := "end", desc := "(I)Z" } : Jvm.MethodName)) ∈ lw_all := lw_g (lw_at lw_m1 190 rfl) rfl
theorem q327 : (Jvm.Cond.methodLink "WireSchemasLaw" (23 : Nat) ({ cls := "WireSchemas", name := "schema", desc := "()I" } : Jvm.MethodName)) ∈ lw_all := lw_g (lw_at lw_m1 197 rfl) rfl
theorem q906 : (Jvm.Cond.methodLink "WireSchemasLaw" (28 : Nat) ({ cls := "WireSchemas", name := "count", desc := "(I)I" } : Jvm.MethodName)) ∈ lw_all := lw_g (lw_at lw_m4 56 rfl) rfl
theorem q911 : (Jvm.Cond.methodLink "WireSchemasLaw" (33 : Nat) ({ cls := "WireSchemas", name := "field", desc := "(II)I" } : Jvm.MethodName)) ∈ lw_all := lw_g (lw_at lw_m4 61 rfl) rfl
theorem q921 : (Jvm.Cond.methodLink "WireSchemasLaw" (38 : Nat) ({ cls := "WireSchemas", name := "letter", desc := "(II)I" } : Jvm.MethodName)) ∈ lw_all := lw_g (lw_at lw_m4 71 rfl) rfl
theorem q926 : (Jvm.Cond.methodLink "WireSchemasLaw" (42 : Nat) ({ cls := "WireSchemas", name := "toJson", desc := "(I)I" } : Jvm.MethodName)) ∈ lw_all := lw_g (lw_at lw_m4 76 rfl) rfl
theorem q1165 : (Jvm.Cond.methodLink "WireSchemasLaw" (46 : Nat) ({ cls := "WireSchemas", name := "toWire", desc := "(I)I" } : Jvm.MethodName)) ∈ lw_all := lw_g (lw_at lw_m5 75 rfl) rfl
theorem q1404 : (Jvm.Cond.methodLink "WireSchemasLaw" (50 : Nat) ({ cls := "WireSchemas", name := "turn", desc := "()Z" } : Jvm.MethodName)) ∈ lw_all := lw_g (lw_at lw_m6 74 rfl) rfl
theorem q1408 : (Jvm.Cond.methodLink "WireSchemasLaw" (55 : Nat) ({ cls := "WireSchemas", name := "output", desc := "(I)I" } : Jvm.MethodName)) ∈ lw_all := lw_g (lw_at lw_m6 78 rfl) rfl
theorem q1412 : (Jvm.Cond.classLink "WireSchemasLaw" (10 : Nat) "WireSchemasModel") ∈ lw_all := lw_g (lw_at lw_m6 82 rfl) rfl
theorem q1414 : (Jvm.Cond.methodLink "WireSchemasLaw" (12 : Nat) ({ cls := "WireSchemasModel", name := "<init>", desc := "()V" } : Jvm.MethodName)) ∈ lw_all := lw_g (lw_at lw_m6 84 rfl) rfl
theorem q1603 : (Jvm.Cond.methodLink "WireSchemasLaw" (17 : Nat) ({ cls := "WireSchemasModel", name := "feed", desc := "(IIIII)Z" } : Jvm.MethodName)) ∈ lw_all := lw_g (lw_at lw_m7 33 rfl) rfl
theorem q1607 : (Jvm.Cond.methodLink "WireSchemasLaw" (22 : Nat) ({ cls := "WireSchemasModel", name := "end", desc := "(I)Z" } : Jvm.MethodName)) ∈ lw_all := lw_g (lw_at lw_m7 37 rfl) rfl
theorem q1611 : (Jvm.Cond.methodLink "WireSchemasLaw" (27 : Nat) ({ cls := "WireSchemasModel", name := "schema", desc := "()I" } : Jvm.MethodName)) ∈ lw_all := lw_g (lw_at lw_m7 41 rfl) rfl
theorem q1744 : (Jvm.Cond.methodLink "WireSchemasLaw" (32 : Nat) ({ cls := "WireSchemasModel", name := "count", desc := "(I)I" } : Jvm.MethodName)) ∈ lw_all := lw_g (lw_at lw_m7 174 rfl) rfl
theorem q1748 : (Jvm.Cond.methodLink "WireSchemasLaw" (37 : Nat) ({ cls := "WireSchemasModel", name := "field", desc := "(II)I" } : Jvm.MethodName)) ∈ lw_all := lw_g (lw_at lw_m7 178 rfl) rfl
theorem q1752 : (Jvm.Cond.methodLink "WireSchemasLaw" (41 : Nat) ({ cls := "WireSchemasModel", name := "letter", desc := "(II)I" } : Jvm.MethodName)) ∈ lw_all := lw_g (lw_at lw_m7 182 rfl) rfl
theorem q1756 : (Jvm.Cond.methodLink "WireSchemasLaw" (45 : Nat) ({ cls := "WireSchemasModel", name := "toJson", desc := "(I)I" } : Jvm.MethodName)) ∈ lw_all := lw_g (lw_at lw_m7 186 rfl) rfl
theorem q1890 : (Jvm.Cond.methodLink "WireSchemasLaw" (49 : Nat) ({ cls := "WireSchemasModel", name := "toWire", desc := "(I)I" } : Jvm.MethodName)) ∈ lw_all := lw_g (lw_at lw_m8 80 rfl) rfl
theorem q2023 : (Jvm.Cond.methodLink "WireSchemasLaw" (54 : Nat) ({ cls := "WireSchemasModel", name := "turn", desc := "()Z" } : Jvm.MethodName)) ∈ lw_all := lw_g (lw_at lw_m8 213 rfl) rfl
theorem q2027 : (Jvm.Cond.methodLink "WireSchemasLaw" (58 : Nat) ({ cls := "WireSchemasModel", name := "output", desc := "(I)I" } : Jvm.MethodName)) ∈ lw_all := lw_g (lw_at lw_m8 217 rfl) rfl
theorem q2054 : (Jvm.Cond.castable "[B" "java/lang/Object") ∈ lw_tbl := lw_at lw_m9 4 rfl
theorem q2056 : (Jvm.Cond.castable "[I" "java/lang/Object") ∈ lw_tbl := lw_at lw_m9 6 rfl
theorem q2055 : (Jvm.Cond.castable "[LWireSchemas$Field;" "java/lang/Object") ∈ lw_tbl := lw_at lw_m9 5 rfl
theorem q2051 : (Jvm.Cond.sameMethod "[Ljava/lang/Object;" "java/lang/Object" "getClass" "()Ljava/lang/Class;") ∈ lw_all := lw_g (lw_at lw_m9 1 rfl) rfl
theorem q2052 : (Jvm.Cond.selects "[Ljava/lang/Object;" ({ cls := "java/lang/Object", name := "getClass", desc := "()Ljava/lang/Class;" } : Jvm.MethodName) ({ cls := "java/lang/Object", name := "getClass", desc := "()Ljava/lang/Class;" } : Jvm.MethodName)) ∈ lw_all := lw_g (lw_at lw_m9 2 rfl) rfl
theorem q2057 : (Jvm.Cond.castable "[Ljava/lang/Object;" "java/lang/Object") ∈ lw_tbl := lw_at lw_m9 7 rfl
theorem q2058 : (Jvm.Cond.castable "[Z" "java/lang/Object") ∈ lw_tbl := lw_at lw_m9 8 rfl
theorem q139 : (Jvm.Cond.initialized "java/lang/System") ∈ lw_all := lw_g (lw_at lw_m1 9 rfl) rfl
theorem q325 : (Jvm.Cond.static ({ cls := "java/lang/System", name := "arraycopy", desc := "(Ljava/lang/Object;ILjava/lang/Object;II)V" } : Jvm.MethodName)) ∈ lw_all := lw_g (lw_at lw_m1 195 rfl) rfl
theorem q326 : (Jvm.Cond.native ({ cls := "java/lang/System", name := "arraycopy", desc := "(Ljava/lang/Object;ILjava/lang/Object;II)V" } : Jvm.MethodName)) ∈ lw_all := lw_g (lw_at lw_m1 196 rfl) rfl
theorem q212 : (Jvm.Cond.arrayClass Jvm.ClassFile.FieldType.byte) ∈ lw_all := lw_g (lw_at lw_m1 82 rfl) rfl
theorem q549 : (Jvm.Cond.arrayOver (Jvm.ClassFile.FieldType.object "WireSchemas$Field")) ∈ lw_tbl := lw_at lw_m2 179 rfl
theorem q591 : (Jvm.Cond.arrayClass Jvm.ClassFile.FieldType.int) ∈ lw_all := lw_g (lw_at lw_m2 221 rfl) rfl
theorem q644 : (Jvm.Cond.arrayOver (Jvm.ClassFile.FieldType.object "java/lang/Object")) ∈ lw_tbl := lw_at lw_m3 34 rfl
theorem q1602 : (Jvm.Cond.arrayClass Jvm.ClassFile.FieldType.boolean) ∈ lw_all := lw_g (lw_at lw_m7 32 rfl) rfl
