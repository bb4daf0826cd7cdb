set_option maxRecDepth 100000
def RJ0 : String := "java/lang/Integer"
abbrev cJ0_bitCount : ByteArray := prog_21_method_49_code
def yJ0_bitCount : MethodName := ⟨RJ0, "bitCount", "(I)I"⟩
theorem q60 : (Jvm.Cond.initialized "java/lang/Integer") ∈ lw_all := lw_g (lw_at lw_m1 12 rfl) rfl
theorem q360 : (Jvm.Cond.static ({ cls := "java/lang/Integer", name := "bitCount", desc := "(I)I" } : Jvm.MethodName)) ∈ lw_all := lw_g (lw_at lw_m2 72 rfl) rfl
theorem q361 : (Jvm.Cond.code ({ cls := "java/lang/Integer", name := "bitCount", desc := "(I)I" } : Jvm.MethodName) prog_21_method_49_code (1 : Nat) (Option.some Jvm.ClassFile.FieldType.int)) ∈ lw_all := lw_g (lw_at lw_m2 73 rfl) rfl
theorem q362 : (Jvm.Cond.constant "java/lang/Integer" (265 : Nat) (1431655765 : Int32)) ∈ lw_all := lw_g (lw_at lw_m2 74 rfl) rfl
theorem q363 : (Jvm.Cond.constant "java/lang/Integer" (266 : Nat) (858993459 : Int32)) ∈ lw_all := lw_g (lw_at lw_m2 75 rfl) rfl
theorem q364 : (Jvm.Cond.constant "java/lang/Integer" (267 : Nat) (252645135 : Int32)) ∈ lw_all := lw_g (lw_at lw_m2 76 rfl) rfl
def RJ1 : String := "java/lang/Math"
abbrev cJ1_max : ByteArray := prog_22_method_65_code
def yJ1_max : MethodName := ⟨RJ1, "max", "(II)I"⟩
abbrev cJ1_min : ByteArray := prog_22_method_69_code
def yJ1_min : MethodName := ⟨RJ1, "min", "(II)I"⟩
abbrev cJ1_abs : ByteArray := prog_22_method_59_code
def yJ1_abs : MethodName := ⟨RJ1, "abs", "(I)I"⟩
theorem q61 : (Jvm.Cond.initialized "java/lang/Math") ∈ lw_all := lw_g (lw_at lw_m1 13 rfl) rfl
theorem q452 : (Jvm.Cond.static ({ cls := "java/lang/Math", name := "max", desc := "(II)I" } : Jvm.MethodName)) ∈ lw_all := lw_g (lw_at lw_m2 164 rfl) rfl
theorem q453 : (Jvm.Cond.code ({ cls := "java/lang/Math", name := "max", desc := "(II)I" } : Jvm.MethodName) prog_22_method_65_code (2 : Nat) (Option.some Jvm.ClassFile.FieldType.int)) ∈ lw_all := lw_g (lw_at lw_m2 165 rfl) rfl
theorem q796 : (Jvm.Cond.static ({ cls := "java/lang/Math", name := "min", desc := "(II)I" } : Jvm.MethodName)) ∈ lw_all := lw_g (lw_at lw_m4 28 rfl) rfl
theorem q797 : (Jvm.Cond.code ({ cls := "java/lang/Math", name := "min", desc := "(II)I" } : Jvm.MethodName) prog_22_method_69_code (2 : Nat) (Option.some Jvm.ClassFile.FieldType.int)) ∈ lw_all := lw_g (lw_at lw_m4 29 rfl) rfl
theorem q961 : (Jvm.Cond.static ({ cls := "java/lang/Math", name := "abs", desc := "(I)I" } : Jvm.MethodName)) ∈ lw_all := lw_g (lw_at lw_m4 193 rfl) rfl
theorem q962 : (Jvm.Cond.code ({ cls := "java/lang/Math", name := "abs", desc := "(I)I" } : Jvm.MethodName) prog_22_method_59_code (1 : Nat) (Option.some Jvm.ClassFile.FieldType.int)) ∈ lw_all := lw_g (lw_at lw_m4 194 rfl) rfl
def RJ2 : String := "java/lang/String"
abbrev cJ2_length : ByteArray := prog_23_method_54_code
def yJ2_length : MethodName := ⟨RJ2, "length", "()I"⟩
abbrev cJ2_coder : ByteArray := prog_23_method_152_code
def yJ2_coder : MethodName := ⟨RJ2, "coder", "()B"⟩
abbrev cJ2_charAt : ByteArray := prog_23_method_56_code
def yJ2_charAt : MethodName := ⟨RJ2, "charAt", "(I)C"⟩
abbrev cJ2_isLatin1 : ByteArray := prog_23_method_154_code
def yJ2_isLatin1 : MethodName := ⟨RJ2, "isLatin1", "()Z"⟩
abbrev cJ2_checkIndex : ByteArray := prog_23_method_155_code
def yJ2_checkIndex : MethodName := ⟨RJ2, "checkIndex", "(II)V"⟩
theorem q62 : (Jvm.Cond.initialized "java/lang/String") ∈ lw_all := lw_g (lw_at lw_m1 14 rfl) rfl
theorem q514 : (Jvm.Cond.instanceMethod ({ cls := "java/lang/String", name := "length", desc := "()I" } : Jvm.MethodName)) ∈ lw_all := lw_g (lw_at lw_m2 226 rfl) rfl
theorem q515 : (Jvm.Cond.selects "java/lang/String" ({ cls := "java/lang/String", name := "length", desc := "()I" } : Jvm.MethodName) ({ cls := "java/lang/String", name := "length", desc := "()I" } : Jvm.MethodName)) ∈ lw_all := lw_g (lw_at lw_m2 227 rfl) rfl
theorem q516 : (Jvm.Cond.code ({ cls := "java/lang/String", name := "length", desc := "()I" } : Jvm.MethodName) prog_23_method_54_code (1 : Nat) (Option.some Jvm.ClassFile.FieldType.int)) ∈ lw_all := lw_g (lw_at lw_m2 228 rfl) rfl
theorem q517 : (Jvm.Cond.methodLink "java/lang/String" (335 : Nat) ({ cls := "java/lang/String", name := "coder", desc := "()B" } : Jvm.MethodName)) ∈ lw_all := lw_g (lw_at lw_m2 229 rfl) rfl
theorem q518 : (Jvm.Cond.instanceMethod ({ cls := "java/lang/String", name := "coder", desc := "()B" } : Jvm.MethodName)) ∈ lw_all := lw_g (lw_at lw_m2 230 rfl) rfl
theorem q519 : (Jvm.Cond.selects "java/lang/String" ({ cls := "java/lang/String", name := "coder", desc := "()B" } : Jvm.MethodName) ({ cls := "java/lang/String", name := "coder", desc := "()B" } : Jvm.MethodName)) ∈ lw_all := lw_g (lw_at lw_m2 231 rfl) rfl
theorem q520 : (Jvm.Cond.code ({ cls := "java/lang/String", name := "coder", desc := "()B" } : Jvm.MethodName) prog_23_method_152_code (1 : Nat) (Option.some Jvm.ClassFile.FieldType.byte)) ∈ lw_all := lw_g (lw_at lw_m2 232 rfl) rfl
theorem q521 : (Jvm.Cond.fieldLink "java/lang/String" (38 : Nat) "java/lang/String" "COMPACT_STRINGS" "Z") ∈ lw_all := lw_g (lw_at lw_m2 233 rfl) rfl
theorem q522 : (Jvm.Cond.laysStatic "java/lang/String" "COMPACT_STRINGS" "Z") ∈ lw_tbl := lw_at lw_m2 234 rfl
theorem q524 : (Jvm.Cond.instanceMethod ({ cls := "java/lang/String", name := "charAt", desc := "(I)C" } : Jvm.MethodName)) ∈ lw_all := lw_g (lw_at lw_m2 236 rfl) rfl
theorem q525 : (Jvm.Cond.selects "java/lang/String" ({ cls := "java/lang/String", name := "charAt", desc := "(I)C" } : Jvm.MethodName) ({ cls := "java/lang/String", name := "charAt", desc := "(I)C" } : Jvm.MethodName)) ∈ lw_all := lw_g (lw_at lw_m2 237 rfl) rfl
theorem q526 : (Jvm.Cond.code ({ cls := "java/lang/String", name := "charAt", desc := "(I)C" } : Jvm.MethodName) prog_23_method_56_code (2 : Nat) (Option.some Jvm.ClassFile.FieldType.char)) ∈ lw_all := lw_g (lw_at lw_m2 238 rfl) rfl
theorem q527 : (Jvm.Cond.methodLink "java/lang/String" (492 : Nat) ({ cls := "java/lang/String", name := "isLatin1", desc := "()Z" } : Jvm.MethodName)) ∈ lw_all := lw_g (lw_at lw_m2 239 rfl) rfl
theorem q528 : (Jvm.Cond.instanceMethod ({ cls := "java/lang/String", name := "isLatin1", desc := "()Z" } : Jvm.MethodName)) ∈ lw_all := lw_g (lw_at lw_m3 0 rfl) rfl
theorem q529 : (Jvm.Cond.selects "java/lang/String" ({ cls := "java/lang/String", name := "isLatin1", desc := "()Z" } : Jvm.MethodName) ({ cls := "java/lang/String", name := "isLatin1", desc := "()Z" } : Jvm.MethodName)) ∈ lw_all := lw_g (lw_at lw_m3 1 rfl) rfl
theorem q530 : (Jvm.Cond.code ({ cls := "java/lang/String", name := "isLatin1", desc := "()Z" } : Jvm.MethodName) prog_23_method_154_code (1 : Nat) (Option.some Jvm.ClassFile.FieldType.boolean)) ∈ lw_all := lw_g (lw_at lw_m3 2 rfl) rfl
theorem q531 : (Jvm.Cond.methodLink "java/lang/String" (495 : Nat) ({ cls := "java/lang/StringLatin1", name := "charAt", desc := "([BI)C" } : Jvm.MethodName)) ∈ lw_all := lw_g (lw_at lw_m3 3 rfl) rfl
theorem q535 : (Jvm.Cond.static ({ cls := "java/lang/String", name := "checkIndex", desc := "(II)V" } : Jvm.MethodName)) ∈ lw_all := lw_g (lw_at lw_m3 7 rfl) rfl
theorem q536 : (Jvm.Cond.code ({ cls := "java/lang/String", name := "checkIndex", desc := "(II)V" } : Jvm.MethodName) prog_23_method_155_code (2 : Nat) (Option.none : Option Jvm.ClassFile.FieldType)) ∈ lw_all := lw_g (lw_at lw_m3 8 rfl) rfl
theorem q537 : (Jvm.Cond.fieldLink "java/lang/String" (1053 : Nat) "jdk/internal/util/Preconditions" "SIOOBE_FORMATTER" "Ljava/util/function/BiFunction;") ∈ lw_all := lw_g (lw_at lw_m3 9 rfl) rfl
theorem q539 : (Jvm.Cond.methodLink "java/lang/String" (1059 : Nat) ({ cls := "jdk/internal/util/Preconditions", name := "checkIndex", desc := "(IILjava/util/function/BiFunction;)I" } : Jvm.MethodName)) ∈ lw_all := lw_g (lw_at lw_m3 11 rfl) rfl
theorem q542 : (Jvm.Cond.methodLink "java/lang/String" (498 : Nat) ({ cls := "java/lang/StringUTF16", name := "charAt", desc := "([BI)C" } : Jvm.MethodName)) ∈ lw_all := lw_g (lw_at lw_m3 14 rfl) rfl
theorem q1376 : (Jvm.Cond.fieldLink "java/lang/String" (9 : Nat) "java/lang/String" "value" "[B") ∈ lw_all := lw_g (lw_at lw_m6 128 rfl) rfl
theorem q1377 : (Jvm.Cond.fieldLink "java/lang/String" (15 : Nat) "java/lang/String" "coder" "B") ∈ lw_all := lw_g (lw_at lw_m6 129 rfl) rfl
def RJ3 : String := "java/lang/StringLatin1"
abbrev cJ3_charAt : ByteArray := prog_24_method_2_code
def yJ3_charAt : MethodName := ⟨RJ3, "charAt", "([BI)C"⟩
theorem q63 : (Jvm.Cond.initialized "java/lang/StringLatin1") ∈ lw_all := lw_g (lw_at lw_m1 15 rfl) rfl
theorem q532 : (Jvm.Cond.static ({ cls := "java/lang/StringLatin1", name := "charAt", desc := "([BI)C" } : Jvm.MethodName)) ∈ lw_all := lw_g (lw_at lw_m3 4 rfl) rfl
theorem q533 : (Jvm.Cond.code ({ cls := "java/lang/StringLatin1", name := "charAt", desc := "([BI)C" } : Jvm.MethodName) prog_24_method_2_code (2 : Nat) (Option.some Jvm.ClassFile.FieldType.char)) ∈ lw_all := lw_g (lw_at lw_m3 5 rfl) rfl
theorem q534 : (Jvm.Cond.methodLink "java/lang/StringLatin1" (9 : Nat) ({ cls := "java/lang/String", name := "checkIndex", desc := "(II)V" } : Jvm.MethodName)) ∈ lw_all := lw_g (lw_at lw_m3 6 rfl) rfl
def RJ4 : String := "jdk/internal/util/Preconditions"
abbrev cJ4_checkIndex : ByteArray := prog_30_method_11_code
def yJ4_checkIndex : MethodName := ⟨RJ4, "checkIndex", "(IILjava/util/function/BiFunction;)I"⟩
theorem q64 : (Jvm.Cond.initialized "jdk/internal/util/Preconditions") ∈ lw_all := lw_g (lw_at lw_m1 16 rfl) rfl
theorem q538 : (Jvm.Cond.laysStatic "jdk/internal/util/Preconditions" "SIOOBE_FORMATTER" "Ljava/util/function/BiFunction;") ∈ lw_tbl := lw_at lw_m3 10 rfl
theorem q540 : (Jvm.Cond.static ({ cls := "jdk/internal/util/Preconditions", name := "checkIndex", desc := "(IILjava/util/function/BiFunction;)I" } : Jvm.MethodName)) ∈ lw_all := lw_g (lw_at lw_m3 12 rfl) rfl
theorem q541 : (Jvm.Cond.code ({ cls := "jdk/internal/util/Preconditions", name := "checkIndex", desc := "(IILjava/util/function/BiFunction;)I" } : Jvm.MethodName) prog_30_method_11_code (3 : Nat) (Option.some Jvm.ClassFile.FieldType.int)) ∈ lw_all := lw_g (lw_at lw_m3 13 rfl) rfl
def RJ6 : String := "java/lang/Throwable"
def TJ6 : u_T := fun k => match k with
  | 0 => ("java/lang/Throwable", "cause", "Ljava/lang/Throwable;", false)
  | 1 => ("java/lang/Throwable", "stackTrace", "[Ljava/lang/StackTraceElement;", false)
  | 2 => ("java/lang/Throwable", "suppressedExceptions", "Ljava/util/List;", false)
  | 3 => ("java/lang/Throwable", "detailMessage", "Ljava/lang/String;", false)
  | _ => ("java/lang/Throwable", "backtrace", "Ljava/lang/Object;", false)
def tyJ6 : Nat → FieldType := fun k => match k with
  | 0 => .object "java/lang/Throwable"
  | 1 => .array (.object "java/lang/StackTraceElement")
  | 2 => .object "java/util/List"
  | 3 => .object "java/lang/String"
  | _ => .object "java/lang/Object"
abbrev wsJ60 : List Cond := u_ws RJ6 TJ6 5
theorem nmJ6 : ∀ a, a < 5 → ∀ b, b < 5 → a ≠ b → (TJ6 a).2.1 ≠ (TJ6 b).2.1 := by decide +kernel
theorem tyJ6_ok : ∀ k, k < 5 → parseFieldDescriptor (TJ6 k).2.2.1 = some (tyJ6 k) := by decide +kernel
abbrev cJ6_init : ByteArray := prog_27_method_1_code
def yJ6_init : MethodName := ⟨RJ6, "<init>", "()V"⟩
abbrev cJ6_init_2 : ByteArray := prog_27_method_5_code
def yJ6_init_2 : MethodName := ⟨RJ6, "<init>", "(Ljava/lang/String;Ljava/lang/Throwable;ZZ)V"⟩
theorem q66 : (Jvm.Cond.initialized "java/lang/Throwable") ∈ lw_all := lw_g (lw_at lw_m1 18 rfl) rfl
theorem q574 : (Jvm.Cond.declares ({ cls := "java/lang/Throwable", name := "<init>", desc := "()V" } : Jvm.MethodName)) ∈ lw_tbl := lw_at lw_m3 46 rfl
theorem q575 : (Jvm.Cond.declares ({ cls := "java/lang/Throwable", name := "<init>", desc := "(Ljava/lang/String;)V" } : Jvm.MethodName)) ∈ lw_tbl := lw_at lw_m3 47 rfl
theorem q579 : (Jvm.Cond.lays "java/lang/Throwable" "java/lang/Throwable" "cause" "Ljava/lang/Throwable;") ∈ lw_all := lw_g (lw_at lw_m3 51 rfl) rfl
theorem q581 : (Jvm.Cond.lays "java/lang/Throwable" "java/lang/Throwable" "stackTrace" "[Ljava/lang/StackTraceElement;") ∈ lw_all := lw_g (lw_at lw_m3 53 rfl) rfl
theorem q583 : (Jvm.Cond.lays "java/lang/Throwable" "java/lang/Throwable" "suppressedExceptions" "Ljava/util/List;") ∈ lw_all := lw_g (lw_at lw_m3 55 rfl) rfl
theorem q585 : (Jvm.Cond.lays "java/lang/Throwable" "java/lang/Throwable" "detailMessage" "Ljava/lang/String;") ∈ lw_all := lw_g (lw_at lw_m3 57 rfl) rfl
theorem q587 : (Jvm.Cond.lays "java/lang/Throwable" "java/lang/Throwable" "backtrace" "Ljava/lang/Object;") ∈ lw_all := lw_g (lw_at lw_m3 59 rfl) rfl
theorem q588 : (Jvm.Cond.fieldLink "java/lang/Throwable" (198 : Nat) "java/lang/Throwable" "backtrace" "Ljava/lang/Object;") ∈ lw_all := lw_g (lw_at lw_m3 60 rfl) rfl
theorem q589 : (Jvm.Cond.superclass "java/lang/Throwable" "java/lang/Object") ∈ lw_all := lw_g (lw_at lw_m3 61 rfl) rfl
theorem q590 : (Jvm.Cond.instanceMethod ({ cls := "java/lang/Throwable", name := "<init>", desc := "()V" } : Jvm.MethodName)) ∈ lw_all := lw_g (lw_at lw_m3 62 rfl) rfl
theorem q591 : (Jvm.Cond.code ({ cls := "java/lang/Throwable", name := "<init>", desc := "()V" } : Jvm.MethodName) prog_27_method_1_code (1 : Nat) (Option.none : Option Jvm.ClassFile.FieldType)) ∈ lw_all := lw_g (lw_at lw_m3 63 rfl) rfl
theorem q592 : (Jvm.Cond.methodLink "java/lang/Throwable" (1 : Nat) ({ cls := "java/lang/Object", name := "<init>", desc := "()V" } : Jvm.MethodName)) ∈ lw_all := lw_g (lw_at lw_m3 64 rfl) rfl
theorem q593 : (Jvm.Cond.fieldLink "java/lang/Throwable" (13 : Nat) "java/lang/Throwable" "UNASSIGNED_STACK" "[Ljava/lang/StackTraceElement;") ∈ lw_all := lw_g (lw_at lw_m3 65 rfl) rfl
theorem q594 : (Jvm.Cond.laysStatic "java/lang/Throwable" "UNASSIGNED_STACK" "[Ljava/lang/StackTraceElement;") ∈ lw_tbl := lw_at lw_m3 66 rfl
theorem q595 : (Jvm.Cond.fieldLink "java/lang/Throwable" (20 : Nat) "java/lang/Throwable" "SUPPRESSED_SENTINEL" "Ljava/util/List;") ∈ lw_all := lw_g (lw_at lw_m3 67 rfl) rfl
theorem q596 : (Jvm.Cond.laysStatic "java/lang/Throwable" "SUPPRESSED_SENTINEL" "Ljava/util/List;") ∈ lw_tbl := lw_at lw_m3 68 rfl
theorem q597 : (Jvm.Cond.methodLink "java/lang/Throwable" (27 : Nat) ({ cls := "java/lang/Throwable", name := "fillInStackTrace", desc := "()Ljava/lang/Throwable;" } : Jvm.MethodName)) ∈ lw_all := lw_g (lw_at lw_m3 69 rfl) rfl
theorem q598 : (Jvm.Cond.instanceMethod ({ cls := "java/lang/Throwable", name := "fillInStackTrace", desc := "()Ljava/lang/Throwable;" } : Jvm.MethodName)) ∈ lw_all := lw_g (lw_at lw_m3 70 rfl) rfl
theorem q599 : (Jvm.Cond.sameMethod "java/lang/Throwable" "java/lang/Throwable" "fillInStackTrace" "()Ljava/lang/Throwable;") ∈ lw_all := lw_g (lw_at lw_m3 71 rfl) rfl
theorem q600 : (Jvm.Cond.codeSync ({ cls := "java/lang/Throwable", name := "fillInStackTrace", desc := "()Ljava/lang/Throwable;" } : Jvm.MethodName) prog_27_method_18_code (1 : Nat) (Option.some (Jvm.ClassFile.FieldType.object "java/lang/Throwable"))) ∈ lw_all := lw_g (lw_at lw_m3 72 rfl) rfl
theorem q601 : (Jvm.Cond.methodLink "java/lang/Throwable" (202 : Nat) ({ cls := "java/lang/Throwable", name := "fillInStackTrace", desc := "(I)Ljava/lang/Throwable;" } : Jvm.MethodName)) ∈ lw_all := lw_g (lw_at lw_m3 73 rfl) rfl
theorem q602 : (Jvm.Cond.privateMethod ({ cls := "java/lang/Throwable", name := "fillInStackTrace", desc := "(I)Ljava/lang/Throwable;" } : Jvm.MethodName)) ∈ lw_tbl := lw_at lw_m3 74 rfl
theorem q603 : (Jvm.Cond.instanceMethod ({ cls := "java/lang/Throwable", name := "fillInStackTrace", desc := "(I)Ljava/lang/Throwable;" } : Jvm.MethodName)) ∈ lw_all := lw_g (lw_at lw_m3 75 rfl) rfl
theorem q604 : (Jvm.Cond.instantiable "java/lang/Throwable" (6 : Nat)) ∈ lw_all := lw_g (lw_at lw_m3 76 rfl) rfl
theorem q605 : (Jvm.Cond.native ({ cls := "java/lang/Throwable", name := "fillInStackTrace", desc := "(I)Ljava/lang/Throwable;" } : Jvm.MethodName)) ∈ lw_all := lw_g (lw_at lw_m3 77 rfl) rfl
theorem q614 : (Jvm.Cond.instanceMethod ({ cls := "java/lang/Throwable", name := "<init>", desc := "(Ljava/lang/String;Ljava/lang/Throwable;ZZ)V" } : Jvm.MethodName)) ∈ lw_all := lw_g (lw_at lw_m3 86 rfl) rfl
theorem q615 : (Jvm.Cond.code ({ cls := "java/lang/Throwable", name := "<init>", desc := "(Ljava/lang/String;Ljava/lang/Throwable;ZZ)V" } : Jvm.MethodName) prog_27_method_5_code (5 : Nat) (Option.none : Option Jvm.ClassFile.FieldType)) ∈ lw_all := lw_g (lw_at lw_m3 87 rfl) rfl
theorem q618 : (Jvm.Cond.fieldLink "java/lang/Throwable" (198 : Nat) "java/lang/Throwable" "backtrace" "Ljava/lang/Object;") ∈ lw_all := lw_g (lw_at lw_m3 90 rfl) rfl
theorem q619 : (Jvm.Cond.fieldLink "java/lang/Throwable" (31 : Nat) "java/lang/Throwable" "detailMessage" "Ljava/lang/String;") ∈ lw_all := lw_g (lw_at lw_m3 91 rfl) rfl
theorem q620 : (Jvm.Cond.fieldLink "java/lang/Throwable" (7 : Nat) "java/lang/Throwable" "cause" "Ljava/lang/Throwable;") ∈ lw_all := lw_g (lw_at lw_m3 92 rfl) rfl
theorem q621 : (Jvm.Cond.fieldLink "java/lang/Throwable" (17 : Nat) "java/lang/Throwable" "stackTrace" "[Ljava/lang/StackTraceElement;") ∈ lw_all := lw_g (lw_at lw_m3 93 rfl) rfl
theorem q622 : (Jvm.Cond.fieldLink "java/lang/Throwable" (24 : Nat) "java/lang/Throwable" "suppressedExceptions" "Ljava/util/List;") ∈ lw_all := lw_g (lw_at lw_m3 94 rfl) rfl
theorem q625 : (Jvm.Cond.soleField "java/lang/Throwable" "backtrace") ∈ lw_all := lw_g (lw_at lw_m3 97 rfl) rfl
theorem q626 : (Jvm.Cond.soleField "java/lang/Throwable" "detailMessage") ∈ lw_all := lw_g (lw_at lw_m3 98 rfl) rfl
theorem q627 : (Jvm.Cond.soleField "java/lang/Throwable" "cause") ∈ lw_all := lw_g (lw_at lw_m3 99 rfl) rfl
theorem q628 : (Jvm.Cond.soleField "java/lang/Throwable" "stackTrace") ∈ lw_all := lw_g (lw_at lw_m3 100 rfl) rfl
theorem q630 : (Jvm.Cond.soleField "java/lang/Throwable" "depth") ∈ lw_all := lw_g (lw_at lw_m3 102 rfl) rfl
theorem q631 : (Jvm.Cond.soleField "java/lang/Throwable" "suppressedExceptions") ∈ lw_all := lw_g (lw_at lw_m3 103 rfl) rfl
theorem q1366 : (Jvm.Cond.sameMethod "java/lang/Throwable" "java/lang/Throwable" "fillInStackTrace" "(I)Ljava/lang/Throwable;") ∈ lw_all := lw_g (lw_at lw_m6 118 rfl) rfl
theorem in_J6 : ∀ w ∈ wsJ60, w ∈ lw_all := lw_in wsJ60 [579, 581, 583, 585, 587] (by decide +kernel) (by decide +kernel)
def RJ7 : String := "java/lang/Exception"
abbrev cJ7_init : ByteArray := prog_20_method_5_code
def yJ7_init : MethodName := ⟨RJ7, "<init>", "(Ljava/lang/String;Ljava/lang/Throwable;ZZ)V"⟩
theorem q67 : (Jvm.Cond.initialized "java/lang/Exception") ∈ lw_all := lw_g (lw_at lw_m1 19 rfl) rfl
theorem q572 : (Jvm.Cond.declares ({ cls := "java/lang/Exception", name := "<init>", desc := "()V" } : Jvm.MethodName)) ∈ lw_tbl := lw_at lw_m3 44 rfl
theorem q573 : (Jvm.Cond.declares ({ cls := "java/lang/Exception", name := "<init>", desc := "(Ljava/lang/String;)V" } : Jvm.MethodName)) ∈ lw_tbl := lw_at lw_m3 45 rfl
theorem q611 : (Jvm.Cond.instanceMethod ({ cls := "java/lang/Exception", name := "<init>", desc := "(Ljava/lang/String;Ljava/lang/Throwable;ZZ)V" } : Jvm.MethodName)) ∈ lw_all := lw_g (lw_at lw_m3 83 rfl) rfl
theorem q612 : (Jvm.Cond.code ({ cls := "java/lang/Exception", name := "<init>", desc := "(Ljava/lang/String;Ljava/lang/Throwable;ZZ)V" } : Jvm.MethodName) prog_20_method_5_code (5 : Nat) (Option.none : Option Jvm.ClassFile.FieldType)) ∈ lw_all := lw_g (lw_at lw_m3 84 rfl) rfl
theorem q613 : (Jvm.Cond.methodLink "java/lang/Exception" (16 : Nat) ({ cls := "java/lang/Throwable", name := "<init>", desc := "(Ljava/lang/String;Ljava/lang/Throwable;ZZ)V" } : Jvm.MethodName)) ∈ lw_all := lw_g (lw_at lw_m3 85 rfl) rfl
def RJ8 : String := "java/util/Arrays"
abbrev cJ8_sort : ByteArray := prog_28_method_3_code
def yJ8_sort : MethodName := ⟨RJ8, "sort", "([III)V"⟩
abbrev cJ8_rangeCheck : ByteArray := prog_28_method_30_code
def yJ8_rangeCheck : MethodName := ⟨RJ8, "rangeCheck", "(III)V"⟩
abbrev cJ8_copyOf : ByteArray := prog_28_method_123_code
def yJ8_copyOf : MethodName := ⟨RJ8, "copyOf", "([II)[I"⟩
theorem q74 : (Jvm.Cond.initialized "java/util/Arrays") ∈ lw_all := lw_g (lw_at lw_m1 26 rfl) rfl
theorem q765 : (Jvm.Cond.static ({ cls := "java/util/Arrays", name := "sort", desc := "([III)V" } : Jvm.MethodName)) ∈ lw_all := lw_g (lw_at lw_m3 237 rfl) rfl
theorem q766 : (Jvm.Cond.code ({ cls := "java/util/Arrays", name := "sort", desc := "([III)V" } : Jvm.MethodName) prog_28_method_3_code (3 : Nat) (Option.none : Option Jvm.ClassFile.FieldType)) ∈ lw_all := lw_g (lw_at lw_m3 238 rfl) rfl
theorem q767 : (Jvm.Cond.methodLink "java/util/Arrays" (13 : Nat) ({ cls := "java/util/Arrays", name := "rangeCheck", desc := "(III)V" } : Jvm.MethodName)) ∈ lw_all := lw_g (lw_at lw_m3 239 rfl) rfl
theorem q768 : (Jvm.Cond.static ({ cls := "java/util/Arrays", name := "rangeCheck", desc := "(III)V" } : Jvm.MethodName)) ∈ lw_all := lw_g (lw_at lw_m4 0 rfl) rfl
theorem q769 : (Jvm.Cond.code ({ cls := "java/util/Arrays", name := "rangeCheck", desc := "(III)V" } : Jvm.MethodName) prog_28_method_30_code (3 : Nat) (Option.none : Option Jvm.ClassFile.FieldType)) ∈ lw_all := lw_g (lw_at lw_m4 1 rfl) rfl
theorem q770 : (Jvm.Cond.methodLink "java/util/Arrays" (7 : Nat) ({ cls := "java/util/DualPivotQuicksort", name := "sort", desc := "([IIII)V" } : Jvm.MethodName)) ∈ lw_all := lw_g (lw_at lw_m4 2 rfl) rfl
theorem q786 : (Jvm.Cond.static ({ cls := "java/util/Arrays", name := "copyOf", desc := "([II)[I" } : Jvm.MethodName)) ∈ lw_all := lw_g (lw_at lw_m4 18 rfl) rfl
theorem q787 : (Jvm.Cond.code ({ cls := "java/util/Arrays", name := "copyOf", desc := "([II)[I" } : Jvm.MethodName) prog_28_method_123_code (3 : Nat) (Option.some (Jvm.ClassFile.FieldType.array Jvm.ClassFile.FieldType.int))) ∈ lw_all := lw_g (lw_at lw_m4 19 rfl) rfl
theorem q788 : (Jvm.Cond.methodLink "java/util/Arrays" (316 : Nat) ({ cls := "[I", name := "clone", desc := "()Ljava/lang/Object;" } : Jvm.MethodName)) ∈ lw_all := lw_g (lw_at lw_m4 20 rfl) rfl
theorem q794 : (Jvm.Cond.classLink "java/util/Arrays" (317 : Nat) "[I") ∈ lw_all := lw_g (lw_at lw_m4 26 rfl) rfl
theorem q795 : (Jvm.Cond.methodLink "java/util/Arrays" (304 : Nat) ({ cls := "java/lang/Math", name := "min", desc := "(II)I" } : Jvm.MethodName)) ∈ lw_all := lw_g (lw_at lw_m4 27 rfl) rfl
theorem q798 : (Jvm.Cond.methodLink "java/util/Arrays" (150 : Nat) ({ cls := "java/lang/System", name := "arraycopy", desc := "(Ljava/lang/Object;ILjava/lang/Object;II)V" } : Jvm.MethodName)) ∈ lw_all := lw_g (lw_at lw_m4 30 rfl) rfl
def RJ9 : String := "java/util/DualPivotQuicksort"
abbrev cJ9_sort : ByteArray := prog_29_method_3_code
def yJ9_sort : MethodName := ⟨RJ9, "sort", "([IIII)V"⟩
abbrev cJ9_sort_2 : ByteArray := prog_29_method_4_code
def yJ9_sort_2 : MethodName := ⟨RJ9, "sort", "(Ljava/util/DualPivotQuicksort$Sorter;[IIII)V"⟩
abbrev cJ9_mixedInsertionSort : ByteArray := prog_29_method_5_code
def yJ9_mixedInsertionSort : MethodName := ⟨RJ9, "mixedInsertionSort", "([IIII)V"⟩
abbrev cJ9_insertionSort : ByteArray := prog_29_method_6_code
def yJ9_insertionSort : MethodName := ⟨RJ9, "insertionSort", "([III)V"⟩
abbrev cJ9_tryMergeRuns : ByteArray := prog_29_method_9_code
def yJ9_tryMergeRuns : MethodName := ⟨RJ9, "tryMergeRuns", "(Ljava/util/DualPivotQuicksort$Sorter;[III)Z"⟩
abbrev cJ9_mergeRuns : ByteArray := prog_29_method_10_code
def yJ9_mergeRuns : MethodName := ⟨RJ9, "mergeRuns", "([I[IIIZ[III)[I"⟩
abbrev cJ9_mergeParts : ByteArray := prog_29_method_11_code
def yJ9_mergeParts : MethodName := ⟨RJ9, "mergeParts", "(Ljava/util/DualPivotQuicksort$Merger;[II[III[III)V"⟩
abbrev cJ9_heapSort : ByteArray := prog_29_method_7_code
def yJ9_heapSort : MethodName := ⟨RJ9, "heapSort", "([III)V"⟩
abbrev cJ9_pushDown : ByteArray := prog_29_method_8_code
def yJ9_pushDown : MethodName := ⟨RJ9, "pushDown", "([IIIII)V"⟩
theorem q75 : (Jvm.Cond.initialized "java/util/DualPivotQuicksort") ∈ lw_all := lw_g (lw_at lw_m1 27 rfl) rfl
theorem q771 : (Jvm.Cond.static ({ cls := "java/util/DualPivotQuicksort", name := "sort", desc := "([IIII)V" } : Jvm.MethodName)) ∈ lw_all := lw_g (lw_at lw_m4 3 rfl) rfl
theorem q772 : (Jvm.Cond.code ({ cls := "java/util/DualPivotQuicksort", name := "sort", desc := "([IIII)V" } : Jvm.MethodName) prog_29_method_3_code (7 : Nat) (Option.none : Option Jvm.ClassFile.FieldType)) ∈ lw_all := lw_g (lw_at lw_m4 4 rfl) rfl
theorem q773 : (Jvm.Cond.methodLink "java/util/DualPivotQuicksort" (26 : Nat) ({ cls := "java/util/DualPivotQuicksort", name := "sort", desc := "(Ljava/util/DualPivotQuicksort$Sorter;[IIII)V" } : Jvm.MethodName)) ∈ lw_all := lw_g (lw_at lw_m4 5 rfl) rfl
theorem q774 : (Jvm.Cond.static ({ cls := "java/util/DualPivotQuicksort", name := "sort", desc := "(Ljava/util/DualPivotQuicksort$Sorter;[IIII)V" } : Jvm.MethodName)) ∈ lw_all := lw_g (lw_at lw_m4 6 rfl) rfl
theorem q775 : (Jvm.Cond.code ({ cls := "java/util/DualPivotQuicksort", name := "sort", desc := "(Ljava/util/DualPivotQuicksort$Sorter;[IIII)V" } : Jvm.MethodName) prog_29_method_4_code (21 : Nat) (Option.none : Option Jvm.ClassFile.FieldType)) ∈ lw_all := lw_g (lw_at lw_m4 7 rfl) rfl
theorem q776 : (Jvm.Cond.methodLink "java/util/DualPivotQuicksort" (30 : Nat) ({ cls := "java/util/DualPivotQuicksort", name := "mixedInsertionSort", desc := "([IIII)V" } : Jvm.MethodName)) ∈ lw_all := lw_g (lw_at lw_m4 8 rfl) rfl
theorem q777 : (Jvm.Cond.static ({ cls := "java/util/DualPivotQuicksort", name := "mixedInsertionSort", desc := "([IIII)V" } : Jvm.MethodName)) ∈ lw_all := lw_g (lw_at lw_m4 9 rfl) rfl
theorem q778 : (Jvm.Cond.code ({ cls := "java/util/DualPivotQuicksort", name := "mixedInsertionSort", desc := "([IIII)V" } : Jvm.MethodName) prog_29_method_5_code (8 : Nat) (Option.none : Option Jvm.ClassFile.FieldType)) ∈ lw_all := lw_g (lw_at lw_m4 10 rfl) rfl
theorem q779 : (Jvm.Cond.methodLink "java/util/DualPivotQuicksort" (34 : Nat) ({ cls := "java/util/DualPivotQuicksort", name := "insertionSort", desc := "([III)V" } : Jvm.MethodName)) ∈ lw_all := lw_g (lw_at lw_m4 11 rfl) rfl
theorem q780 : (Jvm.Cond.static ({ cls := "java/util/DualPivotQuicksort", name := "insertionSort", desc := "([III)V" } : Jvm.MethodName)) ∈ lw_all := lw_g (lw_at lw_m4 12 rfl) rfl
theorem q781 : (Jvm.Cond.code ({ cls := "java/util/DualPivotQuicksort", name := "insertionSort", desc := "([III)V" } : Jvm.MethodName) prog_29_method_6_code (6 : Nat) (Option.none : Option Jvm.ClassFile.FieldType)) ∈ lw_all := lw_g (lw_at lw_m4 13 rfl) rfl
theorem q782 : (Jvm.Cond.methodLink "java/util/DualPivotQuicksort" (38 : Nat) ({ cls := "java/util/DualPivotQuicksort", name := "tryMergeRuns", desc := "(Ljava/util/DualPivotQuicksort$Sorter;[III)Z" } : Jvm.MethodName)) ∈ lw_all := lw_g (lw_at lw_m4 14 rfl) rfl
theorem q783 : (Jvm.Cond.static ({ cls := "java/util/DualPivotQuicksort", name := "tryMergeRuns", desc := "(Ljava/util/DualPivotQuicksort$Sorter;[III)Z" } : Jvm.MethodName)) ∈ lw_all := lw_g (lw_at lw_m4 15 rfl) rfl
theorem q784 : (Jvm.Cond.code ({ cls := "java/util/DualPivotQuicksort", name := "tryMergeRuns", desc := "(Ljava/util/DualPivotQuicksort$Sorter;[III)Z" } : Jvm.MethodName) prog_29_method_9_code (12 : Nat) (Option.some Jvm.ClassFile.FieldType.boolean)) ∈ lw_all := lw_g (lw_at lw_m4 16 rfl) rfl
theorem q785 : (Jvm.Cond.methodLink "java/util/DualPivotQuicksort" (53 : Nat) ({ cls := "java/util/Arrays", name := "copyOf", desc := "([II)[I" } : Jvm.MethodName)) ∈ lw_all := lw_g (lw_at lw_m4 17 rfl) rfl
theorem q801 : (Jvm.Cond.classLink "java/util/DualPivotQuicksort" (63 : Nat) "[I") ∈ lw_all := lw_g (lw_at lw_m4 33 rfl) rfl
theorem q802 : (Jvm.Cond.methodLink "java/util/DualPivotQuicksort" (69 : Nat) ({ cls := "java/util/DualPivotQuicksort", name := "mergeRuns", desc := "([I[IIIZ[III)[I" } : Jvm.MethodName)) ∈ lw_all := lw_g (lw_at lw_m4 34 rfl) rfl
theorem q803 : (Jvm.Cond.static ({ cls := "java/util/DualPivotQuicksort", name := "mergeRuns", desc := "([I[IIIZ[III)[I" } : Jvm.MethodName)) ∈ lw_all := lw_g (lw_at lw_m4 35 rfl) rfl
theorem q804 : (Jvm.Cond.code ({ cls := "java/util/DualPivotQuicksort", name := "mergeRuns", desc := "([I[IIIZ[III)[I" } : Jvm.MethodName) prog_29_method_10_code (18 : Nat) (Option.some (Jvm.ClassFile.FieldType.array Jvm.ClassFile.FieldType.int))) ∈ lw_all := lw_g (lw_at lw_m4 36 rfl) rfl
theorem q805 : (Jvm.Cond.methodLink "java/util/DualPivotQuicksort" (91 : Nat) ({ cls := "java/util/DualPivotQuicksort", name := "mergeParts", desc := "(Ljava/util/DualPivotQuicksort$Merger;[II[III[III)V" } : Jvm.MethodName)) ∈ lw_all := lw_g (lw_at lw_m4 37 rfl) rfl
theorem q806 : (Jvm.Cond.static ({ cls := "java/util/DualPivotQuicksort", name := "mergeParts", desc := "(Ljava/util/DualPivotQuicksort$Merger;[II[III[III)V" } : Jvm.MethodName)) ∈ lw_all := lw_g (lw_at lw_m4 38 rfl) rfl
theorem q807 : (Jvm.Cond.code ({ cls := "java/util/DualPivotQuicksort", name := "mergeParts", desc := "(Ljava/util/DualPivotQuicksort$Merger;[II[III[III)V" } : Jvm.MethodName) prog_29_method_11_code (14 : Nat) (Option.none : Option Jvm.ClassFile.FieldType)) ∈ lw_all := lw_g (lw_at lw_m4 39 rfl) rfl
theorem q808 : (Jvm.Cond.methodLink "java/util/DualPivotQuicksort" (42 : Nat) ({ cls := "java/util/DualPivotQuicksort", name := "heapSort", desc := "([III)V" } : Jvm.MethodName)) ∈ lw_all := lw_g (lw_at lw_m4 40 rfl) rfl
theorem q809 : (Jvm.Cond.static ({ cls := "java/util/DualPivotQuicksort", name := "heapSort", desc := "([III)V" } : Jvm.MethodName)) ∈ lw_all := lw_g (lw_at lw_m4 41 rfl) rfl
theorem q810 : (Jvm.Cond.code ({ cls := "java/util/DualPivotQuicksort", name := "heapSort", desc := "([III)V" } : Jvm.MethodName) prog_29_method_7_code (4 : Nat) (Option.none : Option Jvm.ClassFile.FieldType)) ∈ lw_all := lw_g (lw_at lw_m4 42 rfl) rfl
theorem q811 : (Jvm.Cond.methodLink "java/util/DualPivotQuicksort" (49 : Nat) ({ cls := "java/util/DualPivotQuicksort", name := "pushDown", desc := "([IIIII)V" } : Jvm.MethodName)) ∈ lw_all := lw_g (lw_at lw_m4 43 rfl) rfl
theorem q812 : (Jvm.Cond.static ({ cls := "java/util/DualPivotQuicksort", name := "pushDown", desc := "([IIIII)V" } : Jvm.MethodName)) ∈ lw_all := lw_g (lw_at lw_m4 44 rfl) rfl
theorem q813 : (Jvm.Cond.code ({ cls := "java/util/DualPivotQuicksort", name := "pushDown", desc := "([IIIII)V" } : Jvm.MethodName) prog_29_method_8_code (6 : Nat) (Option.none : Option Jvm.ClassFile.FieldType)) ∈ lw_all := lw_g (lw_at lw_m4 45 rfl) rfl
def RJ10 : String := "java/lang/Object"
abbrev cJ10_init : ByteArray := object_method_1_code
def yJ10_init : MethodName := ⟨RJ10, "<init>", "()V"⟩
theorem q83 : (Jvm.Cond.instanceMethod ({ cls := "java/lang/Object", name := "<init>", desc := "()V" } : Jvm.MethodName)) ∈ lw_all := lw_g (lw_at lw_m1 35 rfl) rfl
theorem q84 : (Jvm.Cond.code ({ cls := "java/lang/Object", name := "<init>", desc := "()V" } : Jvm.MethodName) object_method_1_code (1 : Nat) (Option.none : Option Jvm.ClassFile.FieldType)) ∈ lw_all := lw_g (lw_at lw_m1 36 rfl) rfl
theorem q790 : (Jvm.Cond.native ({ cls := "java/lang/Object", name := "clone", desc := "()Ljava/lang/Object;" } : Jvm.MethodName)) ∈ lw_all := lw_g (lw_at lw_m4 22 rfl) rfl
theorem q791 : (Jvm.Cond.instanceMethod ({ cls := "java/lang/Object", name := "clone", desc := "()Ljava/lang/Object;" } : Jvm.MethodName)) ∈ lw_all := lw_g (lw_at lw_m4 23 rfl) rfl
def RX0 : String := "PalaceOfRooms"
def TX0 : u_T := fun k => match k with
  | 0 => ("PalaceOfRooms", "joined", "[[Z", true)
  | 1 => ("PalaceOfRooms", "doorMany", "I", false)
  | 2 => ("PalaceOfRooms", "markOf", "[I", true)
  | 3 => ("PalaceOfRooms", "tell", "I", false)
  | 4 => ("PalaceOfRooms", "gain", "I", false)
  | 5 => ("PalaceOfRooms", "falls", "[I", true)
  | 6 => ("PalaceOfRooms", "day", "I", false)
  | 7 => ("PalaceOfRooms", "house", "LPalaceOfRooms$House;", true)
  | 8 => ("PalaceOfRooms", "model", "LPalaceOfRooms$House;", true)
  | 9 => ("PalaceOfRooms", "walked", "[I", true)
  | 10 => ("PalaceOfRooms", "lines", "[LPalaceOfRooms$Line;", false)
  | 11 => ("PalaceOfRooms", "lineMany", "I", false)
  | 12 => ("PalaceOfRooms", "text", "[B", true)
  | 13 => ("PalaceOfRooms", "length", "I", false)
  | 14 => ("PalaceOfRooms", "reader", "LPalaceOfRooms$Reader;", true)
  | 15 => ("PalaceOfRooms", "hand", "[I", true)
  | 16 => ("PalaceOfRooms", "alike", "[[I", true)
  | 17 => ("PalaceOfRooms", "laid", "LPalaceOfRooms$Laid;", true)
  | 18 => ("PalaceOfRooms", "code", "LPalaceOfRooms$Code;", true)
  | 19 => ("PalaceOfRooms", "plan", "[I", true)
  | 20 => ("PalaceOfRooms", "costs", "[I", true)
  | _ => ("PalaceOfRooms", "pupils", "[LPalaceOfRooms$Pupil;", true)
def tyX0 : Nat → FieldType := fun k => match k with
  | 0 => .array (.array .boolean)
  | 1 => .int
  | 2 => .array .int
  | 3 => .int
  | 4 => .int
  | 5 => .array .int
  | 6 => .int
  | 7 => .object "PalaceOfRooms$House"
  | 8 => .object "PalaceOfRooms$House"
  | 9 => .array .int
  | 10 => .array (.object "PalaceOfRooms$Line")
  | 11 => .int
  | 12 => .array .byte
  | 13 => .int
  | 14 => .object "PalaceOfRooms$Reader"
  | 15 => .array .int
  | 16 => .array (.array .int)
  | 17 => .object "PalaceOfRooms$Laid"
  | 18 => .object "PalaceOfRooms$Code"
  | 19 => .array .int
  | 20 => .array .int
  | _ => .array (.object "PalaceOfRooms$Pupil")
abbrev wsX00 : List Cond := u_ws RX0 TX0 22
theorem nmX0 : ∀ a, a < 22 → ∀ b, b < 22 → a ≠ b → (TX0 a).2.1 ≠ (TX0 b).2.1 := by decide +kernel
theorem tyX0_ok : ∀ k, k < 22 → parseFieldDescriptor (TX0 k).2.2.1 = some (tyX0 k) := by decide +kernel
abbrev cX0_init : ByteArray := prog_1_method_5_code
def yX0_init : MethodName := ⟨RX0, "<init>", "()V"⟩
abbrev cX0_door : ByteArray := prog_1_method_6_code
def yX0_door : MethodName := ⟨RX0, "door", "(II)I"⟩
abbrev cX0_isRoom : ByteArray := prog_1_method_2_code
def yX0_isRoom : MethodName := ⟨RX0, "isRoom", "(I)Z"⟩
abbrev cX0_isIn : ByteArray := prog_1_method_1_code
def yX0_isIn : MethodName := ⟨RX0, "isIn", "(JJJ)Z"⟩
abbrev cX0_away : ByteArray := prog_1_method_8_code
def yX0_away : MethodName := ⟨RX0, "away", "(II)I"⟩
abbrev cX0_awayOf : ByteArray := prog_1_method_7_code
def yX0_awayOf : MethodName := ⟨RX0, "awayOf", "(II)I"⟩
abbrev cX0_marks : ByteArray := prog_1_method_9_code
def yX0_marks : MethodName := ⟨RX0, "marks", "(II)I"⟩
abbrev cX0_isThing : ByteArray := prog_1_method_4_code
def yX0_isThing : MethodName := ⟨RX0, "isThing", "(I)Z"⟩
abbrev cX0_like : ByteArray := prog_1_method_12_code
def yX0_like : MethodName := ⟨RX0, "like", "(II)I"⟩
abbrev cX0_likeness : ByteArray := prog_1_method_10_code
def yX0_likeness : MethodName := ⟨RX0, "likeness", "(II)I"⟩
abbrev cX0_set : ByteArray := prog_1_method_13_code
def yX0_set : MethodName := ⟨RX0, "set", "(II)I"⟩
abbrev cX0_fall : ByteArray := prog_1_method_14_code
def yX0_fall : MethodName := ⟨RX0, "fall", "(II)I"⟩
abbrev cX0_put : ByteArray := prog_1_method_16_code
def yX0_put : MethodName := ⟨RX0, "put", "(II)I"⟩
abbrev cX0_isCorner : ByteArray := prog_1_method_3_code
def yX0_isCorner : MethodName := ⟨RX0, "isCorner", "(I)Z"⟩
abbrev cX0_whereIs : ByteArray := prog_1_method_15_code
def yX0_whereIs : MethodName := ⟨RX0, "whereIs", "(I)I"⟩
abbrev cX0_clear : ByteArray := prog_1_method_17_code
def yX0_clear : MethodName := ⟨RX0, "clear", "(I)I"⟩
abbrev cX0_corner : ByteArray := prog_1_method_18_code
def yX0_corner : MethodName := ⟨RX0, "corner", "(II)I"⟩
abbrev cX0_where : ByteArray := prog_1_method_19_code
def yX0_where : MethodName := ⟨RX0, "where", "(I)I"⟩
abbrev cX0_days : ByteArray := prog_1_method_20_code
def yX0_days : MethodName := ⟨RX0, "days", "(I)I"⟩
abbrev cX0_isLike : ByteArray := prog_1_method_11_code
def yX0_isLike : MethodName := ⟨RX0, "isLike", "(II)Z"⟩
abbrev cX0_walk : ByteArray := prog_1_method_21_code
def yX0_walk : MethodName := ⟨RX0, "walk", "(I)I"⟩
abbrev cX0_write : ByteArray := prog_1_method_22_code
def yX0_write : MethodName := ⟨RX0, "write", "(JI)I"⟩
abbrev cX0_erase : ByteArray := prog_1_method_23_code
def yX0_erase : MethodName := ⟨RX0, "erase", "()I"⟩
abbrev cX0_fault : ByteArray := prog_1_method_24_code
def yX0_fault : MethodName := ⟨RX0, "fault", "()I"⟩
abbrev cX0_rules : ByteArray := prog_1_method_25_code
def yX0_rules : MethodName := ⟨RX0, "rules", "()I"⟩
abbrev cX0_bars : ByteArray := prog_1_method_28_code
def yX0_bars : MethodName := ⟨RX0, "bars", "(II)I"⟩
abbrev cX0_roomFor : ByteArray := prog_1_method_26_code
def yX0_roomFor : MethodName := ⟨RX0, "roomFor", "(I)I"⟩
abbrev cX0_crowds : ByteArray := prog_1_method_27_code
def yX0_crowds : MethodName := ⟨RX0, "crowds", "(IIII)Z"⟩
abbrev cX0_due : ByteArray := prog_1_method_29_code
def yX0_due : MethodName := ⟨RX0, "due", "()I"⟩
abbrev cX0_laid : ByteArray := prog_1_method_32_code
def yX0_laid : MethodName := ⟨RX0, "laid", "(JII)I"⟩
abbrev cX0_layHand : ByteArray := prog_1_method_30_code
def yX0_layHand : MethodName := ⟨RX0, "layHand", "(JIIII)I"⟩
abbrev cX0_told : ByteArray := prog_1_method_31_code
def yX0_told : MethodName := ⟨RX0, "told", "(LPalaceOfRooms$Orders;II)I"⟩
abbrev cX0_code : ByteArray := prog_1_method_33_code
def yX0_code : MethodName := ⟨RX0, "code", "(JII)I"⟩
abbrev cX0_figures : ByteArray := prog_1_method_34_code
def yX0_figures : MethodName := ⟨RX0, "figures", "(III)I"⟩
abbrev cX0_cost : ByteArray := prog_1_method_36_code
def yX0_cost : MethodName := ⟨RX0, "cost", "(I)I"⟩
abbrev cX0_costOf : ByteArray := prog_1_method_35_code
def yX0_costOf : MethodName := ⟨RX0, "costOf", "(I)I"⟩
abbrev cX0_plan : ByteArray := prog_1_method_42_code
def yX0_plan : MethodName := ⟨RX0, "plan", "(III)I"⟩
abbrev cX0_areMinutes : ByteArray := prog_1_method_38_code
def yX0_areMinutes : MethodName := ⟨RX0, "areMinutes", "(II)Z"⟩
abbrev cX0_minutesOf : ByteArray := prog_1_method_37_code
def yX0_minutesOf : MethodName := ⟨RX0, "minutesOf", "(II)I"⟩
abbrev cX0_layCosts : ByteArray := prog_1_method_40_code
def yX0_layCosts : MethodName := ⟨RX0, "layCosts", "()V"⟩
abbrev cX0_layPlan : ByteArray := prog_1_method_41_code
def yX0_layPlan : MethodName := ⟨RX0, "layPlan", "(II)V"⟩
abbrev cX0_strengthBehind : ByteArray := prog_1_method_39_code
def yX0_strengthBehind : MethodName := ⟨RX0, "strengthBehind", "(II)I"⟩
abbrev cX0_judge : ByteArray := prog_1_method_43_code
def yX0_judge : MethodName := ⟨RX0, "judge", "(III)I"⟩
abbrev cX0_right : ByteArray := prog_1_method_44_code
def yX0_right : MethodName := ⟨RX0, "right", "(II)I"⟩
abbrev cX0_causes : ByteArray := prog_1_method_45_code
def yX0_causes : MethodName := ⟨RX0, "causes", "(II)I"⟩
abbrev cX0_asked : ByteArray := prog_1_method_46_code
def yX0_asked : MethodName := ⟨RX0, "asked", "(II)I"⟩
abbrev cX0_beside : ByteArray := prog_1_method_47_code
def yX0_beside : MethodName := ⟨RX0, "beside", "(II)I"⟩
abbrev cX0_answer : ByteArray := prog_1_method_49_code
def yX0_answer : MethodName := ⟨RX0, "answer", "(IIZ)I"⟩
abbrev cX0_isPupil : ByteArray := prog_1_method_48_code
def yX0_isPupil : MethodName := ⟨RX0, "isPupil", "(I)Z"⟩
abbrev cX0_pupil : ByteArray := prog_1_method_50_code
def yX0_pupil : MethodName := ⟨RX0, "pupil", "(II)I"⟩
abbrev cX0_enough : ByteArray := prog_1_method_51_code
def yX0_enough : MethodName := ⟨RX0, "enough", "(I)I"⟩
abbrev cX0_count : ByteArray := prog_1_method_52_code
def yX0_count : MethodName := ⟨RX0, "count", "(I)I"⟩
theorem q49 : (Jvm.Cond.initialized "PalaceOfRooms") ∈ lw_all := lw_g (lw_at lw_m1 1 rfl) rfl
theorem q78 : (Jvm.Cond.instantiable "PalaceOfRooms" (22 : Nat)) ∈ lw_all := lw_g (lw_at lw_m1 30 rfl) rfl
theorem q80 : (Jvm.Cond.instanceMethod ({ cls := "PalaceOfRooms", name := "<init>", desc := "()V" } : Jvm.MethodName)) ∈ lw_all := lw_g (lw_at lw_m1 32 rfl) rfl
theorem q81 : (Jvm.Cond.code ({ cls := "PalaceOfRooms", name := "<init>", desc := "()V" } : Jvm.MethodName) prog_1_method_5_code (1 : Nat) (Option.none : Option Jvm.ClassFile.FieldType)) ∈ lw_all := lw_g (lw_at lw_m1 33 rfl) rfl
theorem q82 : (Jvm.Cond.methodLink "PalaceOfRooms" (13 : Nat) ({ cls := "java/lang/Object", name := "<init>", desc := "()V" } : Jvm.MethodName)) ∈ lw_all := lw_g (lw_at lw_m1 34 rfl) rfl
theorem q85 : (Jvm.Cond.classLink "PalaceOfRooms" (19 : Nat) "[[Z") ∈ lw_all := lw_g (lw_at lw_m1 37 rfl) rfl
theorem q87 : (Jvm.Cond.classLink "PalaceOfRooms" (38 : Nat) "PalaceOfRooms$House") ∈ lw_all := lw_g (lw_at lw_m1 39 rfl) rfl
theorem q89 : (Jvm.Cond.methodLink "PalaceOfRooms" (40 : Nat) ({ cls := "PalaceOfRooms$House", name := "<init>", desc := "(LPalaceOfRooms;)V" } : Jvm.MethodName)) ∈ lw_all := lw_g (lw_at lw_m1 41 rfl) rfl
theorem q113 : (Jvm.Cond.fieldLink "PalaceOfRooms" (142 : Nat) "PalaceOfRooms$Corner" "thing" "I") ∈ lw_all := lw_g (lw_at lw_m1 65 rfl) rfl
theorem q114 : (Jvm.Cond.fieldLink "PalaceOfRooms" (178 : Nat) "PalaceOfRooms$Ghost" "thing" "I") ∈ lw_all := lw_g (lw_at lw_m1 66 rfl) rfl
theorem q123 : (Jvm.Cond.fieldLink "PalaceOfRooms" (174 : Nat) "PalaceOfRooms$Corner" "strength" "I") ∈ lw_all := lw_g (lw_at lw_m1 75 rfl) rfl
theorem q124 : (Jvm.Cond.fieldLink "PalaceOfRooms" (179 : Nat) "PalaceOfRooms$Ghost" "strength" "I") ∈ lw_all := lw_g (lw_at lw_m1 76 rfl) rfl
theorem q134 : (Jvm.Cond.fieldLinkNest "PalaceOfRooms" (167 : Nat) "PalaceOfRooms$Corner" "ghost" "LPalaceOfRooms$Ghost;" "PalaceOfRooms") ∈ lw_tbl := lw_at lw_m1 86 rfl
theorem q136 : (Jvm.Cond.fieldLinkNest "PalaceOfRooms" (180 : Nat) "PalaceOfRooms$Corner" "put" "I" "PalaceOfRooms") ∈ lw_tbl := lw_at lw_m1 88 rfl
theorem q145 : (Jvm.Cond.fieldLinkNest "PalaceOfRooms" (138 : Nat) "PalaceOfRooms$House" "corners" "[LPalaceOfRooms$Corner;" "PalaceOfRooms") ∈ lw_tbl := lw_at lw_m1 97 rfl
theorem q152 : (Jvm.Cond.classLink "PalaceOfRooms" (53 : Nat) "PalaceOfRooms$Line") ∈ lw_all := lw_g (lw_at lw_m1 104 rfl) rfl
theorem q154 : (Jvm.Cond.classLink "PalaceOfRooms" (63 : Nat) "PalaceOfRooms$Reader") ∈ lw_all := lw_g (lw_at lw_m1 106 rfl) rfl
theorem q156 : (Jvm.Cond.methodLinkNest "PalaceOfRooms" (65 : Nat) ({ cls := "PalaceOfRooms$Reader", name := "<init>", desc := "(LPalaceOfRooms;)V" } : Jvm.MethodName) "PalaceOfRooms") ∈ lw_tbl := lw_at lw_m1 108 rfl
theorem q161 : (Jvm.Cond.fieldLinkNest "PalaceOfRooms" (206 : Nat) "PalaceOfRooms$Reader" "row" "[LPalaceOfRooms$Line;" "PalaceOfRooms") ∈ lw_tbl := lw_at lw_m1 113 rfl
theorem q163 : (Jvm.Cond.fieldLinkNest "PalaceOfRooms" (209 : Nat) "PalaceOfRooms$Reader" "many" "I" "PalaceOfRooms") ∈ lw_tbl := lw_at lw_m1 115 rfl
theorem q182 : (Jvm.Cond.classLink "PalaceOfRooms" (73 : Nat) "[[I") ∈ lw_all := lw_g (lw_at lw_m1 134 rfl) rfl
theorem q184 : (Jvm.Cond.classLink "PalaceOfRooms" (78 : Nat) "PalaceOfRooms$Laid") ∈ lw_all := lw_g (lw_at lw_m1 136 rfl) rfl
theorem q186 : (Jvm.Cond.methodLinkNest "PalaceOfRooms" (80 : Nat) ({ cls := "PalaceOfRooms$Laid", name := "<init>", desc := "(LPalaceOfRooms;)V" } : Jvm.MethodName) "PalaceOfRooms") ∈ lw_tbl := lw_at lw_m1 138 rfl
theorem q196 : (Jvm.Cond.fieldLinkNest "PalaceOfRooms" (250 : Nat) "PalaceOfRooms$Orders" "best" "[I" "PalaceOfRooms") ∈ lw_tbl := lw_at lw_m1 148 rfl
theorem q199 : (Jvm.Cond.fieldLinkNest "PalaceOfRooms" (247 : Nat) "PalaceOfRooms$Orders" "least" "I" "PalaceOfRooms") ∈ lw_tbl := lw_at lw_m1 151 rfl
theorem q214 : (Jvm.Cond.classLink "PalaceOfRooms" (85 : Nat) "PalaceOfRooms$Code") ∈ lw_all := lw_g (lw_at lw_m1 166 rfl) rfl
theorem q216 : (Jvm.Cond.methodLinkNest "PalaceOfRooms" (87 : Nat) ({ cls := "PalaceOfRooms$Code", name := "<init>", desc := "(LPalaceOfRooms;)V" } : Jvm.MethodName) "PalaceOfRooms") ∈ lw_tbl := lw_at lw_m1 168 rfl
theorem q229 : (Jvm.Cond.classLink "PalaceOfRooms" (98 : Nat) "PalaceOfRooms$Pupil") ∈ lw_all := lw_g (lw_at lw_m1 181 rfl) rfl
theorem q232 : (Jvm.Cond.methodLinkNest "PalaceOfRooms" (100 : Nat) ({ cls := "PalaceOfRooms$Pupil", name := "<init>", desc := "()V" } : Jvm.MethodName) "PalaceOfRooms") ∈ lw_tbl := lw_at lw_m1 184 rfl
theorem q237 : (Jvm.Cond.fieldLinkNest "PalaceOfRooms" (307 : Nat) "PalaceOfRooms$Pupil" "days" "[I" "PalaceOfRooms") ∈ lw_tbl := lw_at lw_m1 189 rfl
theorem q239 : (Jvm.Cond.fieldLinkNest "PalaceOfRooms" (310 : Nat) "PalaceOfRooms$Pupil" "rights" "[Z" "PalaceOfRooms") ∈ lw_tbl := lw_at lw_m1 191 rfl
theorem q241 : (Jvm.Cond.fieldLinkNest "PalaceOfRooms" (306 : Nat) "PalaceOfRooms$Pupil" "many" "I" "PalaceOfRooms") ∈ lw_tbl := lw_at lw_m1 193 rfl
theorem q249 : (Jvm.Cond.fieldLink "PalaceOfRooms" (21 : Nat) "PalaceOfRooms" "joined" "[[Z") ∈ lw_all := lw_g (lw_at lw_m1 201 rfl) rfl
theorem q250 : (Jvm.Cond.fieldLink "PalaceOfRooms" (109 : Nat) "PalaceOfRooms" "doorMany" "I") ∈ lw_all := lw_g (lw_at lw_m1 202 rfl) rfl
theorem q251 : (Jvm.Cond.fieldLink "PalaceOfRooms" (24 : Nat) "PalaceOfRooms" "markOf" "[I") ∈ lw_all := lw_g (lw_at lw_m1 203 rfl) rfl
theorem q252 : (Jvm.Cond.fieldLink "PalaceOfRooms" (28 : Nat) "PalaceOfRooms" "tell" "I") ∈ lw_all := lw_g (lw_at lw_m1 204 rfl) rfl
theorem q253 : (Jvm.Cond.fieldLink "PalaceOfRooms" (32 : Nat) "PalaceOfRooms" "gain" "I") ∈ lw_all := lw_g (lw_at lw_m1 205 rfl) rfl
theorem q256 : (Jvm.Cond.fieldLink "PalaceOfRooms" (35 : Nat) "PalaceOfRooms" "falls" "[I") ∈ lw_all := lw_g (lw_at lw_m1 208 rfl) rfl
theorem q257 : (Jvm.Cond.fieldLink "PalaceOfRooms" (153 : Nat) "PalaceOfRooms" "day" "I") ∈ lw_all := lw_g (lw_at lw_m1 209 rfl) rfl
theorem q258 : (Jvm.Cond.fieldLink "PalaceOfRooms" (43 : Nat) "PalaceOfRooms" "house" "LPalaceOfRooms$House;") ∈ lw_all := lw_g (lw_at lw_m1 210 rfl) rfl
theorem q259 : (Jvm.Cond.fieldLink "PalaceOfRooms" (47 : Nat) "PalaceOfRooms" "model" "LPalaceOfRooms$House;") ∈ lw_all := lw_g (lw_at lw_m1 211 rfl) rfl
theorem q260 : (Jvm.Cond.fieldLink "PalaceOfRooms" (50 : Nat) "PalaceOfRooms" "walked" "[I") ∈ lw_all := lw_g (lw_at lw_m1 212 rfl) rfl
theorem q261 : (Jvm.Cond.fieldLink "PalaceOfRooms" (55 : Nat) "PalaceOfRooms" "lines" "[LPalaceOfRooms$Line;") ∈ lw_all := lw_g (lw_at lw_m1 213 rfl) rfl
theorem q262 : (Jvm.Cond.fieldLink "PalaceOfRooms" (212 : Nat) "PalaceOfRooms" "lineMany" "I") ∈ lw_all := lw_g (lw_at lw_m1 214 rfl) rfl
theorem q264 : (Jvm.Cond.fieldLink "PalaceOfRooms" (59 : Nat) "PalaceOfRooms" "text" "[B") ∈ lw_all := lw_g (lw_at lw_m1 216 rfl) rfl
theorem q266 : (Jvm.Cond.fieldLink "PalaceOfRooms" (191 : Nat) "PalaceOfRooms" "length" "I") ∈ lw_all := lw_g (lw_at lw_m1 218 rfl) rfl
theorem q267 : (Jvm.Cond.fieldLink "PalaceOfRooms" (66 : Nat) "PalaceOfRooms" "reader" "LPalaceOfRooms$Reader;") ∈ lw_all := lw_g (lw_at lw_m1 219 rfl) rfl
theorem q270 : (Jvm.Cond.fieldLink "PalaceOfRooms" (70 : Nat) "PalaceOfRooms" "hand" "[I") ∈ lw_all := lw_g (lw_at lw_m1 222 rfl) rfl
theorem q272 : (Jvm.Cond.fieldLink "PalaceOfRooms" (75 : Nat) "PalaceOfRooms" "alike" "[[I") ∈ lw_all := lw_g (lw_at lw_m1 224 rfl) rfl
theorem q273 : (Jvm.Cond.fieldLink "PalaceOfRooms" (81 : Nat) "PalaceOfRooms" "laid" "LPalaceOfRooms$Laid;") ∈ lw_all := lw_g (lw_at lw_m1 225 rfl) rfl
theorem q274 : (Jvm.Cond.fieldLink "PalaceOfRooms" (88 : Nat) "PalaceOfRooms" "code" "LPalaceOfRooms$Code;") ∈ lw_all := lw_g (lw_at lw_m1 226 rfl) rfl
theorem q275 : (Jvm.Cond.fieldLink "PalaceOfRooms" (92 : Nat) "PalaceOfRooms" "plan" "[I") ∈ lw_all := lw_g (lw_at lw_m1 227 rfl) rfl
theorem q276 : (Jvm.Cond.fieldLink "PalaceOfRooms" (95 : Nat) "PalaceOfRooms" "costs" "[I") ∈ lw_all := lw_g (lw_at lw_m1 228 rfl) rfl
theorem q277 : (Jvm.Cond.fieldLink "PalaceOfRooms" (101 : Nat) "PalaceOfRooms" "pupils" "[LPalaceOfRooms$Pupil;") ∈ lw_all := lw_g (lw_at lw_m1 229 rfl) rfl
theorem q278 : (Jvm.Cond.laysFinal "PalaceOfRooms" "PalaceOfRooms" "joined" "[[Z") ∈ lw_all := lw_g (lw_at lw_m1 230 rfl) rfl
theorem q279 : (Jvm.Cond.soleField "PalaceOfRooms" "joined") ∈ lw_all := lw_g (lw_at lw_m1 231 rfl) rfl
theorem q280 : (Jvm.Cond.lays "PalaceOfRooms" "PalaceOfRooms" "doorMany" "I") ∈ lw_all := lw_g (lw_at lw_m1 232 rfl) rfl
theorem q281 : (Jvm.Cond.soleField "PalaceOfRooms" "doorMany") ∈ lw_all := lw_g (lw_at lw_m1 233 rfl) rfl
theorem q282 : (Jvm.Cond.laysFinal "PalaceOfRooms" "PalaceOfRooms" "markOf" "[I") ∈ lw_all := lw_g (lw_at lw_m1 234 rfl) rfl
theorem q283 : (Jvm.Cond.soleField "PalaceOfRooms" "markOf") ∈ lw_all := lw_g (lw_at lw_m1 235 rfl) rfl
theorem q284 : (Jvm.Cond.lays "PalaceOfRooms" "PalaceOfRooms" "tell" "I") ∈ lw_all := lw_g (lw_at lw_m1 236 rfl) rfl
theorem q285 : (Jvm.Cond.soleField "PalaceOfRooms" "tell") ∈ lw_all := lw_g (lw_at lw_m1 237 rfl) rfl
theorem q286 : (Jvm.Cond.lays "PalaceOfRooms" "PalaceOfRooms" "gain" "I") ∈ lw_all := lw_g (lw_at lw_m1 238 rfl) rfl
theorem q287 : (Jvm.Cond.soleField "PalaceOfRooms" "gain") ∈ lw_all := lw_g (lw_at lw_m1 239 rfl) rfl
theorem q288 : (Jvm.Cond.laysFinal "PalaceOfRooms" "PalaceOfRooms" "falls" "[I") ∈ lw_all := lw_g (lw_at lw_m2 0 rfl) rfl
theorem q289 : (Jvm.Cond.soleField "PalaceOfRooms" "falls") ∈ lw_all := lw_g (lw_at lw_m2 1 rfl) rfl
theorem q290 : (Jvm.Cond.lays "PalaceOfRooms" "PalaceOfRooms" "day" "I") ∈ lw_all := lw_g (lw_at lw_m2 2 rfl) rfl
theorem q291 : (Jvm.Cond.soleField "PalaceOfRooms" "day") ∈ lw_all := lw_g (lw_at lw_m2 3 rfl) rfl
theorem q292 : (Jvm.Cond.laysFinal "PalaceOfRooms" "PalaceOfRooms" "house" "LPalaceOfRooms$House;") ∈ lw_all := lw_g (lw_at lw_m2 4 rfl) rfl
theorem q293 : (Jvm.Cond.soleField "PalaceOfRooms" "house") ∈ lw_all := lw_g (lw_at lw_m2 5 rfl) rfl
theorem q294 : (Jvm.Cond.laysFinal "PalaceOfRooms" "PalaceOfRooms" "model" "LPalaceOfRooms$House;") ∈ lw_all := lw_g (lw_at lw_m2 6 rfl) rfl
theorem q295 : (Jvm.Cond.soleField "PalaceOfRooms" "model") ∈ lw_all := lw_g (lw_at lw_m2 7 rfl) rfl
theorem q296 : (Jvm.Cond.laysFinal "PalaceOfRooms" "PalaceOfRooms" "walked" "[I") ∈ lw_all := lw_g (lw_at lw_m2 8 rfl) rfl
theorem q297 : (Jvm.Cond.soleField "PalaceOfRooms" "walked") ∈ lw_all := lw_g (lw_at lw_m2 9 rfl) rfl
theorem q298 : (Jvm.Cond.lays "PalaceOfRooms" "PalaceOfRooms" "lines" "[LPalaceOfRooms$Line;") ∈ lw_all := lw_g (lw_at lw_m2 10 rfl) rfl
theorem q299 : (Jvm.Cond.soleField "PalaceOfRooms" "lines") ∈ lw_all := lw_g (lw_at lw_m2 11 rfl) rfl
theorem q300 : (Jvm.Cond.lays "PalaceOfRooms" "PalaceOfRooms" "lineMany" "I") ∈ lw_all := lw_g (lw_at lw_m2 12 rfl) rfl
theorem q301 : (Jvm.Cond.soleField "PalaceOfRooms" "lineMany") ∈ lw_all := lw_g (lw_at lw_m2 13 rfl) rfl
theorem q302 : (Jvm.Cond.laysFinal "PalaceOfRooms" "PalaceOfRooms" "text" "[B") ∈ lw_all := lw_g (lw_at lw_m2 14 rfl) rfl
theorem q303 : (Jvm.Cond.soleField "PalaceOfRooms" "text") ∈ lw_all := lw_g (lw_at lw_m2 15 rfl) rfl
theorem q304 : (Jvm.Cond.lays "PalaceOfRooms" "PalaceOfRooms" "length" "I") ∈ lw_all := lw_g (lw_at lw_m2 16 rfl) rfl
theorem q305 : (Jvm.Cond.soleField "PalaceOfRooms" "length") ∈ lw_all := lw_g (lw_at lw_m2 17 rfl) rfl
theorem q306 : (Jvm.Cond.laysFinal "PalaceOfRooms" "PalaceOfRooms" "reader" "LPalaceOfRooms$Reader;") ∈ lw_all := lw_g (lw_at lw_m2 18 rfl) rfl
theorem q307 : (Jvm.Cond.soleField "PalaceOfRooms" "reader") ∈ lw_all := lw_g (lw_at lw_m2 19 rfl) rfl
theorem q308 : (Jvm.Cond.laysFinal "PalaceOfRooms" "PalaceOfRooms" "hand" "[I") ∈ lw_all := lw_g (lw_at lw_m2 20 rfl) rfl
theorem q309 : (Jvm.Cond.soleField "PalaceOfRooms" "hand") ∈ lw_all := lw_g (lw_at lw_m2 21 rfl) rfl
theorem q310 : (Jvm.Cond.laysFinal "PalaceOfRooms" "PalaceOfRooms" "alike" "[[I") ∈ lw_all := lw_g (lw_at lw_m2 22 rfl) rfl
theorem q311 : (Jvm.Cond.soleField "PalaceOfRooms" "alike") ∈ lw_all := lw_g (lw_at lw_m2 23 rfl) rfl
theorem q312 : (Jvm.Cond.laysFinal "PalaceOfRooms" "PalaceOfRooms" "laid" "LPalaceOfRooms$Laid;") ∈ lw_all := lw_g (lw_at lw_m2 24 rfl) rfl
theorem q313 : (Jvm.Cond.soleField "PalaceOfRooms" "laid") ∈ lw_all := lw_g (lw_at lw_m2 25 rfl) rfl
theorem q314 : (Jvm.Cond.laysFinal "PalaceOfRooms" "PalaceOfRooms" "code" "LPalaceOfRooms$Code;") ∈ lw_all := lw_g (lw_at lw_m2 26 rfl) rfl
theorem q315 : (Jvm.Cond.soleField "PalaceOfRooms" "code") ∈ lw_all := lw_g (lw_at lw_m2 27 rfl) rfl
theorem q316 : (Jvm.Cond.laysFinal "PalaceOfRooms" "PalaceOfRooms" "plan" "[I") ∈ lw_all := lw_g (lw_at lw_m2 28 rfl) rfl
theorem q317 : (Jvm.Cond.soleField "PalaceOfRooms" "plan") ∈ lw_all := lw_g (lw_at lw_m2 29 rfl) rfl
theorem q318 : (Jvm.Cond.laysFinal "PalaceOfRooms" "PalaceOfRooms" "costs" "[I") ∈ lw_all := lw_g (lw_at lw_m2 30 rfl) rfl
theorem q319 : (Jvm.Cond.soleField "PalaceOfRooms" "costs") ∈ lw_all := lw_g (lw_at lw_m2 31 rfl) rfl
theorem q320 : (Jvm.Cond.laysFinal "PalaceOfRooms" "PalaceOfRooms" "pupils" "[LPalaceOfRooms$Pupil;") ∈ lw_all := lw_g (lw_at lw_m2 32 rfl) rfl
theorem q321 : (Jvm.Cond.soleField "PalaceOfRooms" "pupils") ∈ lw_all := lw_g (lw_at lw_m2 33 rfl) rfl
theorem q322 : (Jvm.Cond.superclass "PalaceOfRooms" "java/lang/Object") ∈ lw_all := lw_g (lw_at lw_m2 34 rfl) rfl
theorem q324 : (Jvm.Cond.instanceMethod ({ cls := "PalaceOfRooms", name := "door", desc := "(II)I" } : Jvm.MethodName)) ∈ lw_all := lw_g (lw_at lw_m2 36 rfl) rfl
theorem q325 : (Jvm.Cond.selects "PalaceOfRooms" ({ cls := "PalaceOfRooms", name := "door", desc := "(II)I" } : Jvm.MethodName) ({ cls := "PalaceOfRooms", name := "door", desc := "(II)I" } : Jvm.MethodName)) ∈ lw_all := lw_g (lw_at lw_m2 37 rfl) rfl
theorem q326 : (Jvm.Cond.code ({ cls := "PalaceOfRooms", name := "door", desc := "(II)I" } : Jvm.MethodName) prog_1_method_6_code (3 : Nat) (Option.some Jvm.ClassFile.FieldType.int)) ∈ lw_all := lw_g (lw_at lw_m2 38 rfl) rfl
theorem q327 : (Jvm.Cond.methodLink "PalaceOfRooms" (105 : Nat) ({ cls := "PalaceOfRooms", name := "isRoom", desc := "(I)Z" } : Jvm.MethodName)) ∈ lw_all := lw_g (lw_at lw_m2 39 rfl) rfl
theorem q328 : (Jvm.Cond.static ({ cls := "PalaceOfRooms", name := "isRoom", desc := "(I)Z" } : Jvm.MethodName)) ∈ lw_all := lw_g (lw_at lw_m2 40 rfl) rfl
theorem q329 : (Jvm.Cond.code ({ cls := "PalaceOfRooms", name := "isRoom", desc := "(I)Z" } : Jvm.MethodName) prog_1_method_2_code (1 : Nat) (Option.some Jvm.ClassFile.FieldType.boolean)) ∈ lw_all := lw_g (lw_at lw_m2 41 rfl) rfl
theorem q330 : (Jvm.Cond.constantLong "PalaceOfRooms" (3 : Nat) (7 : Int64)) ∈ lw_all := lw_g (lw_at lw_m2 42 rfl) rfl
theorem q331 : (Jvm.Cond.methodLink "PalaceOfRooms" (5 : Nat) ({ cls := "PalaceOfRooms", name := "isIn", desc := "(JJJ)Z" } : Jvm.MethodName)) ∈ lw_all := lw_g (lw_at lw_m2 43 rfl) rfl
theorem q332 : (Jvm.Cond.static ({ cls := "PalaceOfRooms", name := "isIn", desc := "(JJJ)Z" } : Jvm.MethodName)) ∈ lw_all := lw_g (lw_at lw_m2 44 rfl) rfl
theorem q333 : (Jvm.Cond.code ({ cls := "PalaceOfRooms", name := "isIn", desc := "(JJJ)Z" } : Jvm.MethodName) prog_1_method_1_code (6 : Nat) (Option.some Jvm.ClassFile.FieldType.boolean)) ∈ lw_all := lw_g (lw_at lw_m2 45 rfl) rfl
theorem q335 : (Jvm.Cond.instanceMethod ({ cls := "PalaceOfRooms", name := "away", desc := "(II)I" } : Jvm.MethodName)) ∈ lw_all := lw_g (lw_at lw_m2 47 rfl) rfl
theorem q336 : (Jvm.Cond.selects "PalaceOfRooms" ({ cls := "PalaceOfRooms", name := "away", desc := "(II)I" } : Jvm.MethodName) ({ cls := "PalaceOfRooms", name := "away", desc := "(II)I" } : Jvm.MethodName)) ∈ lw_all := lw_g (lw_at lw_m2 48 rfl) rfl
theorem q337 : (Jvm.Cond.code ({ cls := "PalaceOfRooms", name := "away", desc := "(II)I" } : Jvm.MethodName) prog_1_method_8_code (3 : Nat) (Option.some Jvm.ClassFile.FieldType.int)) ∈ lw_all := lw_g (lw_at lw_m2 49 rfl) rfl
theorem q338 : (Jvm.Cond.methodLink "PalaceOfRooms" (112 : Nat) ({ cls := "PalaceOfRooms", name := "awayOf", desc := "(II)I" } : Jvm.MethodName)) ∈ lw_all := lw_g (lw_at lw_m2 50 rfl) rfl
theorem q339 : (Jvm.Cond.privateMethod ({ cls := "PalaceOfRooms", name := "awayOf", desc := "(II)I" } : Jvm.MethodName)) ∈ lw_tbl := lw_at lw_m2 51 rfl
theorem q340 : (Jvm.Cond.instanceMethod ({ cls := "PalaceOfRooms", name := "awayOf", desc := "(II)I" } : Jvm.MethodName)) ∈ lw_all := lw_g (lw_at lw_m2 52 rfl) rfl
theorem q341 : (Jvm.Cond.code ({ cls := "PalaceOfRooms", name := "awayOf", desc := "(II)I" } : Jvm.MethodName) prog_1_method_7_code (8 : Nat) (Option.some Jvm.ClassFile.FieldType.int)) ∈ lw_all := lw_g (lw_at lw_m2 53 rfl) rfl
theorem q343 : (Jvm.Cond.instanceMethod ({ cls := "PalaceOfRooms", name := "marks", desc := "(II)I" } : Jvm.MethodName)) ∈ lw_all := lw_g (lw_at lw_m2 55 rfl) rfl
theorem q344 : (Jvm.Cond.selects "PalaceOfRooms" ({ cls := "PalaceOfRooms", name := "marks", desc := "(II)I" } : Jvm.MethodName) ({ cls := "PalaceOfRooms", name := "marks", desc := "(II)I" } : Jvm.MethodName)) ∈ lw_all := lw_g (lw_at lw_m2 56 rfl) rfl
theorem q345 : (Jvm.Cond.code ({ cls := "PalaceOfRooms", name := "marks", desc := "(II)I" } : Jvm.MethodName) prog_1_method_9_code (4 : Nat) (Option.some Jvm.ClassFile.FieldType.int)) ∈ lw_all := lw_g (lw_at lw_m2 57 rfl) rfl
theorem q346 : (Jvm.Cond.methodLink "PalaceOfRooms" (116 : Nat) ({ cls := "PalaceOfRooms", name := "isThing", desc := "(I)Z" } : Jvm.MethodName)) ∈ lw_all := lw_g (lw_at lw_m2 58 rfl) rfl
theorem q347 : (Jvm.Cond.static ({ cls := "PalaceOfRooms", name := "isThing", desc := "(I)Z" } : Jvm.MethodName)) ∈ lw_all := lw_g (lw_at lw_m2 59 rfl) rfl
theorem q348 : (Jvm.Cond.code ({ cls := "PalaceOfRooms", name := "isThing", desc := "(I)Z" } : Jvm.MethodName) prog_1_method_4_code (1 : Nat) (Option.some Jvm.ClassFile.FieldType.boolean)) ∈ lw_all := lw_g (lw_at lw_m2 60 rfl) rfl
theorem q349 : (Jvm.Cond.constantLong "PalaceOfRooms" (11 : Nat) (23 : Int64)) ∈ lw_all := lw_g (lw_at lw_m2 61 rfl) rfl
theorem q350 : (Jvm.Cond.constantLong "PalaceOfRooms" (119 : Nat) (255 : Int64)) ∈ lw_all := lw_g (lw_at lw_m2 62 rfl) rfl
theorem q352 : (Jvm.Cond.instanceMethod ({ cls := "PalaceOfRooms", name := "like", desc := "(II)I" } : Jvm.MethodName)) ∈ lw_all := lw_g (lw_at lw_m2 64 rfl) rfl
theorem q353 : (Jvm.Cond.selects "PalaceOfRooms" ({ cls := "PalaceOfRooms", name := "like", desc := "(II)I" } : Jvm.MethodName) ({ cls := "PalaceOfRooms", name := "like", desc := "(II)I" } : Jvm.MethodName)) ∈ lw_all := lw_g (lw_at lw_m2 65 rfl) rfl
theorem q354 : (Jvm.Cond.code ({ cls := "PalaceOfRooms", name := "like", desc := "(II)I" } : Jvm.MethodName) prog_1_method_12_code (3 : Nat) (Option.some Jvm.ClassFile.FieldType.int)) ∈ lw_all := lw_g (lw_at lw_m2 66 rfl) rfl
theorem q355 : (Jvm.Cond.methodLink "PalaceOfRooms" (127 : Nat) ({ cls := "PalaceOfRooms", name := "likeness", desc := "(II)I" } : Jvm.MethodName)) ∈ lw_all := lw_g (lw_at lw_m2 67 rfl) rfl
theorem q356 : (Jvm.Cond.privateMethod ({ cls := "PalaceOfRooms", name := "likeness", desc := "(II)I" } : Jvm.MethodName)) ∈ lw_tbl := lw_at lw_m2 68 rfl
theorem q357 : (Jvm.Cond.instanceMethod ({ cls := "PalaceOfRooms", name := "likeness", desc := "(II)I" } : Jvm.MethodName)) ∈ lw_all := lw_g (lw_at lw_m2 69 rfl) rfl
theorem q358 : (Jvm.Cond.code ({ cls := "PalaceOfRooms", name := "likeness", desc := "(II)I" } : Jvm.MethodName) prog_1_method_10_code (3 : Nat) (Option.some Jvm.ClassFile.FieldType.int)) ∈ lw_all := lw_g (lw_at lw_m2 70 rfl) rfl
theorem q359 : (Jvm.Cond.methodLink "PalaceOfRooms" (121 : Nat) ({ cls := "java/lang/Integer", name := "bitCount", desc := "(I)I" } : Jvm.MethodName)) ∈ lw_all := lw_g (lw_at lw_m2 71 rfl) rfl
theorem q366 : (Jvm.Cond.instanceMethod ({ cls := "PalaceOfRooms", name := "set", desc := "(II)I" } : Jvm.MethodName)) ∈ lw_all := lw_g (lw_at lw_m2 78 rfl) rfl
theorem q367 : (Jvm.Cond.selects "PalaceOfRooms" ({ cls := "PalaceOfRooms", name := "set", desc := "(II)I" } : Jvm.MethodName) ({ cls := "PalaceOfRooms", name := "set", desc := "(II)I" } : Jvm.MethodName)) ∈ lw_all := lw_g (lw_at lw_m2 79 rfl) rfl
theorem q368 : (Jvm.Cond.code ({ cls := "PalaceOfRooms", name := "set", desc := "(II)I" } : Jvm.MethodName) prog_1_method_13_code (4 : Nat) (Option.some Jvm.ClassFile.FieldType.int)) ∈ lw_all := lw_g (lw_at lw_m2 80 rfl) rfl
theorem q369 : (Jvm.Cond.constantLong "PalaceOfRooms" (130 : Nat) (8 : Int64)) ∈ lw_all := lw_g (lw_at lw_m2 81 rfl) rfl
theorem q370 : (Jvm.Cond.constantLong "PalaceOfRooms" (132 : Nat) (100 : Int64)) ∈ lw_all := lw_g (lw_at lw_m2 82 rfl) rfl
theorem q372 : (Jvm.Cond.instanceMethod ({ cls := "PalaceOfRooms", name := "fall", desc := "(II)I" } : Jvm.MethodName)) ∈ lw_all := lw_g (lw_at lw_m2 84 rfl) rfl
theorem q373 : (Jvm.Cond.selects "PalaceOfRooms" ({ cls := "PalaceOfRooms", name := "fall", desc := "(II)I" } : Jvm.MethodName) ({ cls := "PalaceOfRooms", name := "fall", desc := "(II)I" } : Jvm.MethodName)) ∈ lw_all := lw_g (lw_at lw_m2 85 rfl) rfl
theorem q374 : (Jvm.Cond.code ({ cls := "PalaceOfRooms", name := "fall", desc := "(II)I" } : Jvm.MethodName) prog_1_method_14_code (4 : Nat) (Option.some Jvm.ClassFile.FieldType.int)) ∈ lw_all := lw_g (lw_at lw_m2 86 rfl) rfl
theorem q375 : (Jvm.Cond.constantLong "PalaceOfRooms" (134 : Nat) (10 : Int64)) ∈ lw_all := lw_g (lw_at lw_m2 87 rfl) rfl
theorem q376 : (Jvm.Cond.constantLong "PalaceOfRooms" (136 : Nat) (30 : Int64)) ∈ lw_all := lw_g (lw_at lw_m2 88 rfl) rfl
theorem q378 : (Jvm.Cond.instanceMethod ({ cls := "PalaceOfRooms", name := "put", desc := "(II)I" } : Jvm.MethodName)) ∈ lw_all := lw_g (lw_at lw_m2 90 rfl) rfl
theorem q379 : (Jvm.Cond.selects "PalaceOfRooms" ({ cls := "PalaceOfRooms", name := "put", desc := "(II)I" } : Jvm.MethodName) ({ cls := "PalaceOfRooms", name := "put", desc := "(II)I" } : Jvm.MethodName)) ∈ lw_all := lw_g (lw_at lw_m2 91 rfl) rfl
theorem q380 : (Jvm.Cond.code ({ cls := "PalaceOfRooms", name := "put", desc := "(II)I" } : Jvm.MethodName) prog_1_method_16_code (3 : Nat) (Option.some Jvm.ClassFile.FieldType.int)) ∈ lw_all := lw_g (lw_at lw_m2 92 rfl) rfl
theorem q381 : (Jvm.Cond.methodLink "PalaceOfRooms" (147 : Nat) ({ cls := "PalaceOfRooms", name := "isCorner", desc := "(I)Z" } : Jvm.MethodName)) ∈ lw_all := lw_g (lw_at lw_m2 93 rfl) rfl
theorem q382 : (Jvm.Cond.static ({ cls := "PalaceOfRooms", name := "isCorner", desc := "(I)Z" } : Jvm.MethodName)) ∈ lw_all := lw_g (lw_at lw_m2 94 rfl) rfl
theorem q383 : (Jvm.Cond.code ({ cls := "PalaceOfRooms", name := "isCorner", desc := "(I)Z" } : Jvm.MethodName) prog_1_method_3_code (1 : Nat) (Option.some Jvm.ClassFile.FieldType.boolean)) ∈ lw_all := lw_g (lw_at lw_m2 95 rfl) rfl
theorem q384 : (Jvm.Cond.constantLong "PalaceOfRooms" (9 : Nat) (47 : Int64)) ∈ lw_all := lw_g (lw_at lw_m2 96 rfl) rfl
theorem q385 : (Jvm.Cond.methodLink "PalaceOfRooms" (150 : Nat) ({ cls := "PalaceOfRooms", name := "whereIs", desc := "(I)I" } : Jvm.MethodName)) ∈ lw_all := lw_g (lw_at lw_m2 97 rfl) rfl
theorem q386 : (Jvm.Cond.privateMethod ({ cls := "PalaceOfRooms", name := "whereIs", desc := "(I)I" } : Jvm.MethodName)) ∈ lw_tbl := lw_at lw_m2 98 rfl
theorem q387 : (Jvm.Cond.instanceMethod ({ cls := "PalaceOfRooms", name := "whereIs", desc := "(I)I" } : Jvm.MethodName)) ∈ lw_all := lw_g (lw_at lw_m2 99 rfl) rfl
theorem q388 : (Jvm.Cond.code ({ cls := "PalaceOfRooms", name := "whereIs", desc := "(I)I" } : Jvm.MethodName) prog_1_method_15_code (3 : Nat) (Option.some Jvm.ClassFile.FieldType.int)) ∈ lw_all := lw_g (lw_at lw_m2 100 rfl) rfl
theorem q389 : (Jvm.Cond.methodLink "PalaceOfRooms" (156 : Nat) ({ cls := "PalaceOfRooms$Corner", name := "cover", desc := "(II)I" } : Jvm.MethodName)) ∈ lw_all := lw_g (lw_at lw_m2 101 rfl) rfl
theorem q403 : (Jvm.Cond.instanceMethod ({ cls := "PalaceOfRooms", name := "clear", desc := "(I)I" } : Jvm.MethodName)) ∈ lw_all := lw_g (lw_at lw_m2 115 rfl) rfl
theorem q404 : (Jvm.Cond.selects "PalaceOfRooms" ({ cls := "PalaceOfRooms", name := "clear", desc := "(I)I" } : Jvm.MethodName) ({ cls := "PalaceOfRooms", name := "clear", desc := "(I)I" } : Jvm.MethodName)) ∈ lw_all := lw_g (lw_at lw_m2 116 rfl) rfl
theorem q405 : (Jvm.Cond.code ({ cls := "PalaceOfRooms", name := "clear", desc := "(I)I" } : Jvm.MethodName) prog_1_method_17_code (4 : Nat) (Option.some Jvm.ClassFile.FieldType.int)) ∈ lw_all := lw_g (lw_at lw_m2 117 rfl) rfl
theorem q406 : (Jvm.Cond.methodLink "PalaceOfRooms" (159 : Nat) ({ cls := "PalaceOfRooms$Corner", name := "isThere", desc := "()Z" } : Jvm.MethodName)) ∈ lw_all := lw_g (lw_at lw_m2 118 rfl) rfl
theorem q412 : (Jvm.Cond.methodLink "PalaceOfRooms" (163 : Nat) ({ cls := "PalaceOfRooms$Corner", name := "lay", desc := "(II)V" } : Jvm.MethodName)) ∈ lw_all := lw_g (lw_at lw_m2 124 rfl) rfl
theorem q413 : (Jvm.Cond.methodLink "PalaceOfRooms" (171 : Nat) ({ cls := "PalaceOfRooms$Ghost", name := "lay", desc := "(II)V" } : Jvm.MethodName)) ∈ lw_all := lw_g (lw_at lw_m2 125 rfl) rfl
theorem q415 : (Jvm.Cond.instanceMethod ({ cls := "PalaceOfRooms", name := "corner", desc := "(II)I" } : Jvm.MethodName)) ∈ lw_all := lw_g (lw_at lw_m2 127 rfl) rfl
theorem q416 : (Jvm.Cond.selects "PalaceOfRooms" ({ cls := "PalaceOfRooms", name := "corner", desc := "(II)I" } : Jvm.MethodName) ({ cls := "PalaceOfRooms", name := "corner", desc := "(II)I" } : Jvm.MethodName)) ∈ lw_all := lw_g (lw_at lw_m2 128 rfl) rfl
theorem q417 : (Jvm.Cond.code ({ cls := "PalaceOfRooms", name := "corner", desc := "(II)I" } : Jvm.MethodName) prog_1_method_18_code (4 : Nat) (Option.some Jvm.ClassFile.FieldType.int)) ∈ lw_all := lw_g (lw_at lw_m2 129 rfl) rfl
theorem q418 : (Jvm.Cond.methodLink "PalaceOfRooms" (177 : Nat) ({ cls := "PalaceOfRooms$Ghost", name := "isThere", desc := "()Z" } : Jvm.MethodName)) ∈ lw_all := lw_g (lw_at lw_m2 130 rfl) rfl
theorem q424 : (Jvm.Cond.instanceMethod ({ cls := "PalaceOfRooms", name := "where", desc := "(I)I" } : Jvm.MethodName)) ∈ lw_all := lw_g (lw_at lw_m2 136 rfl) rfl
theorem q425 : (Jvm.Cond.selects "PalaceOfRooms" ({ cls := "PalaceOfRooms", name := "where", desc := "(I)I" } : Jvm.MethodName) ({ cls := "PalaceOfRooms", name := "where", desc := "(I)I" } : Jvm.MethodName)) ∈ lw_all := lw_g (lw_at lw_m2 137 rfl) rfl
theorem q426 : (Jvm.Cond.code ({ cls := "PalaceOfRooms", name := "where", desc := "(I)I" } : Jvm.MethodName) prog_1_method_19_code (2 : Nat) (Option.some Jvm.ClassFile.FieldType.int)) ∈ lw_all := lw_g (lw_at lw_m2 138 rfl) rfl
theorem q428 : (Jvm.Cond.instanceMethod ({ cls := "PalaceOfRooms", name := "days", desc := "(I)I" } : Jvm.MethodName)) ∈ lw_all := lw_g (lw_at lw_m2 140 rfl) rfl
theorem q429 : (Jvm.Cond.selects "PalaceOfRooms" ({ cls := "PalaceOfRooms", name := "days", desc := "(I)I" } : Jvm.MethodName) ({ cls := "PalaceOfRooms", name := "days", desc := "(I)I" } : Jvm.MethodName)) ∈ lw_all := lw_g (lw_at lw_m2 141 rfl) rfl
theorem q430 : (Jvm.Cond.code ({ cls := "PalaceOfRooms", name := "days", desc := "(I)I" } : Jvm.MethodName) prog_1_method_20_code (3 : Nat) (Option.some Jvm.ClassFile.FieldType.int)) ∈ lw_all := lw_g (lw_at lw_m2 142 rfl) rfl
theorem q431 : (Jvm.Cond.constantLong "PalaceOfRooms" (183 : Nat) (60 : Int64)) ∈ lw_all := lw_g (lw_at lw_m2 143 rfl) rfl
theorem q432 : (Jvm.Cond.methodLink "PalaceOfRooms" (185 : Nat) ({ cls := "PalaceOfRooms$House", name := "goBy", desc := "()V" } : Jvm.MethodName)) ∈ lw_all := lw_g (lw_at lw_m2 144 rfl) rfl
theorem q442 : (Jvm.Cond.privateMethod ({ cls := "PalaceOfRooms", name := "isLike", desc := "(II)Z" } : Jvm.MethodName)) ∈ lw_tbl := lw_at lw_m2 154 rfl
theorem q443 : (Jvm.Cond.instanceMethod ({ cls := "PalaceOfRooms", name := "isLike", desc := "(II)Z" } : Jvm.MethodName)) ∈ lw_all := lw_g (lw_at lw_m2 155 rfl) rfl
theorem q444 : (Jvm.Cond.code ({ cls := "PalaceOfRooms", name := "isLike", desc := "(II)Z" } : Jvm.MethodName) prog_1_method_11_code (3 : Nat) (Option.some Jvm.ClassFile.FieldType.boolean)) ∈ lw_all := lw_g (lw_at lw_m2 156 rfl) rfl
theorem q462 : (Jvm.Cond.instanceMethod ({ cls := "PalaceOfRooms", name := "walk", desc := "(I)I" } : Jvm.MethodName)) ∈ lw_all := lw_g (lw_at lw_m2 174 rfl) rfl
theorem q463 : (Jvm.Cond.selects "PalaceOfRooms" ({ cls := "PalaceOfRooms", name := "walk", desc := "(I)I" } : Jvm.MethodName) ({ cls := "PalaceOfRooms", name := "walk", desc := "(I)I" } : Jvm.MethodName)) ∈ lw_all := lw_g (lw_at lw_m2 175 rfl) rfl
theorem q464 : (Jvm.Cond.code ({ cls := "PalaceOfRooms", name := "walk", desc := "(I)I" } : Jvm.MethodName) prog_1_method_21_code (2 : Nat) (Option.some Jvm.ClassFile.FieldType.int)) ∈ lw_all := lw_g (lw_at lw_m2 176 rfl) rfl
theorem q465 : (Jvm.Cond.methodLink "PalaceOfRooms" (188 : Nat) ({ cls := "PalaceOfRooms$House", name := "walk", desc := "(I)I" } : Jvm.MethodName)) ∈ lw_all := lw_g (lw_at lw_m2 177 rfl) rfl
theorem q470 : (Jvm.Cond.instanceMethod ({ cls := "PalaceOfRooms", name := "write", desc := "(JI)I" } : Jvm.MethodName)) ∈ lw_all := lw_g (lw_at lw_m2 182 rfl) rfl
theorem q471 : (Jvm.Cond.selects "PalaceOfRooms" ({ cls := "PalaceOfRooms", name := "write", desc := "(JI)I" } : Jvm.MethodName) ({ cls := "PalaceOfRooms", name := "write", desc := "(JI)I" } : Jvm.MethodName)) ∈ lw_all := lw_g (lw_at lw_m2 183 rfl) rfl
theorem q472 : (Jvm.Cond.code ({ cls := "PalaceOfRooms", name := "write", desc := "(JI)I" } : Jvm.MethodName) prog_1_method_22_code (5 : Nat) (Option.some Jvm.ClassFile.FieldType.int)) ∈ lw_all := lw_g (lw_at lw_m2 184 rfl) rfl
theorem q474 : (Jvm.Cond.instanceMethod ({ cls := "PalaceOfRooms", name := "erase", desc := "()I" } : Jvm.MethodName)) ∈ lw_all := lw_g (lw_at lw_m2 186 rfl) rfl
theorem q475 : (Jvm.Cond.selects "PalaceOfRooms" ({ cls := "PalaceOfRooms", name := "erase", desc := "()I" } : Jvm.MethodName) ({ cls := "PalaceOfRooms", name := "erase", desc := "()I" } : Jvm.MethodName)) ∈ lw_all := lw_g (lw_at lw_m2 187 rfl) rfl
theorem q476 : (Jvm.Cond.code ({ cls := "PalaceOfRooms", name := "erase", desc := "()I" } : Jvm.MethodName) prog_1_method_23_code (2 : Nat) (Option.some Jvm.ClassFile.FieldType.int)) ∈ lw_all := lw_g (lw_at lw_m2 188 rfl) rfl
theorem q478 : (Jvm.Cond.instanceMethod ({ cls := "PalaceOfRooms", name := "fault", desc := "()I" } : Jvm.MethodName)) ∈ lw_all := lw_g (lw_at lw_m2 190 rfl) rfl
theorem q479 : (Jvm.Cond.selects "PalaceOfRooms" ({ cls := "PalaceOfRooms", name := "fault", desc := "()I" } : Jvm.MethodName) ({ cls := "PalaceOfRooms", name := "fault", desc := "()I" } : Jvm.MethodName)) ∈ lw_all := lw_g (lw_at lw_m2 191 rfl) rfl
theorem q480 : (Jvm.Cond.codeWith ({ cls := "PalaceOfRooms", name := "fault", desc := "()I" } : Jvm.MethodName) prog_1_method_24_code (2 : Nat) (Option.some Jvm.ClassFile.FieldType.int) [((0 : Nat), (8 : Nat), (9 : Nat), (197 : Nat))]) ∈ lw_all := lw_g (lw_at lw_m2 192 rfl) rfl
theorem q481 : (Jvm.Cond.classLink "PalaceOfRooms" (197 : Nat) "PalaceOfRooms$Fault") ∈ lw_all := lw_g (lw_at lw_m2 193 rfl) rfl
theorem q482 : (Jvm.Cond.methodLink "PalaceOfRooms" (194 : Nat) ({ cls := "PalaceOfRooms$Reader", name := "read", desc := "()V" } : Jvm.MethodName)) ∈ lw_all := lw_g (lw_at lw_m2 194 rfl) rfl
theorem q617 : (Jvm.Cond.fieldLinkNest "PalaceOfRooms" (199 : Nat) "PalaceOfRooms$Fault" "place" "I" "PalaceOfRooms") ∈ lw_tbl := lw_at lw_m3 89 rfl
theorem q688 : (Jvm.Cond.instanceMethod ({ cls := "PalaceOfRooms", name := "rules", desc := "()I" } : Jvm.MethodName)) ∈ lw_all := lw_g (lw_at lw_m3 160 rfl) rfl
theorem q689 : (Jvm.Cond.selects "PalaceOfRooms" ({ cls := "PalaceOfRooms", name := "rules", desc := "()I" } : Jvm.MethodName) ({ cls := "PalaceOfRooms", name := "rules", desc := "()I" } : Jvm.MethodName)) ∈ lw_all := lw_g (lw_at lw_m3 161 rfl) rfl
theorem q690 : (Jvm.Cond.code ({ cls := "PalaceOfRooms", name := "rules", desc := "()I" } : Jvm.MethodName) prog_1_method_25_code (1 : Nat) (Option.some Jvm.ClassFile.FieldType.int)) ∈ lw_all := lw_g (lw_at lw_m3 162 rfl) rfl
theorem q691 : (Jvm.Cond.methodLink "PalaceOfRooms" (202 : Nat) ({ cls := "PalaceOfRooms", name := "fault", desc := "()I" } : Jvm.MethodName)) ∈ lw_all := lw_g (lw_at lw_m3 163 rfl) rfl
theorem q693 : (Jvm.Cond.instanceMethod ({ cls := "PalaceOfRooms", name := "bars", desc := "(II)I" } : Jvm.MethodName)) ∈ lw_all := lw_g (lw_at lw_m3 165 rfl) rfl
theorem q694 : (Jvm.Cond.selects "PalaceOfRooms" ({ cls := "PalaceOfRooms", name := "bars", desc := "(II)I" } : Jvm.MethodName) ({ cls := "PalaceOfRooms", name := "bars", desc := "(II)I" } : Jvm.MethodName)) ∈ lw_all := lw_g (lw_at lw_m3 166 rfl) rfl
theorem q695 : (Jvm.Cond.code ({ cls := "PalaceOfRooms", name := "bars", desc := "(II)I" } : Jvm.MethodName) prog_1_method_28_code (10 : Nat) (Option.some Jvm.ClassFile.FieldType.int)) ∈ lw_all := lw_g (lw_at lw_m3 167 rfl) rfl
theorem q696 : (Jvm.Cond.methodLink "PalaceOfRooms" (220 : Nat) ({ cls := "PalaceOfRooms$Line", name := "again", desc := "()I" } : Jvm.MethodName)) ∈ lw_all := lw_g (lw_at lw_m3 168 rfl) rfl
theorem q706 : (Jvm.Cond.methodLink "PalaceOfRooms" (223 : Nat) ({ cls := "PalaceOfRooms$Line", name := "apart", desc := "()I" } : Jvm.MethodName)) ∈ lw_all := lw_g (lw_at lw_m3 178 rfl) rfl
theorem q716 : (Jvm.Cond.methodLink "PalaceOfRooms" (226 : Nat) ({ cls := "PalaceOfRooms", name := "roomFor", desc := "(I)I" } : Jvm.MethodName)) ∈ lw_all := lw_g (lw_at lw_m3 188 rfl) rfl
theorem q717 : (Jvm.Cond.privateMethod ({ cls := "PalaceOfRooms", name := "roomFor", desc := "(I)I" } : Jvm.MethodName)) ∈ lw_tbl := lw_at lw_m3 189 rfl
theorem q718 : (Jvm.Cond.instanceMethod ({ cls := "PalaceOfRooms", name := "roomFor", desc := "(I)I" } : Jvm.MethodName)) ∈ lw_all := lw_g (lw_at lw_m3 190 rfl) rfl
theorem q719 : (Jvm.Cond.code ({ cls := "PalaceOfRooms", name := "roomFor", desc := "(I)I" } : Jvm.MethodName) prog_1_method_26_code (4 : Nat) (Option.some Jvm.ClassFile.FieldType.int)) ∈ lw_all := lw_g (lw_at lw_m3 191 rfl) rfl
theorem q720 : (Jvm.Cond.methodLink "PalaceOfRooms" (215 : Nat) ({ cls := "PalaceOfRooms$Line", name := "room", desc := "(I)I" } : Jvm.MethodName)) ∈ lw_all := lw_g (lw_at lw_m3 192 rfl) rfl
theorem q731 : (Jvm.Cond.methodLink "PalaceOfRooms" (229 : Nat) ({ cls := "PalaceOfRooms$House", name := "held", desc := "(I)I" } : Jvm.MethodName)) ∈ lw_all := lw_g (lw_at lw_m3 203 rfl) rfl
theorem q735 : (Jvm.Cond.methodLink "PalaceOfRooms" (232 : Nat) ({ cls := "PalaceOfRooms", name := "crowds", desc := "(IIII)Z" } : Jvm.MethodName)) ∈ lw_all := lw_g (lw_at lw_m3 207 rfl) rfl
theorem q736 : (Jvm.Cond.privateMethod ({ cls := "PalaceOfRooms", name := "crowds", desc := "(IIII)Z" } : Jvm.MethodName)) ∈ lw_tbl := lw_at lw_m3 208 rfl
theorem q737 : (Jvm.Cond.instanceMethod ({ cls := "PalaceOfRooms", name := "crowds", desc := "(IIII)Z" } : Jvm.MethodName)) ∈ lw_all := lw_g (lw_at lw_m3 209 rfl) rfl
theorem q738 : (Jvm.Cond.code ({ cls := "PalaceOfRooms", name := "crowds", desc := "(IIII)Z" } : Jvm.MethodName) prog_1_method_27_code (6 : Nat) (Option.some Jvm.ClassFile.FieldType.boolean)) ∈ lw_all := lw_g (lw_at lw_m3 210 rfl) rfl
theorem q739 : (Jvm.Cond.constantLong "PalaceOfRooms" (218 : Nat) (5 : Int64)) ∈ lw_all := lw_g (lw_at lw_m3 211 rfl) rfl
theorem q741 : (Jvm.Cond.instanceMethod ({ cls := "PalaceOfRooms", name := "due", desc := "()I" } : Jvm.MethodName)) ∈ lw_all := lw_g (lw_at lw_m3 213 rfl) rfl
theorem q742 : (Jvm.Cond.selects "PalaceOfRooms" ({ cls := "PalaceOfRooms", name := "due", desc := "()I" } : Jvm.MethodName) ({ cls := "PalaceOfRooms", name := "due", desc := "()I" } : Jvm.MethodName)) ∈ lw_all := lw_g (lw_at lw_m3 214 rfl) rfl
theorem q743 : (Jvm.Cond.code ({ cls := "PalaceOfRooms", name := "due", desc := "()I" } : Jvm.MethodName) prog_1_method_29_code (5 : Nat) (Option.some Jvm.ClassFile.FieldType.int)) ∈ lw_all := lw_g (lw_at lw_m3 215 rfl) rfl
theorem q744 : (Jvm.Cond.methodLink "PalaceOfRooms" (236 : Nat) ({ cls := "PalaceOfRooms$Line", name := "every", desc := "(I)I" } : Jvm.MethodName)) ∈ lw_all := lw_g (lw_at lw_m3 216 rfl) rfl
theorem q756 : (Jvm.Cond.instanceMethod ({ cls := "PalaceOfRooms", name := "laid", desc := "(JII)I" } : Jvm.MethodName)) ∈ lw_all := lw_g (lw_at lw_m3 228 rfl) rfl
theorem q757 : (Jvm.Cond.selects "PalaceOfRooms" ({ cls := "PalaceOfRooms", name := "laid", desc := "(JII)I" } : Jvm.MethodName) ({ cls := "PalaceOfRooms", name := "laid", desc := "(JII)I" } : Jvm.MethodName)) ∈ lw_all := lw_g (lw_at lw_m3 229 rfl) rfl
theorem q758 : (Jvm.Cond.code ({ cls := "PalaceOfRooms", name := "laid", desc := "(JII)I" } : Jvm.MethodName) prog_1_method_32_code (6 : Nat) (Option.some Jvm.ClassFile.FieldType.int)) ∈ lw_all := lw_g (lw_at lw_m3 230 rfl) rfl
theorem q759 : (Jvm.Cond.methodLink "PalaceOfRooms" (253 : Nat) ({ cls := "PalaceOfRooms", name := "layHand", desc := "(JIIII)I" } : Jvm.MethodName)) ∈ lw_all := lw_g (lw_at lw_m3 231 rfl) rfl
theorem q760 : (Jvm.Cond.privateMethod ({ cls := "PalaceOfRooms", name := "layHand", desc := "(JIIII)I" } : Jvm.MethodName)) ∈ lw_tbl := lw_at lw_m3 232 rfl
theorem q761 : (Jvm.Cond.instanceMethod ({ cls := "PalaceOfRooms", name := "layHand", desc := "(JIIII)I" } : Jvm.MethodName)) ∈ lw_all := lw_g (lw_at lw_m3 233 rfl) rfl
theorem q762 : (Jvm.Cond.code ({ cls := "PalaceOfRooms", name := "layHand", desc := "(JIIII)I" } : Jvm.MethodName) prog_1_method_30_code (11 : Nat) (Option.some Jvm.ClassFile.FieldType.int)) ∈ lw_all := lw_g (lw_at lw_m3 234 rfl) rfl
theorem q763 : (Jvm.Cond.constantLong "PalaceOfRooms" (239 : Nat) (31 : Int64)) ∈ lw_all := lw_g (lw_at lw_m3 235 rfl) rfl
theorem q764 : (Jvm.Cond.methodLink "PalaceOfRooms" (257 : Nat) ({ cls := "java/util/Arrays", name := "sort", desc := "([III)V" } : Jvm.MethodName)) ∈ lw_all := lw_g (lw_at lw_m3 236 rfl) rfl
theorem q814 : (Jvm.Cond.methodLink "PalaceOfRooms" (263 : Nat) ({ cls := "PalaceOfRooms", name := "told", desc := "(LPalaceOfRooms$Orders;II)I" } : Jvm.MethodName)) ∈ lw_all := lw_g (lw_at lw_m4 46 rfl) rfl
theorem q815 : (Jvm.Cond.privateMethod ({ cls := "PalaceOfRooms", name := "told", desc := "(LPalaceOfRooms$Orders;II)I" } : Jvm.MethodName)) ∈ lw_tbl := lw_at lw_m4 47 rfl
theorem q816 : (Jvm.Cond.instanceMethod ({ cls := "PalaceOfRooms", name := "told", desc := "(LPalaceOfRooms$Orders;II)I" } : Jvm.MethodName)) ∈ lw_all := lw_g (lw_at lw_m4 48 rfl) rfl
theorem q817 : (Jvm.Cond.code ({ cls := "PalaceOfRooms", name := "told", desc := "(LPalaceOfRooms$Orders;II)I" } : Jvm.MethodName) prog_1_method_31_code (4 : Nat) (Option.some Jvm.ClassFile.FieldType.int)) ∈ lw_all := lw_g (lw_at lw_m4 49 rfl) rfl
theorem q818 : (Jvm.Cond.methodLink "PalaceOfRooms" (241 : Nat) ({ cls := "PalaceOfRooms$Orders", name := "run", desc := "(I)V" } : Jvm.MethodName)) ∈ lw_all := lw_g (lw_at lw_m4 50 rfl) rfl
theorem q842 : (Jvm.Cond.instanceMethod ({ cls := "PalaceOfRooms", name := "code", desc := "(JII)I" } : Jvm.MethodName)) ∈ lw_all := lw_g (lw_at lw_m4 74 rfl) rfl
theorem q843 : (Jvm.Cond.selects "PalaceOfRooms" ({ cls := "PalaceOfRooms", name := "code", desc := "(JII)I" } : Jvm.MethodName) ({ cls := "PalaceOfRooms", name := "code", desc := "(JII)I" } : Jvm.MethodName)) ∈ lw_all := lw_g (lw_at lw_m4 75 rfl) rfl
theorem q844 : (Jvm.Cond.code ({ cls := "PalaceOfRooms", name := "code", desc := "(JII)I" } : Jvm.MethodName) prog_1_method_33_code (6 : Nat) (Option.some Jvm.ClassFile.FieldType.int)) ∈ lw_all := lw_g (lw_at lw_m4 76 rfl) rfl
theorem q846 : (Jvm.Cond.instanceMethod ({ cls := "PalaceOfRooms", name := "figures", desc := "(III)I" } : Jvm.MethodName)) ∈ lw_all := lw_g (lw_at lw_m4 78 rfl) rfl
theorem q847 : (Jvm.Cond.selects "PalaceOfRooms" ({ cls := "PalaceOfRooms", name := "figures", desc := "(III)I" } : Jvm.MethodName) ({ cls := "PalaceOfRooms", name := "figures", desc := "(III)I" } : Jvm.MethodName)) ∈ lw_all := lw_g (lw_at lw_m4 79 rfl) rfl
theorem q848 : (Jvm.Cond.code ({ cls := "PalaceOfRooms", name := "figures", desc := "(III)I" } : Jvm.MethodName) prog_1_method_34_code (5 : Nat) (Option.some Jvm.ClassFile.FieldType.int)) ∈ lw_all := lw_g (lw_at lw_m4 80 rfl) rfl
theorem q849 : (Jvm.Cond.constantLong "PalaceOfRooms" (267 : Nat) (9 : Int64)) ∈ lw_all := lw_g (lw_at lw_m4 81 rfl) rfl
theorem q851 : (Jvm.Cond.instanceMethod ({ cls := "PalaceOfRooms", name := "cost", desc := "(I)I" } : Jvm.MethodName)) ∈ lw_all := lw_g (lw_at lw_m4 83 rfl) rfl
theorem q852 : (Jvm.Cond.selects "PalaceOfRooms" ({ cls := "PalaceOfRooms", name := "cost", desc := "(I)I" } : Jvm.MethodName) ({ cls := "PalaceOfRooms", name := "cost", desc := "(I)I" } : Jvm.MethodName)) ∈ lw_all := lw_g (lw_at lw_m4 84 rfl) rfl
theorem q853 : (Jvm.Cond.code ({ cls := "PalaceOfRooms", name := "cost", desc := "(I)I" } : Jvm.MethodName) prog_1_method_36_code (2 : Nat) (Option.some Jvm.ClassFile.FieldType.int)) ∈ lw_all := lw_g (lw_at lw_m4 85 rfl) rfl
theorem q854 : (Jvm.Cond.methodLink "PalaceOfRooms" (269 : Nat) ({ cls := "PalaceOfRooms", name := "costOf", desc := "(I)I" } : Jvm.MethodName)) ∈ lw_all := lw_g (lw_at lw_m4 86 rfl) rfl
theorem q855 : (Jvm.Cond.privateMethod ({ cls := "PalaceOfRooms", name := "costOf", desc := "(I)I" } : Jvm.MethodName)) ∈ lw_tbl := lw_at lw_m4 87 rfl
theorem q856 : (Jvm.Cond.instanceMethod ({ cls := "PalaceOfRooms", name := "costOf", desc := "(I)I" } : Jvm.MethodName)) ∈ lw_all := lw_g (lw_at lw_m4 88 rfl) rfl
theorem q857 : (Jvm.Cond.code ({ cls := "PalaceOfRooms", name := "costOf", desc := "(I)I" } : Jvm.MethodName) prog_1_method_35_code (3 : Nat) (Option.some Jvm.ClassFile.FieldType.int)) ∈ lw_all := lw_g (lw_at lw_m4 89 rfl) rfl
theorem q859 : (Jvm.Cond.instanceMethod ({ cls := "PalaceOfRooms", name := "plan", desc := "(III)I" } : Jvm.MethodName)) ∈ lw_all := lw_g (lw_at lw_m4 91 rfl) rfl
theorem q860 : (Jvm.Cond.selects "PalaceOfRooms" ({ cls := "PalaceOfRooms", name := "plan", desc := "(III)I" } : Jvm.MethodName) ({ cls := "PalaceOfRooms", name := "plan", desc := "(III)I" } : Jvm.MethodName)) ∈ lw_all := lw_g (lw_at lw_m4 92 rfl) rfl
theorem q861 : (Jvm.Cond.code ({ cls := "PalaceOfRooms", name := "plan", desc := "(III)I" } : Jvm.MethodName) prog_1_method_42_code (9 : Nat) (Option.some Jvm.ClassFile.FieldType.int)) ∈ lw_all := lw_g (lw_at lw_m4 93 rfl) rfl
theorem q862 : (Jvm.Cond.methodLink "PalaceOfRooms" (283 : Nat) ({ cls := "PalaceOfRooms", name := "areMinutes", desc := "(II)Z" } : Jvm.MethodName)) ∈ lw_all := lw_g (lw_at lw_m4 94 rfl) rfl
theorem q863 : (Jvm.Cond.static ({ cls := "PalaceOfRooms", name := "areMinutes", desc := "(II)Z" } : Jvm.MethodName)) ∈ lw_all := lw_g (lw_at lw_m4 95 rfl) rfl
theorem q864 : (Jvm.Cond.code ({ cls := "PalaceOfRooms", name := "areMinutes", desc := "(II)Z" } : Jvm.MethodName) prog_1_method_38_code (4 : Nat) (Option.some Jvm.ClassFile.FieldType.boolean)) ∈ lw_all := lw_g (lw_at lw_m4 96 rfl) rfl
theorem q865 : (Jvm.Cond.constantLong "PalaceOfRooms" (272 : Nat) (4 : Int64)) ∈ lw_all := lw_g (lw_at lw_m4 97 rfl) rfl
theorem q866 : (Jvm.Cond.methodLink "PalaceOfRooms" (274 : Nat) ({ cls := "PalaceOfRooms", name := "minutesOf", desc := "(II)I" } : Jvm.MethodName)) ∈ lw_all := lw_g (lw_at lw_m4 98 rfl) rfl
theorem q867 : (Jvm.Cond.static ({ cls := "PalaceOfRooms", name := "minutesOf", desc := "(II)I" } : Jvm.MethodName)) ∈ lw_all := lw_g (lw_at lw_m4 99 rfl) rfl
theorem q868 : (Jvm.Cond.code ({ cls := "PalaceOfRooms", name := "minutesOf", desc := "(II)I" } : Jvm.MethodName) prog_1_method_37_code (2 : Nat) (Option.some Jvm.ClassFile.FieldType.int)) ∈ lw_all := lw_g (lw_at lw_m4 100 rfl) rfl
theorem q869 : (Jvm.Cond.constantLong "PalaceOfRooms" (287 : Nat) (-1 : Int64)) ∈ lw_all := lw_g (lw_at lw_m4 101 rfl) rfl
theorem q870 : (Jvm.Cond.methodLink "PalaceOfRooms" (289 : Nat) ({ cls := "PalaceOfRooms", name := "layCosts", desc := "()V" } : Jvm.MethodName)) ∈ lw_all := lw_g (lw_at lw_m4 102 rfl) rfl
theorem q871 : (Jvm.Cond.privateMethod ({ cls := "PalaceOfRooms", name := "layCosts", desc := "()V" } : Jvm.MethodName)) ∈ lw_tbl := lw_at lw_m4 103 rfl
theorem q872 : (Jvm.Cond.instanceMethod ({ cls := "PalaceOfRooms", name := "layCosts", desc := "()V" } : Jvm.MethodName)) ∈ lw_all := lw_g (lw_at lw_m4 104 rfl) rfl
theorem q873 : (Jvm.Cond.code ({ cls := "PalaceOfRooms", name := "layCosts", desc := "()V" } : Jvm.MethodName) prog_1_method_40_code (2 : Nat) (Option.none : Option Jvm.ClassFile.FieldType)) ∈ lw_all := lw_g (lw_at lw_m4 105 rfl) rfl
theorem q874 : (Jvm.Cond.methodLink "PalaceOfRooms" (292 : Nat) ({ cls := "PalaceOfRooms", name := "layPlan", desc := "(II)V" } : Jvm.MethodName)) ∈ lw_all := lw_g (lw_at lw_m4 106 rfl) rfl
theorem q875 : (Jvm.Cond.privateMethod ({ cls := "PalaceOfRooms", name := "layPlan", desc := "(II)V" } : Jvm.MethodName)) ∈ lw_tbl := lw_at lw_m4 107 rfl
theorem q876 : (Jvm.Cond.instanceMethod ({ cls := "PalaceOfRooms", name := "layPlan", desc := "(II)V" } : Jvm.MethodName)) ∈ lw_all := lw_g (lw_at lw_m4 108 rfl) rfl
theorem q877 : (Jvm.Cond.code ({ cls := "PalaceOfRooms", name := "layPlan", desc := "(II)V" } : Jvm.MethodName) prog_1_method_41_code (5 : Nat) (Option.none : Option Jvm.ClassFile.FieldType)) ∈ lw_all := lw_g (lw_at lw_m4 109 rfl) rfl
theorem q878 : (Jvm.Cond.methodLink "PalaceOfRooms" (295 : Nat) ({ cls := "PalaceOfRooms", name := "strengthBehind", desc := "(II)I" } : Jvm.MethodName)) ∈ lw_all := lw_g (lw_at lw_m4 110 rfl) rfl
theorem q879 : (Jvm.Cond.privateMethod ({ cls := "PalaceOfRooms", name := "strengthBehind", desc := "(II)I" } : Jvm.MethodName)) ∈ lw_tbl := lw_at lw_m4 111 rfl
theorem q880 : (Jvm.Cond.instanceMethod ({ cls := "PalaceOfRooms", name := "strengthBehind", desc := "(II)I" } : Jvm.MethodName)) ∈ lw_all := lw_g (lw_at lw_m4 112 rfl) rfl
theorem q881 : (Jvm.Cond.code ({ cls := "PalaceOfRooms", name := "strengthBehind", desc := "(II)I" } : Jvm.MethodName) prog_1_method_39_code (5 : Nat) (Option.some Jvm.ClassFile.FieldType.int)) ∈ lw_all := lw_g (lw_at lw_m4 113 rfl) rfl
theorem q882 : (Jvm.Cond.methodLink "PalaceOfRooms" (277 : Nat) ({ cls := "PalaceOfRooms$House", name := "copy", desc := "(LPalaceOfRooms$House;)V" } : Jvm.MethodName)) ∈ lw_all := lw_g (lw_at lw_m4 114 rfl) rfl
theorem q898 : (Jvm.Cond.methodLink "PalaceOfRooms" (281 : Nat) ({ cls := "PalaceOfRooms$House", name := "strength", desc := "()I" } : Jvm.MethodName)) ∈ lw_all := lw_g (lw_at lw_m4 130 rfl) rfl
theorem q903 : (Jvm.Cond.instanceMethod ({ cls := "PalaceOfRooms", name := "judge", desc := "(III)I" } : Jvm.MethodName)) ∈ lw_all := lw_g (lw_at lw_m4 135 rfl) rfl
theorem q904 : (Jvm.Cond.selects "PalaceOfRooms" ({ cls := "PalaceOfRooms", name := "judge", desc := "(III)I" } : Jvm.MethodName) ({ cls := "PalaceOfRooms", name := "judge", desc := "(III)I" } : Jvm.MethodName)) ∈ lw_all := lw_g (lw_at lw_m4 136 rfl) rfl
theorem q905 : (Jvm.Cond.code ({ cls := "PalaceOfRooms", name := "judge", desc := "(III)I" } : Jvm.MethodName) prog_1_method_43_code (6 : Nat) (Option.some Jvm.ClassFile.FieldType.int)) ∈ lw_all := lw_g (lw_at lw_m4 137 rfl) rfl
theorem q907 : (Jvm.Cond.instanceMethod ({ cls := "PalaceOfRooms", name := "right", desc := "(II)I" } : Jvm.MethodName)) ∈ lw_all := lw_g (lw_at lw_m4 139 rfl) rfl
theorem q908 : (Jvm.Cond.selects "PalaceOfRooms" ({ cls := "PalaceOfRooms", name := "right", desc := "(II)I" } : Jvm.MethodName) ({ cls := "PalaceOfRooms", name := "right", desc := "(II)I" } : Jvm.MethodName)) ∈ lw_all := lw_g (lw_at lw_m4 140 rfl) rfl
theorem q909 : (Jvm.Cond.code ({ cls := "PalaceOfRooms", name := "right", desc := "(II)I" } : Jvm.MethodName) prog_1_method_44_code (9 : Nat) (Option.some Jvm.ClassFile.FieldType.int)) ∈ lw_all := lw_g (lw_at lw_m4 141 rfl) rfl
theorem q910 : (Jvm.Cond.methodLink "PalaceOfRooms" (298 : Nat) ({ cls := "PalaceOfRooms", name := "isLike", desc := "(II)Z" } : Jvm.MethodName)) ∈ lw_all := lw_g (lw_at lw_m4 142 rfl) rfl
theorem q912 : (Jvm.Cond.instanceMethod ({ cls := "PalaceOfRooms", name := "causes", desc := "(II)I" } : Jvm.MethodName)) ∈ lw_all := lw_g (lw_at lw_m4 144 rfl) rfl
theorem q913 : (Jvm.Cond.selects "PalaceOfRooms" ({ cls := "PalaceOfRooms", name := "causes", desc := "(II)I" } : Jvm.MethodName) ({ cls := "PalaceOfRooms", name := "causes", desc := "(II)I" } : Jvm.MethodName)) ∈ lw_all := lw_g (lw_at lw_m4 145 rfl) rfl
theorem q914 : (Jvm.Cond.code ({ cls := "PalaceOfRooms", name := "causes", desc := "(II)I" } : Jvm.MethodName) prog_1_method_45_code (6 : Nat) (Option.some Jvm.ClassFile.FieldType.int)) ∈ lw_all := lw_g (lw_at lw_m4 146 rfl) rfl
theorem q916 : (Jvm.Cond.instanceMethod ({ cls := "PalaceOfRooms", name := "asked", desc := "(II)I" } : Jvm.MethodName)) ∈ lw_all := lw_g (lw_at lw_m4 148 rfl) rfl
theorem q917 : (Jvm.Cond.selects "PalaceOfRooms" ({ cls := "PalaceOfRooms", name := "asked", desc := "(II)I" } : Jvm.MethodName) ({ cls := "PalaceOfRooms", name := "asked", desc := "(II)I" } : Jvm.MethodName)) ∈ lw_all := lw_g (lw_at lw_m4 149 rfl) rfl
theorem q918 : (Jvm.Cond.code ({ cls := "PalaceOfRooms", name := "asked", desc := "(II)I" } : Jvm.MethodName) prog_1_method_46_code (5 : Nat) (Option.some Jvm.ClassFile.FieldType.int)) ∈ lw_all := lw_g (lw_at lw_m4 150 rfl) rfl
theorem q920 : (Jvm.Cond.instanceMethod ({ cls := "PalaceOfRooms", name := "beside", desc := "(II)I" } : Jvm.MethodName)) ∈ lw_all := lw_g (lw_at lw_m4 152 rfl) rfl
theorem q921 : (Jvm.Cond.selects "PalaceOfRooms" ({ cls := "PalaceOfRooms", name := "beside", desc := "(II)I" } : Jvm.MethodName) ({ cls := "PalaceOfRooms", name := "beside", desc := "(II)I" } : Jvm.MethodName)) ∈ lw_all := lw_g (lw_at lw_m4 153 rfl) rfl
theorem q922 : (Jvm.Cond.code ({ cls := "PalaceOfRooms", name := "beside", desc := "(II)I" } : Jvm.MethodName) prog_1_method_47_code (7 : Nat) (Option.some Jvm.ClassFile.FieldType.int)) ∈ lw_all := lw_g (lw_at lw_m4 154 rfl) rfl
theorem q924 : (Jvm.Cond.instanceMethod ({ cls := "PalaceOfRooms", name := "answer", desc := "(IIZ)I" } : Jvm.MethodName)) ∈ lw_all := lw_g (lw_at lw_m4 156 rfl) rfl
theorem q925 : (Jvm.Cond.selects "PalaceOfRooms" ({ cls := "PalaceOfRooms", name := "answer", desc := "(IIZ)I" } : Jvm.MethodName) ({ cls := "PalaceOfRooms", name := "answer", desc := "(IIZ)I" } : Jvm.MethodName)) ∈ lw_all := lw_g (lw_at lw_m4 157 rfl) rfl
theorem q926 : (Jvm.Cond.code ({ cls := "PalaceOfRooms", name := "answer", desc := "(IIZ)I" } : Jvm.MethodName) prog_1_method_49_code (5 : Nat) (Option.some Jvm.ClassFile.FieldType.int)) ∈ lw_all := lw_g (lw_at lw_m4 158 rfl) rfl
theorem q927 : (Jvm.Cond.methodLink "PalaceOfRooms" (303 : Nat) ({ cls := "PalaceOfRooms", name := "isPupil", desc := "(I)Z" } : Jvm.MethodName)) ∈ lw_all := lw_g (lw_at lw_m4 159 rfl) rfl
theorem q928 : (Jvm.Cond.static ({ cls := "PalaceOfRooms", name := "isPupil", desc := "(I)Z" } : Jvm.MethodName)) ∈ lw_all := lw_g (lw_at lw_m4 160 rfl) rfl
theorem q929 : (Jvm.Cond.code ({ cls := "PalaceOfRooms", name := "isPupil", desc := "(I)Z" } : Jvm.MethodName) prog_1_method_48_code (1 : Nat) (Option.some Jvm.ClassFile.FieldType.boolean)) ∈ lw_all := lw_g (lw_at lw_m4 161 rfl) rfl
theorem q930 : (Jvm.Cond.constantLong "PalaceOfRooms" (301 : Nat) (3 : Int64)) ∈ lw_all := lw_g (lw_at lw_m4 162 rfl) rfl
theorem q932 : (Jvm.Cond.instanceMethod ({ cls := "PalaceOfRooms", name := "pupil", desc := "(II)I" } : Jvm.MethodName)) ∈ lw_all := lw_g (lw_at lw_m4 164 rfl) rfl
theorem q933 : (Jvm.Cond.selects "PalaceOfRooms" ({ cls := "PalaceOfRooms", name := "pupil", desc := "(II)I" } : Jvm.MethodName) ({ cls := "PalaceOfRooms", name := "pupil", desc := "(II)I" } : Jvm.MethodName)) ∈ lw_all := lw_g (lw_at lw_m4 165 rfl) rfl
theorem q934 : (Jvm.Cond.code ({ cls := "PalaceOfRooms", name := "pupil", desc := "(II)I" } : Jvm.MethodName) prog_1_method_50_code (4 : Nat) (Option.some Jvm.ClassFile.FieldType.int)) ∈ lw_all := lw_g (lw_at lw_m4 166 rfl) rfl
theorem q935 : (Jvm.Cond.methodLink "PalaceOfRooms" (314 : Nat) ({ cls := "PalaceOfRooms$Pupil", name := "mayBe", desc := "()I" } : Jvm.MethodName)) ∈ lw_all := lw_g (lw_at lw_m4 167 rfl) rfl
theorem q946 : (Jvm.Cond.methodLink "PalaceOfRooms" (317 : Nat) ({ cls := "PalaceOfRooms$Pupil", name := "likeliest", desc := "()I" } : Jvm.MethodName)) ∈ lw_all := lw_g (lw_at lw_m4 178 rfl) rfl
theorem q950 : (Jvm.Cond.methodLink "PalaceOfRooms" (320 : Nat) ({ cls := "PalaceOfRooms$Pupil", name := "agrees", desc := "(II)I" } : Jvm.MethodName)) ∈ lw_all := lw_g (lw_at lw_m4 182 rfl) rfl
theorem q951 : (Jvm.Cond.methodLink "PalaceOfRooms" (323 : Nat) ({ cls := "PalaceOfRooms$Pupil", name := "parts", desc := "()I" } : Jvm.MethodName)) ∈ lw_all := lw_g (lw_at lw_m4 183 rfl) rfl
theorem q964 : (Jvm.Cond.instanceMethod ({ cls := "PalaceOfRooms", name := "enough", desc := "(I)I" } : Jvm.MethodName)) ∈ lw_all := lw_g (lw_at lw_m4 196 rfl) rfl
theorem q965 : (Jvm.Cond.selects "PalaceOfRooms" ({ cls := "PalaceOfRooms", name := "enough", desc := "(I)I" } : Jvm.MethodName) ({ cls := "PalaceOfRooms", name := "enough", desc := "(I)I" } : Jvm.MethodName)) ∈ lw_all := lw_g (lw_at lw_m4 197 rfl) rfl
theorem q966 : (Jvm.Cond.code ({ cls := "PalaceOfRooms", name := "enough", desc := "(I)I" } : Jvm.MethodName) prog_1_method_51_code (6 : Nat) (Option.some Jvm.ClassFile.FieldType.int)) ∈ lw_all := lw_g (lw_at lw_m4 198 rfl) rfl
theorem q967 : (Jvm.Cond.constantLong "PalaceOfRooms" (326 : Nat) (48 : Int64)) ∈ lw_all := lw_g (lw_at lw_m4 199 rfl) rfl
theorem q968 : (Jvm.Cond.methodLink "PalaceOfRooms" (328 : Nat) ({ cls := "java/lang/Math", name := "min", desc := "(II)I" } : Jvm.MethodName)) ∈ lw_all := lw_g (lw_at lw_m4 200 rfl) rfl
theorem q970 : (Jvm.Cond.instanceMethod ({ cls := "PalaceOfRooms", name := "count", desc := "(I)I" } : Jvm.MethodName)) ∈ lw_all := lw_g (lw_at lw_m4 202 rfl) rfl
theorem q971 : (Jvm.Cond.selects "PalaceOfRooms" ({ cls := "PalaceOfRooms", name := "count", desc := "(I)I" } : Jvm.MethodName) ({ cls := "PalaceOfRooms", name := "count", desc := "(I)I" } : Jvm.MethodName)) ∈ lw_all := lw_g (lw_at lw_m4 203 rfl) rfl
theorem q972 : (Jvm.Cond.code ({ cls := "PalaceOfRooms", name := "count", desc := "(I)I" } : Jvm.MethodName) prog_1_method_52_code (4 : Nat) (Option.some Jvm.ClassFile.FieldType.int)) ∈ lw_all := lw_g (lw_at lw_m4 204 rfl) rfl
theorem in_X0 : ∀ w ∈ wsX00, w ∈ lw_all := lw_in wsX00 [278, 280, 282, 284, 286, 288, 290, 292, 294, 296, 298, 300, 302, 304, 306, 308, 310, 312, 314, 316, 318, 320] (by decide +kernel) (by decide +kernel)
def RX1 : String := "PalaceOfRooms$House"
def TX1 : u_T := fun k => match k with
  | 0 => ("PalaceOfRooms$House", "corners", "[LPalaceOfRooms$Corner;", true)
  | _ => ("PalaceOfRooms$House", "this$0", "LPalaceOfRooms;", true)
def tyX1 : Nat → FieldType := fun k => match k with
  | 0 => .array (.object "PalaceOfRooms$Corner")
  | _ => .object "PalaceOfRooms"
abbrev wsX10 : List Cond := u_ws RX1 TX1 2
theorem nmX1 : ∀ a, a < 2 → ∀ b, b < 2 → a ≠ b → (TX1 a).2.1 ≠ (TX1 b).2.1 := by decide +kernel
theorem tyX1_ok : ∀ k, k < 2 → parseFieldDescriptor (TX1 k).2.2.1 = some (tyX1 k) := by decide +kernel
abbrev cX1_init : ByteArray := prog_9_method_1_code
def yX1_init : MethodName := ⟨RX1, "<init>", "(LPalaceOfRooms;)V"⟩
abbrev cX1_goBy : ByteArray := prog_9_method_4_code
def yX1_goBy : MethodName := ⟨RX1, "goBy", "()V"⟩
abbrev cX1_likes : ByteArray := prog_9_method_3_code
def yX1_likes : MethodName := ⟨RX1, "likes", "(I)I"⟩
abbrev cX1_walk : ByteArray := prog_9_method_5_code
def yX1_walk : MethodName := ⟨RX1, "walk", "(I)I"⟩
abbrev cX1_held : ByteArray := prog_9_method_6_code
def yX1_held : MethodName := ⟨RX1, "held", "(I)I"⟩
abbrev cX1_copy : ByteArray := prog_9_method_2_code
def yX1_copy : MethodName := ⟨RX1, "copy", "(LPalaceOfRooms$House;)V"⟩
abbrev cX1_strength : ByteArray := prog_9_method_7_code
def yX1_strength : MethodName := ⟨RX1, "strength", "()I"⟩
theorem q50 : (Jvm.Cond.initialized "PalaceOfRooms$House") ∈ lw_all := lw_g (lw_at lw_m1 2 rfl) rfl
theorem q88 : (Jvm.Cond.instantiable "PalaceOfRooms$House" (2 : Nat)) ∈ lw_all := lw_g (lw_at lw_m1 40 rfl) rfl
theorem q90 : (Jvm.Cond.instanceMethod ({ cls := "PalaceOfRooms$House", name := "<init>", desc := "(LPalaceOfRooms;)V" } : Jvm.MethodName)) ∈ lw_all := lw_g (lw_at lw_m1 42 rfl) rfl
theorem q91 : (Jvm.Cond.code ({ cls := "PalaceOfRooms$House", name := "<init>", desc := "(LPalaceOfRooms;)V" } : Jvm.MethodName) prog_9_method_1_code (3 : Nat) (Option.none : Option Jvm.ClassFile.FieldType)) ∈ lw_all := lw_g (lw_at lw_m1 43 rfl) rfl
theorem q92 : (Jvm.Cond.methodLink "PalaceOfRooms$House" (9 : Nat) ({ cls := "java/lang/Object", name := "<init>", desc := "()V" } : Jvm.MethodName)) ∈ lw_all := lw_g (lw_at lw_m1 44 rfl) rfl
theorem q93 : (Jvm.Cond.classLink "PalaceOfRooms$House" (15 : Nat) "PalaceOfRooms$Corner") ∈ lw_all := lw_g (lw_at lw_m1 45 rfl) rfl
theorem q96 : (Jvm.Cond.methodLinkNest "PalaceOfRooms$House" (21 : Nat) ({ cls := "PalaceOfRooms$Corner", name := "<init>", desc := "()V" } : Jvm.MethodName) "PalaceOfRooms") ∈ lw_tbl := lw_at lw_m1 48 rfl
theorem q112 : (Jvm.Cond.fieldLink "PalaceOfRooms$House" (30 : Nat) "PalaceOfRooms$Corner" "thing" "I") ∈ lw_all := lw_g (lw_at lw_m1 64 rfl) rfl
theorem q121 : (Jvm.Cond.fieldLink "PalaceOfRooms$House" (42 : Nat) "PalaceOfRooms$Corner" "strength" "I") ∈ lw_all := lw_g (lw_at lw_m1 73 rfl) rfl
theorem q122 : (Jvm.Cond.fieldLink "PalaceOfRooms$House" (60 : Nat) "PalaceOfRooms$Ghost" "strength" "I") ∈ lw_all := lw_g (lw_at lw_m1 74 rfl) rfl
theorem q133 : (Jvm.Cond.fieldLinkNest "PalaceOfRooms$House" (53 : Nat) "PalaceOfRooms$Corner" "ghost" "LPalaceOfRooms$Ghost;" "PalaceOfRooms") ∈ lw_tbl := lw_at lw_m1 85 rfl
theorem q144 : (Jvm.Cond.fieldLink "PalaceOfRooms$House" (17 : Nat) "PalaceOfRooms$House" "corners" "[LPalaceOfRooms$Corner;") ∈ lw_all := lw_g (lw_at lw_m1 96 rfl) rfl
theorem q146 : (Jvm.Cond.fieldLink "PalaceOfRooms$House" (3 : Nat) "PalaceOfRooms$House" "this$0" "LPalaceOfRooms;") ∈ lw_all := lw_g (lw_at lw_m1 98 rfl) rfl
theorem q147 : (Jvm.Cond.laysFinal "PalaceOfRooms$House" "PalaceOfRooms$House" "corners" "[LPalaceOfRooms$Corner;") ∈ lw_all := lw_g (lw_at lw_m1 99 rfl) rfl
theorem q148 : (Jvm.Cond.soleField "PalaceOfRooms$House" "corners") ∈ lw_all := lw_g (lw_at lw_m1 100 rfl) rfl
theorem q149 : (Jvm.Cond.laysFinal "PalaceOfRooms$House" "PalaceOfRooms$House" "this$0" "LPalaceOfRooms;") ∈ lw_all := lw_g (lw_at lw_m1 101 rfl) rfl
theorem q150 : (Jvm.Cond.soleField "PalaceOfRooms$House" "this$0") ∈ lw_all := lw_g (lw_at lw_m1 102 rfl) rfl
theorem q151 : (Jvm.Cond.superclass "PalaceOfRooms$House" "java/lang/Object") ∈ lw_all := lw_g (lw_at lw_m1 103 rfl) rfl
theorem q254 : (Jvm.Cond.fieldLinkNest "PalaceOfRooms$House" (62 : Nat) "PalaceOfRooms" "gain" "I" "PalaceOfRooms") ∈ lw_tbl := lw_at lw_m1 206 rfl
theorem q255 : (Jvm.Cond.fieldLinkNest "PalaceOfRooms$House" (38 : Nat) "PalaceOfRooms" "falls" "[I" "PalaceOfRooms") ∈ lw_tbl := lw_at lw_m1 207 rfl
theorem q433 : (Jvm.Cond.instanceMethod ({ cls := "PalaceOfRooms$House", name := "goBy", desc := "()V" } : Jvm.MethodName)) ∈ lw_all := lw_g (lw_at lw_m2 145 rfl) rfl
theorem q434 : (Jvm.Cond.selects "PalaceOfRooms$House" ({ cls := "PalaceOfRooms$House", name := "goBy", desc := "()V" } : Jvm.MethodName) ({ cls := "PalaceOfRooms$House", name := "goBy", desc := "()V" } : Jvm.MethodName)) ∈ lw_all := lw_g (lw_at lw_m2 146 rfl) rfl
theorem q435 : (Jvm.Cond.code ({ cls := "PalaceOfRooms$House", name := "goBy", desc := "()V" } : Jvm.MethodName) prog_9_method_4_code (3 : Nat) (Option.none : Option Jvm.ClassFile.FieldType)) ∈ lw_all := lw_g (lw_at lw_m2 147 rfl) rfl
theorem q436 : (Jvm.Cond.methodLink "PalaceOfRooms$House" (26 : Nat) ({ cls := "PalaceOfRooms$Corner", name := "isThere", desc := "()Z" } : Jvm.MethodName)) ∈ lw_all := lw_g (lw_at lw_m2 148 rfl) rfl
theorem q437 : (Jvm.Cond.methodLink "PalaceOfRooms$House" (45 : Nat) ({ cls := "PalaceOfRooms$House", name := "likes", desc := "(I)I" } : Jvm.MethodName)) ∈ lw_all := lw_g (lw_at lw_m2 149 rfl) rfl
theorem q438 : (Jvm.Cond.privateMethod ({ cls := "PalaceOfRooms$House", name := "likes", desc := "(I)I" } : Jvm.MethodName)) ∈ lw_tbl := lw_at lw_m2 150 rfl
theorem q439 : (Jvm.Cond.instanceMethod ({ cls := "PalaceOfRooms$House", name := "likes", desc := "(I)I" } : Jvm.MethodName)) ∈ lw_all := lw_g (lw_at lw_m2 151 rfl) rfl
theorem q440 : (Jvm.Cond.code ({ cls := "PalaceOfRooms$House", name := "likes", desc := "(I)I" } : Jvm.MethodName) prog_9_method_3_code (4 : Nat) (Option.some Jvm.ClassFile.FieldType.int)) ∈ lw_all := lw_g (lw_at lw_m2 152 rfl) rfl
theorem q441 : (Jvm.Cond.methodLinkNest "PalaceOfRooms$House" (34 : Nat) ({ cls := "PalaceOfRooms", name := "isLike", desc := "(II)Z" } : Jvm.MethodName) "PalaceOfRooms") ∈ lw_tbl := lw_at lw_m2 153 rfl
theorem q445 : (Jvm.Cond.methodLink "PalaceOfRooms$House" (49 : Nat) ({ cls := "PalaceOfRooms$Corner", name := "fade", desc := "(I)V" } : Jvm.MethodName)) ∈ lw_all := lw_g (lw_at lw_m2 157 rfl) rfl
theorem q454 : (Jvm.Cond.methodLink "PalaceOfRooms$House" (57 : Nat) ({ cls := "PalaceOfRooms$Ghost", name := "isThere", desc := "()Z" } : Jvm.MethodName)) ∈ lw_all := lw_g (lw_at lw_m2 166 rfl) rfl
theorem q455 : (Jvm.Cond.methodLink "PalaceOfRooms$House" (61 : Nat) ({ cls := "PalaceOfRooms$Ghost", name := "fade", desc := "(I)V" } : Jvm.MethodName)) ∈ lw_all := lw_g (lw_at lw_m2 167 rfl) rfl
theorem q466 : (Jvm.Cond.instanceMethod ({ cls := "PalaceOfRooms$House", name := "walk", desc := "(I)I" } : Jvm.MethodName)) ∈ lw_all := lw_g (lw_at lw_m2 178 rfl) rfl
theorem q467 : (Jvm.Cond.selects "PalaceOfRooms$House" ({ cls := "PalaceOfRooms$House", name := "walk", desc := "(I)I" } : Jvm.MethodName) ({ cls := "PalaceOfRooms$House", name := "walk", desc := "(I)I" } : Jvm.MethodName)) ∈ lw_all := lw_g (lw_at lw_m2 179 rfl) rfl
theorem q468 : (Jvm.Cond.code ({ cls := "PalaceOfRooms$House", name := "walk", desc := "(I)I" } : Jvm.MethodName) prog_9_method_5_code (6 : Nat) (Option.some Jvm.ClassFile.FieldType.int)) ∈ lw_all := lw_g (lw_at lw_m2 180 rfl) rfl
theorem q732 : (Jvm.Cond.instanceMethod ({ cls := "PalaceOfRooms$House", name := "held", desc := "(I)I" } : Jvm.MethodName)) ∈ lw_all := lw_g (lw_at lw_m3 204 rfl) rfl
theorem q733 : (Jvm.Cond.selects "PalaceOfRooms$House" ({ cls := "PalaceOfRooms$House", name := "held", desc := "(I)I" } : Jvm.MethodName) ({ cls := "PalaceOfRooms$House", name := "held", desc := "(I)I" } : Jvm.MethodName)) ∈ lw_all := lw_g (lw_at lw_m3 205 rfl) rfl
theorem q734 : (Jvm.Cond.code ({ cls := "PalaceOfRooms$House", name := "held", desc := "(I)I" } : Jvm.MethodName) prog_9_method_6_code (4 : Nat) (Option.some Jvm.ClassFile.FieldType.int)) ∈ lw_all := lw_g (lw_at lw_m3 206 rfl) rfl
theorem q883 : (Jvm.Cond.instanceMethod ({ cls := "PalaceOfRooms$House", name := "copy", desc := "(LPalaceOfRooms$House;)V" } : Jvm.MethodName)) ∈ lw_all := lw_g (lw_at lw_m4 115 rfl) rfl
theorem q884 : (Jvm.Cond.selects "PalaceOfRooms$House" ({ cls := "PalaceOfRooms$House", name := "copy", desc := "(LPalaceOfRooms$House;)V" } : Jvm.MethodName) ({ cls := "PalaceOfRooms$House", name := "copy", desc := "(LPalaceOfRooms$House;)V" } : Jvm.MethodName)) ∈ lw_all := lw_g (lw_at lw_m4 116 rfl) rfl
theorem q885 : (Jvm.Cond.code ({ cls := "PalaceOfRooms$House", name := "copy", desc := "(LPalaceOfRooms$House;)V" } : Jvm.MethodName) prog_9_method_2_code (3 : Nat) (Option.none : Option Jvm.ClassFile.FieldType)) ∈ lw_all := lw_g (lw_at lw_m4 117 rfl) rfl
theorem q886 : (Jvm.Cond.methodLink "PalaceOfRooms$House" (22 : Nat) ({ cls := "PalaceOfRooms$Corner", name := "copy", desc := "(LPalaceOfRooms$Corner;)V" } : Jvm.MethodName)) ∈ lw_all := lw_g (lw_at lw_m4 118 rfl) rfl
theorem q899 : (Jvm.Cond.instanceMethod ({ cls := "PalaceOfRooms$House", name := "strength", desc := "()I" } : Jvm.MethodName)) ∈ lw_all := lw_g (lw_at lw_m4 131 rfl) rfl
theorem q900 : (Jvm.Cond.selects "PalaceOfRooms$House" ({ cls := "PalaceOfRooms$House", name := "strength", desc := "()I" } : Jvm.MethodName) ({ cls := "PalaceOfRooms$House", name := "strength", desc := "()I" } : Jvm.MethodName)) ∈ lw_all := lw_g (lw_at lw_m4 132 rfl) rfl
theorem q901 : (Jvm.Cond.code ({ cls := "PalaceOfRooms$House", name := "strength", desc := "()I" } : Jvm.MethodName) prog_9_method_7_code (6 : Nat) (Option.some Jvm.ClassFile.FieldType.int)) ∈ lw_all := lw_g (lw_at lw_m4 133 rfl) rfl
theorem in_X1 : ∀ w ∈ wsX10, w ∈ lw_all := lw_in wsX10 [147, 149] (by decide +kernel) (by decide +kernel)
def RX2 : String := "PalaceOfRooms$Kept"
abbrev cX2_init : ByteArray := prog_10_method_1_code
def yX2_init : MethodName := ⟨RX2, "<init>", "()V"⟩
abbrev cX2_lay : ByteArray := prog_10_method_3_code
def yX2_lay : MethodName := ⟨RX2, "lay", "(II)V"⟩
abbrev cX2_isThere : ByteArray := prog_10_method_2_code
def yX2_isThere : MethodName := ⟨RX2, "isThere", "()Z"⟩
abbrev cX2_fade : ByteArray := prog_10_method_5_code
def yX2_fade : MethodName := ⟨RX2, "fade", "(I)V"⟩
abbrev cX2_copy : ByteArray := prog_10_method_4_code
def yX2_copy : MethodName := ⟨RX2, "copy", "(LPalaceOfRooms$Kept;)V"⟩
theorem q51 : (Jvm.Cond.initialized "PalaceOfRooms$Kept") ∈ lw_all := lw_g (lw_at lw_m1 3 rfl) rfl
theorem q100 : (Jvm.Cond.instanceMethod ({ cls := "PalaceOfRooms$Kept", name := "<init>", desc := "()V" } : Jvm.MethodName)) ∈ lw_all := lw_g (lw_at lw_m1 52 rfl) rfl
theorem q101 : (Jvm.Cond.code ({ cls := "PalaceOfRooms$Kept", name := "<init>", desc := "()V" } : Jvm.MethodName) prog_10_method_1_code (1 : Nat) (Option.none : Option Jvm.ClassFile.FieldType)) ∈ lw_all := lw_g (lw_at lw_m1 53 rfl) rfl
theorem q102 : (Jvm.Cond.methodLink "PalaceOfRooms$Kept" (3 : Nat) ({ cls := "java/lang/Object", name := "<init>", desc := "()V" } : Jvm.MethodName)) ∈ lw_all := lw_g (lw_at lw_m1 54 rfl) rfl
theorem q109 : (Jvm.Cond.fieldLink "PalaceOfRooms$Kept" (9 : Nat) "PalaceOfRooms$Kept" "thing" "I") ∈ lw_all := lw_g (lw_at lw_m1 61 rfl) rfl
theorem q120 : (Jvm.Cond.fieldLink "PalaceOfRooms$Kept" (15 : Nat) "PalaceOfRooms$Kept" "strength" "I") ∈ lw_all := lw_g (lw_at lw_m1 72 rfl) rfl
theorem q126 : (Jvm.Cond.soleField "PalaceOfRooms$Kept" "thing") ∈ lw_all := lw_g (lw_at lw_m1 78 rfl) rfl
theorem q128 : (Jvm.Cond.soleField "PalaceOfRooms$Kept" "strength") ∈ lw_all := lw_g (lw_at lw_m1 80 rfl) rfl
theorem q395 : (Jvm.Cond.declares ({ cls := "PalaceOfRooms$Kept", name := "lay", desc := "(II)V" } : Jvm.MethodName)) ∈ lw_tbl := lw_at lw_m2 107 rfl
theorem q397 : (Jvm.Cond.instanceMethod ({ cls := "PalaceOfRooms$Kept", name := "lay", desc := "(II)V" } : Jvm.MethodName)) ∈ lw_all := lw_g (lw_at lw_m2 109 rfl) rfl
theorem q398 : (Jvm.Cond.code ({ cls := "PalaceOfRooms$Kept", name := "lay", desc := "(II)V" } : Jvm.MethodName) prog_10_method_3_code (3 : Nat) (Option.none : Option Jvm.ClassFile.FieldType)) ∈ lw_all := lw_g (lw_at lw_m2 110 rfl) rfl
theorem q408 : (Jvm.Cond.declares ({ cls := "PalaceOfRooms$Kept", name := "isThere", desc := "()Z" } : Jvm.MethodName)) ∈ lw_tbl := lw_at lw_m2 120 rfl
theorem q410 : (Jvm.Cond.instanceMethod ({ cls := "PalaceOfRooms$Kept", name := "isThere", desc := "()Z" } : Jvm.MethodName)) ∈ lw_all := lw_g (lw_at lw_m2 122 rfl) rfl
theorem q411 : (Jvm.Cond.code ({ cls := "PalaceOfRooms$Kept", name := "isThere", desc := "()Z" } : Jvm.MethodName) prog_10_method_2_code (1 : Nat) (Option.some Jvm.ClassFile.FieldType.boolean)) ∈ lw_all := lw_g (lw_at lw_m2 123 rfl) rfl
theorem q447 : (Jvm.Cond.declares ({ cls := "PalaceOfRooms$Kept", name := "fade", desc := "(I)V" } : Jvm.MethodName)) ∈ lw_tbl := lw_at lw_m2 159 rfl
theorem q449 : (Jvm.Cond.instanceMethod ({ cls := "PalaceOfRooms$Kept", name := "fade", desc := "(I)V" } : Jvm.MethodName)) ∈ lw_all := lw_g (lw_at lw_m2 161 rfl) rfl
theorem q450 : (Jvm.Cond.code ({ cls := "PalaceOfRooms$Kept", name := "fade", desc := "(I)V" } : Jvm.MethodName) prog_10_method_5_code (2 : Nat) (Option.none : Option Jvm.ClassFile.FieldType)) ∈ lw_all := lw_g (lw_at lw_m2 162 rfl) rfl
theorem q451 : (Jvm.Cond.methodLink "PalaceOfRooms$Kept" (22 : Nat) ({ cls := "java/lang/Math", name := "max", desc := "(II)I" } : Jvm.MethodName)) ∈ lw_all := lw_g (lw_at lw_m2 163 rfl) rfl
theorem q891 : (Jvm.Cond.instanceMethod ({ cls := "PalaceOfRooms$Kept", name := "copy", desc := "(LPalaceOfRooms$Kept;)V" } : Jvm.MethodName)) ∈ lw_all := lw_g (lw_at lw_m4 123 rfl) rfl
theorem q892 : (Jvm.Cond.code ({ cls := "PalaceOfRooms$Kept", name := "copy", desc := "(LPalaceOfRooms$Kept;)V" } : Jvm.MethodName) prog_10_method_4_code (2 : Nat) (Option.none : Option Jvm.ClassFile.FieldType)) ∈ lw_all := lw_g (lw_at lw_m4 124 rfl) rfl
theorem q893 : (Jvm.Cond.methodLink "PalaceOfRooms$Kept" (18 : Nat) ({ cls := "PalaceOfRooms$Kept", name := "lay", desc := "(II)V" } : Jvm.MethodName)) ∈ lw_all := lw_g (lw_at lw_m4 125 rfl) rfl
theorem q896 : (Jvm.Cond.declares ({ cls := "PalaceOfRooms$Kept", name := "copy", desc := "(LPalaceOfRooms$Kept;)V" } : Jvm.MethodName)) ∈ lw_tbl := lw_at lw_m4 128 rfl
theorem q1364 : (Jvm.Cond.sameMethod "PalaceOfRooms$Kept" "PalaceOfRooms$Kept" "isThere" "()Z") ∈ lw_all := lw_g (lw_at lw_m6 116 rfl) rfl
theorem q1365 : (Jvm.Cond.sameMethod "PalaceOfRooms$Kept" "PalaceOfRooms$Kept" "fade" "(I)V") ∈ lw_all := lw_g (lw_at lw_m6 117 rfl) rfl
theorem q1368 : (Jvm.Cond.sameMethod "PalaceOfRooms$Kept" "PalaceOfRooms$Kept" "copy" "(LPalaceOfRooms$Kept;)V") ∈ lw_all := lw_g (lw_at lw_m6 120 rfl) rfl
theorem q1369 : (Jvm.Cond.sameMethod "PalaceOfRooms$Kept" "PalaceOfRooms$Kept" "lay" "(II)V") ∈ lw_all := lw_g (lw_at lw_m6 121 rfl) rfl
def RX3 : String := "PalaceOfRooms$Corner"
def TX3 : u_T := fun k => match k with
  | 0 => ("PalaceOfRooms$Kept", "thing", "I", false)
  | 1 => ("PalaceOfRooms$Kept", "strength", "I", false)
  | 2 => ("PalaceOfRooms$Corner", "ghost", "LPalaceOfRooms$Ghost;", true)
  | _ => ("PalaceOfRooms$Corner", "put", "I", false)
def tyX3 : Nat → FieldType := fun k => match k with
  | 0 => .int
  | 1 => .int
  | 2 => .object "PalaceOfRooms$Ghost"
  | _ => .int
abbrev wsX30 : List Cond := u_ws RX3 TX3 4
theorem nmX3 : ∀ a, a < 4 → ∀ b, b < 4 → a ≠ b → (TX3 a).2.1 ≠ (TX3 b).2.1 := by decide +kernel
theorem tyX3_ok : ∀ k, k < 4 → parseFieldDescriptor (TX3 k).2.2.1 = some (tyX3 k) := by decide +kernel
abbrev cX3_init : ByteArray := prog_5_method_1_code
def yX3_init : MethodName := ⟨RX3, "<init>", "()V"⟩
abbrev cX3_cover : ByteArray := prog_5_method_2_code
def yX3_cover : MethodName := ⟨RX3, "cover", "(II)I"⟩
abbrev cX3_copy : ByteArray := prog_5_method_3_code
def yX3_copy : MethodName := ⟨RX3, "copy", "(LPalaceOfRooms$Corner;)V"⟩
theorem q52 : (Jvm.Cond.initialized "PalaceOfRooms$Corner") ∈ lw_all := lw_g (lw_at lw_m1 4 rfl) rfl
theorem q95 : (Jvm.Cond.instantiable "PalaceOfRooms$Corner" (4 : Nat)) ∈ lw_all := lw_g (lw_at lw_m1 47 rfl) rfl
theorem q97 : (Jvm.Cond.instanceMethod ({ cls := "PalaceOfRooms$Corner", name := "<init>", desc := "()V" } : Jvm.MethodName)) ∈ lw_all := lw_g (lw_at lw_m1 49 rfl) rfl
theorem q98 : (Jvm.Cond.code ({ cls := "PalaceOfRooms$Corner", name := "<init>", desc := "()V" } : Jvm.MethodName) prog_5_method_1_code (1 : Nat) (Option.none : Option Jvm.ClassFile.FieldType)) ∈ lw_all := lw_g (lw_at lw_m1 50 rfl) rfl
theorem q99 : (Jvm.Cond.methodLinkNest "PalaceOfRooms$Corner" (3 : Nat) ({ cls := "PalaceOfRooms$Kept", name := "<init>", desc := "()V" } : Jvm.MethodName) "PalaceOfRooms") ∈ lw_tbl := lw_at lw_m1 51 rfl
theorem q103 : (Jvm.Cond.classLink "PalaceOfRooms$Corner" (9 : Nat) "PalaceOfRooms$Ghost") ∈ lw_all := lw_g (lw_at lw_m1 55 rfl) rfl
theorem q105 : (Jvm.Cond.methodLinkNest "PalaceOfRooms$Corner" (11 : Nat) ({ cls := "PalaceOfRooms$Ghost", name := "<init>", desc := "()V" } : Jvm.MethodName) "PalaceOfRooms") ∈ lw_tbl := lw_at lw_m1 57 rfl
theorem q110 : (Jvm.Cond.fieldLink "PalaceOfRooms$Corner" (22 : Nat) "PalaceOfRooms$Corner" "thing" "I") ∈ lw_all := lw_g (lw_at lw_m1 62 rfl) rfl
theorem q111 : (Jvm.Cond.sameField "PalaceOfRooms$Corner" "PalaceOfRooms$Kept" "thing" "I") ∈ lw_all := lw_g (lw_at lw_m1 63 rfl) rfl
theorem q118 : (Jvm.Cond.fieldLink "PalaceOfRooms$Corner" (25 : Nat) "PalaceOfRooms$Corner" "strength" "I") ∈ lw_all := lw_g (lw_at lw_m1 70 rfl) rfl
theorem q119 : (Jvm.Cond.sameField "PalaceOfRooms$Corner" "PalaceOfRooms$Kept" "strength" "I") ∈ lw_all := lw_g (lw_at lw_m1 71 rfl) rfl
theorem q132 : (Jvm.Cond.fieldLink "PalaceOfRooms$Corner" (12 : Nat) "PalaceOfRooms$Corner" "ghost" "LPalaceOfRooms$Ghost;") ∈ lw_all := lw_g (lw_at lw_m1 84 rfl) rfl
theorem q135 : (Jvm.Cond.fieldLink "PalaceOfRooms$Corner" (18 : Nat) "PalaceOfRooms$Corner" "put" "I") ∈ lw_all := lw_g (lw_at lw_m1 87 rfl) rfl
theorem q137 : (Jvm.Cond.laysFinal "PalaceOfRooms$Corner" "PalaceOfRooms$Corner" "ghost" "LPalaceOfRooms$Ghost;") ∈ lw_all := lw_g (lw_at lw_m1 89 rfl) rfl
theorem q138 : (Jvm.Cond.soleField "PalaceOfRooms$Corner" "ghost") ∈ lw_all := lw_g (lw_at lw_m1 90 rfl) rfl
theorem q139 : (Jvm.Cond.lays "PalaceOfRooms$Corner" "PalaceOfRooms$Corner" "put" "I") ∈ lw_all := lw_g (lw_at lw_m1 91 rfl) rfl
theorem q140 : (Jvm.Cond.soleField "PalaceOfRooms$Corner" "put") ∈ lw_all := lw_g (lw_at lw_m1 92 rfl) rfl
theorem q141 : (Jvm.Cond.lays "PalaceOfRooms$Corner" "PalaceOfRooms$Kept" "thing" "I") ∈ lw_all := lw_g (lw_at lw_m1 93 rfl) rfl
theorem q142 : (Jvm.Cond.lays "PalaceOfRooms$Corner" "PalaceOfRooms$Kept" "strength" "I") ∈ lw_all := lw_g (lw_at lw_m1 94 rfl) rfl
theorem q143 : (Jvm.Cond.superclass "PalaceOfRooms$Corner" "PalaceOfRooms$Kept") ∈ lw_all := lw_g (lw_at lw_m1 95 rfl) rfl
theorem q390 : (Jvm.Cond.instanceMethod ({ cls := "PalaceOfRooms$Corner", name := "cover", desc := "(II)I" } : Jvm.MethodName)) ∈ lw_all := lw_g (lw_at lw_m2 102 rfl) rfl
theorem q391 : (Jvm.Cond.selects "PalaceOfRooms$Corner" ({ cls := "PalaceOfRooms$Corner", name := "cover", desc := "(II)I" } : Jvm.MethodName) ({ cls := "PalaceOfRooms$Corner", name := "cover", desc := "(II)I" } : Jvm.MethodName)) ∈ lw_all := lw_g (lw_at lw_m2 103 rfl) rfl
theorem q392 : (Jvm.Cond.code ({ cls := "PalaceOfRooms$Corner", name := "cover", desc := "(II)I" } : Jvm.MethodName) prog_5_method_2_code (4 : Nat) (Option.some Jvm.ClassFile.FieldType.int)) ∈ lw_all := lw_g (lw_at lw_m2 104 rfl) rfl
theorem q393 : (Jvm.Cond.methodLink "PalaceOfRooms$Corner" (28 : Nat) ({ cls := "PalaceOfRooms$Ghost", name := "lay", desc := "(II)V" } : Jvm.MethodName)) ∈ lw_all := lw_g (lw_at lw_m2 105 rfl) rfl
theorem q399 : (Jvm.Cond.methodLink "PalaceOfRooms$Corner" (32 : Nat) ({ cls := "PalaceOfRooms$Corner", name := "lay", desc := "(II)V" } : Jvm.MethodName)) ∈ lw_all := lw_g (lw_at lw_m2 111 rfl) rfl
theorem q400 : (Jvm.Cond.sameMethod "PalaceOfRooms$Corner" "PalaceOfRooms$Kept" "lay" "(II)V") ∈ lw_all := lw_g (lw_at lw_m2 112 rfl) rfl
theorem q401 : (Jvm.Cond.selects "PalaceOfRooms$Corner" ({ cls := "PalaceOfRooms$Corner", name := "lay", desc := "(II)V" } : Jvm.MethodName) ({ cls := "PalaceOfRooms$Kept", name := "lay", desc := "(II)V" } : Jvm.MethodName)) ∈ lw_all := lw_g (lw_at lw_m2 113 rfl) rfl
theorem q407 : (Jvm.Cond.sameMethod "PalaceOfRooms$Corner" "PalaceOfRooms$Kept" "isThere" "()Z") ∈ lw_all := lw_g (lw_at lw_m2 119 rfl) rfl
theorem q409 : (Jvm.Cond.selects "PalaceOfRooms$Corner" ({ cls := "PalaceOfRooms$Corner", name := "isThere", desc := "()Z" } : Jvm.MethodName) ({ cls := "PalaceOfRooms$Kept", name := "isThere", desc := "()Z" } : Jvm.MethodName)) ∈ lw_all := lw_g (lw_at lw_m2 121 rfl) rfl
theorem q446 : (Jvm.Cond.sameMethod "PalaceOfRooms$Corner" "PalaceOfRooms$Kept" "fade" "(I)V") ∈ lw_all := lw_g (lw_at lw_m2 158 rfl) rfl
theorem q448 : (Jvm.Cond.selects "PalaceOfRooms$Corner" ({ cls := "PalaceOfRooms$Corner", name := "fade", desc := "(I)V" } : Jvm.MethodName) ({ cls := "PalaceOfRooms$Kept", name := "fade", desc := "(I)V" } : Jvm.MethodName)) ∈ lw_all := lw_g (lw_at lw_m2 160 rfl) rfl
theorem q887 : (Jvm.Cond.instanceMethod ({ cls := "PalaceOfRooms$Corner", name := "copy", desc := "(LPalaceOfRooms$Corner;)V" } : Jvm.MethodName)) ∈ lw_all := lw_g (lw_at lw_m4 119 rfl) rfl
theorem q888 : (Jvm.Cond.selects "PalaceOfRooms$Corner" ({ cls := "PalaceOfRooms$Corner", name := "copy", desc := "(LPalaceOfRooms$Corner;)V" } : Jvm.MethodName) ({ cls := "PalaceOfRooms$Corner", name := "copy", desc := "(LPalaceOfRooms$Corner;)V" } : Jvm.MethodName)) ∈ lw_all := lw_g (lw_at lw_m4 120 rfl) rfl
theorem q889 : (Jvm.Cond.code ({ cls := "PalaceOfRooms$Corner", name := "copy", desc := "(LPalaceOfRooms$Corner;)V" } : Jvm.MethodName) prog_5_method_3_code (2 : Nat) (Option.none : Option Jvm.ClassFile.FieldType)) ∈ lw_all := lw_g (lw_at lw_m4 121 rfl) rfl
theorem q890 : (Jvm.Cond.methodLink "PalaceOfRooms$Corner" (33 : Nat) ({ cls := "PalaceOfRooms$Kept", name := "copy", desc := "(LPalaceOfRooms$Kept;)V" } : Jvm.MethodName)) ∈ lw_all := lw_g (lw_at lw_m4 122 rfl) rfl
theorem q894 : (Jvm.Cond.methodLink "PalaceOfRooms$Corner" (37 : Nat) ({ cls := "PalaceOfRooms$Ghost", name := "copy", desc := "(LPalaceOfRooms$Kept;)V" } : Jvm.MethodName)) ∈ lw_all := lw_g (lw_at lw_m4 126 rfl) rfl
theorem q1370 : (Jvm.Cond.selects "PalaceOfRooms$Corner" ({ cls := "PalaceOfRooms$Kept", name := "lay", desc := "(II)V" } : Jvm.MethodName) ({ cls := "PalaceOfRooms$Kept", name := "lay", desc := "(II)V" } : Jvm.MethodName)) ∈ lw_all := lw_g (lw_at lw_m6 122 rfl) rfl
theorem in_X3 : ∀ w ∈ wsX30, w ∈ lw_all := lw_in wsX30 [141, 142, 137, 139] (by decide +kernel) (by decide +kernel)
def RX4 : String := "PalaceOfRooms$Ghost"
def TX4 : u_T := fun k => match k with
  | 0 => ("PalaceOfRooms$Kept", "thing", "I", false)
  | _ => ("PalaceOfRooms$Kept", "strength", "I", false)
def tyX4 : Nat → FieldType := fun k => match k with
  | 0 => .int
  | _ => .int
abbrev wsX40 : List Cond := u_ws RX4 TX4 2
theorem nmX4 : ∀ a, a < 2 → ∀ b, b < 2 → a ≠ b → (TX4 a).2.1 ≠ (TX4 b).2.1 := by decide +kernel
theorem tyX4_ok : ∀ k, k < 2 → parseFieldDescriptor (TX4 k).2.2.1 = some (tyX4 k) := by decide +kernel
abbrev cX4_init : ByteArray := prog_8_method_1_code
def yX4_init : MethodName := ⟨RX4, "<init>", "()V"⟩
abbrev cX4_isThere : ByteArray := prog_8_method_2_code
def yX4_isThere : MethodName := ⟨RX4, "isThere", "()Z"⟩
abbrev cX4_fade : ByteArray := prog_8_method_3_code
def yX4_fade : MethodName := ⟨RX4, "fade", "(I)V"⟩
theorem q53 : (Jvm.Cond.initialized "PalaceOfRooms$Ghost") ∈ lw_all := lw_g (lw_at lw_m1 5 rfl) rfl
theorem q104 : (Jvm.Cond.instantiable "PalaceOfRooms$Ghost" (2 : Nat)) ∈ lw_all := lw_g (lw_at lw_m1 56 rfl) rfl
theorem q106 : (Jvm.Cond.instanceMethod ({ cls := "PalaceOfRooms$Ghost", name := "<init>", desc := "()V" } : Jvm.MethodName)) ∈ lw_all := lw_g (lw_at lw_m1 58 rfl) rfl
theorem q107 : (Jvm.Cond.code ({ cls := "PalaceOfRooms$Ghost", name := "<init>", desc := "()V" } : Jvm.MethodName) prog_8_method_1_code (1 : Nat) (Option.none : Option Jvm.ClassFile.FieldType)) ∈ lw_all := lw_g (lw_at lw_m1 59 rfl) rfl
theorem q108 : (Jvm.Cond.methodLinkNest "PalaceOfRooms$Ghost" (3 : Nat) ({ cls := "PalaceOfRooms$Kept", name := "<init>", desc := "()V" } : Jvm.MethodName) "PalaceOfRooms") ∈ lw_tbl := lw_at lw_m1 60 rfl
theorem q115 : (Jvm.Cond.sameField "PalaceOfRooms$Ghost" "PalaceOfRooms$Kept" "thing" "I") ∈ lw_all := lw_g (lw_at lw_m1 67 rfl) rfl
theorem q116 : (Jvm.Cond.fieldLink "PalaceOfRooms$Ghost" (13 : Nat) "PalaceOfRooms$Ghost" "strength" "I") ∈ lw_all := lw_g (lw_at lw_m1 68 rfl) rfl
theorem q117 : (Jvm.Cond.sameField "PalaceOfRooms$Ghost" "PalaceOfRooms$Kept" "strength" "I") ∈ lw_all := lw_g (lw_at lw_m1 69 rfl) rfl
theorem q125 : (Jvm.Cond.lays "PalaceOfRooms$Ghost" "PalaceOfRooms$Kept" "thing" "I") ∈ lw_all := lw_g (lw_at lw_m1 77 rfl) rfl
theorem q127 : (Jvm.Cond.lays "PalaceOfRooms$Ghost" "PalaceOfRooms$Kept" "strength" "I") ∈ lw_all := lw_g (lw_at lw_m1 79 rfl) rfl
theorem q129 : (Jvm.Cond.superclass "PalaceOfRooms$Ghost" "PalaceOfRooms$Kept") ∈ lw_all := lw_g (lw_at lw_m1 81 rfl) rfl
theorem q394 : (Jvm.Cond.sameMethod "PalaceOfRooms$Ghost" "PalaceOfRooms$Kept" "lay" "(II)V") ∈ lw_all := lw_g (lw_at lw_m2 106 rfl) rfl
theorem q396 : (Jvm.Cond.selects "PalaceOfRooms$Ghost" ({ cls := "PalaceOfRooms$Ghost", name := "lay", desc := "(II)V" } : Jvm.MethodName) ({ cls := "PalaceOfRooms$Kept", name := "lay", desc := "(II)V" } : Jvm.MethodName)) ∈ lw_all := lw_g (lw_at lw_m2 108 rfl) rfl
theorem q419 : (Jvm.Cond.instanceMethod ({ cls := "PalaceOfRooms$Ghost", name := "isThere", desc := "()Z" } : Jvm.MethodName)) ∈ lw_all := lw_g (lw_at lw_m2 131 rfl) rfl
theorem q420 : (Jvm.Cond.selects "PalaceOfRooms$Ghost" ({ cls := "PalaceOfRooms$Ghost", name := "isThere", desc := "()Z" } : Jvm.MethodName) ({ cls := "PalaceOfRooms$Ghost", name := "isThere", desc := "()Z" } : Jvm.MethodName)) ∈ lw_all := lw_g (lw_at lw_m2 132 rfl) rfl
theorem q421 : (Jvm.Cond.code ({ cls := "PalaceOfRooms$Ghost", name := "isThere", desc := "()Z" } : Jvm.MethodName) prog_8_method_2_code (1 : Nat) (Option.some Jvm.ClassFile.FieldType.boolean)) ∈ lw_all := lw_g (lw_at lw_m2 133 rfl) rfl
theorem q422 : (Jvm.Cond.methodLink "PalaceOfRooms$Ghost" (9 : Nat) ({ cls := "PalaceOfRooms$Kept", name := "isThere", desc := "()Z" } : Jvm.MethodName)) ∈ lw_all := lw_g (lw_at lw_m2 134 rfl) rfl
theorem q456 : (Jvm.Cond.instanceMethod ({ cls := "PalaceOfRooms$Ghost", name := "fade", desc := "(I)V" } : Jvm.MethodName)) ∈ lw_all := lw_g (lw_at lw_m2 168 rfl) rfl
theorem q457 : (Jvm.Cond.selects "PalaceOfRooms$Ghost" ({ cls := "PalaceOfRooms$Ghost", name := "fade", desc := "(I)V" } : Jvm.MethodName) ({ cls := "PalaceOfRooms$Ghost", name := "fade", desc := "(I)V" } : Jvm.MethodName)) ∈ lw_all := lw_g (lw_at lw_m2 169 rfl) rfl
theorem q458 : (Jvm.Cond.code ({ cls := "PalaceOfRooms$Ghost", name := "fade", desc := "(I)V" } : Jvm.MethodName) prog_8_method_3_code (2 : Nat) (Option.none : Option Jvm.ClassFile.FieldType)) ∈ lw_all := lw_g (lw_at lw_m2 170 rfl) rfl
theorem q459 : (Jvm.Cond.methodLink "PalaceOfRooms$Ghost" (19 : Nat) ({ cls := "PalaceOfRooms$Kept", name := "fade", desc := "(I)V" } : Jvm.MethodName)) ∈ lw_all := lw_g (lw_at lw_m2 171 rfl) rfl
theorem q460 : (Jvm.Cond.methodLink "PalaceOfRooms$Ghost" (23 : Nat) ({ cls := "PalaceOfRooms$Ghost", name := "lay", desc := "(II)V" } : Jvm.MethodName)) ∈ lw_all := lw_g (lw_at lw_m2 172 rfl) rfl
theorem q895 : (Jvm.Cond.sameMethod "PalaceOfRooms$Ghost" "PalaceOfRooms$Kept" "copy" "(LPalaceOfRooms$Kept;)V") ∈ lw_all := lw_g (lw_at lw_m4 127 rfl) rfl
theorem q897 : (Jvm.Cond.selects "PalaceOfRooms$Ghost" ({ cls := "PalaceOfRooms$Ghost", name := "copy", desc := "(LPalaceOfRooms$Kept;)V" } : Jvm.MethodName) ({ cls := "PalaceOfRooms$Kept", name := "copy", desc := "(LPalaceOfRooms$Kept;)V" } : Jvm.MethodName)) ∈ lw_all := lw_g (lw_at lw_m4 129 rfl) rfl
theorem q1371 : (Jvm.Cond.selects "PalaceOfRooms$Ghost" ({ cls := "PalaceOfRooms$Kept", name := "lay", desc := "(II)V" } : Jvm.MethodName) ({ cls := "PalaceOfRooms$Kept", name := "lay", desc := "(II)V" } : Jvm.MethodName)) ∈ lw_all := lw_g (lw_at lw_m6 123 rfl) rfl
theorem in_X4 : ∀ w ∈ wsX40, w ∈ lw_all := lw_in wsX40 [125, 127] (by decide +kernel) (by decide +kernel)
def RX5 : String := "PalaceOfRooms$Reader"
def TX5 : u_T := fun k => match k with
  | 0 => ("PalaceOfRooms$Reader", "row", "[LPalaceOfRooms$Line;", false)
  | 1 => ("PalaceOfRooms$Reader", "many", "I", false)
  | 2 => ("PalaceOfRooms$Reader", "at", "I", false)
  | 3 => ("PalaceOfRooms$Reader", "place", "I", false)
  | 4 => ("PalaceOfRooms$Reader", "end", "I", false)
  | _ => ("PalaceOfRooms$Reader", "this$0", "LPalaceOfRooms;", true)
def tyX5 : Nat → FieldType := fun k => match k with
  | 0 => .array (.object "PalaceOfRooms$Line")
  | 1 => .int
  | 2 => .int
  | 3 => .int
  | 4 => .int
  | _ => .object "PalaceOfRooms"
abbrev wsX50 : List Cond := u_ws RX5 TX5 6
theorem nmX5 : ∀ a, a < 6 → ∀ b, b < 6 → a ≠ b → (TX5 a).2.1 ≠ (TX5 b).2.1 := by decide +kernel
theorem tyX5_ok : ∀ k, k < 6 → parseFieldDescriptor (TX5 k).2.2.1 = some (tyX5 k) := by decide +kernel
abbrev cX5_init : ByteArray := prog_15_method_1_code
def yX5_init : MethodName := ⟨RX5, "<init>", "(LPalaceOfRooms;)V"⟩
abbrev cX5_read : ByteArray := prog_15_method_9_code
def yX5_read : MethodName := ⟨RX5, "read", "()V"⟩
abbrev cX5_token : ByteArray := prog_15_method_3_code
def yX5_token : MethodName := ⟨RX5, "token", "()V"⟩
abbrev cX5_kindAt : ByteArray := prog_15_method_2_code
def yX5_kindAt : MethodName := ⟨RX5, "kindAt", "(I)I"⟩
abbrev cX5_line : ByteArray := prog_15_method_8_code
def yX5_line : MethodName := ⟨RX5, "line", "()LPalaceOfRooms$Line;"⟩
abbrev cX5_skips : ByteArray := prog_15_method_5_code
def yX5_skips : MethodName := ⟨RX5, "skips", "(Ljava/lang/String;)Z"⟩
abbrev cX5_isWord : ByteArray := prog_15_method_4_code
def yX5_isWord : MethodName := ⟨RX5, "isWord", "(Ljava/lang/String;)Z"⟩
abbrev cX5_number : ByteArray := prog_15_method_7_code
def yX5_number : MethodName := ⟨RX5, "number", "(II)I"⟩
abbrev cX5_need : ByteArray := prog_15_method_6_code
def yX5_need : MethodName := ⟨RX5, "need", "(Z)V"⟩
theorem q54 : (Jvm.Cond.initialized "PalaceOfRooms$Reader") ∈ lw_all := lw_g (lw_at lw_m1 6 rfl) rfl
theorem q155 : (Jvm.Cond.instantiable "PalaceOfRooms$Reader" (6 : Nat)) ∈ lw_all := lw_g (lw_at lw_m1 107 rfl) rfl
theorem q157 : (Jvm.Cond.instanceMethod ({ cls := "PalaceOfRooms$Reader", name := "<init>", desc := "(LPalaceOfRooms;)V" } : Jvm.MethodName)) ∈ lw_all := lw_g (lw_at lw_m1 109 rfl) rfl
theorem q158 : (Jvm.Cond.code ({ cls := "PalaceOfRooms$Reader", name := "<init>", desc := "(LPalaceOfRooms;)V" } : Jvm.MethodName) prog_15_method_1_code (2 : Nat) (Option.none : Option Jvm.ClassFile.FieldType)) ∈ lw_all := lw_g (lw_at lw_m1 110 rfl) rfl
theorem q159 : (Jvm.Cond.methodLink "PalaceOfRooms$Reader" (9 : Nat) ({ cls := "java/lang/Object", name := "<init>", desc := "()V" } : Jvm.MethodName)) ∈ lw_all := lw_g (lw_at lw_m1 111 rfl) rfl
theorem q160 : (Jvm.Cond.fieldLink "PalaceOfRooms$Reader" (106 : Nat) "PalaceOfRooms$Reader" "row" "[LPalaceOfRooms$Line;") ∈ lw_all := lw_g (lw_at lw_m1 112 rfl) rfl
theorem q162 : (Jvm.Cond.fieldLink "PalaceOfRooms$Reader" (110 : Nat) "PalaceOfRooms$Reader" "many" "I") ∈ lw_all := lw_g (lw_at lw_m1 114 rfl) rfl
theorem q164 : (Jvm.Cond.fieldLink "PalaceOfRooms$Reader" (31 : Nat) "PalaceOfRooms$Reader" "at" "I") ∈ lw_all := lw_g (lw_at lw_m1 116 rfl) rfl
theorem q165 : (Jvm.Cond.fieldLink "PalaceOfRooms$Reader" (38 : Nat) "PalaceOfRooms$Reader" "place" "I") ∈ lw_all := lw_g (lw_at lw_m1 117 rfl) rfl
theorem q166 : (Jvm.Cond.fieldLink "PalaceOfRooms$Reader" (45 : Nat) "PalaceOfRooms$Reader" "end" "I") ∈ lw_all := lw_g (lw_at lw_m1 118 rfl) rfl
theorem q167 : (Jvm.Cond.fieldLink "PalaceOfRooms$Reader" (3 : Nat) "PalaceOfRooms$Reader" "this$0" "LPalaceOfRooms;") ∈ lw_all := lw_g (lw_at lw_m1 119 rfl) rfl
theorem q168 : (Jvm.Cond.lays "PalaceOfRooms$Reader" "PalaceOfRooms$Reader" "row" "[LPalaceOfRooms$Line;") ∈ lw_all := lw_g (lw_at lw_m1 120 rfl) rfl
theorem q169 : (Jvm.Cond.soleField "PalaceOfRooms$Reader" "row") ∈ lw_all := lw_g (lw_at lw_m1 121 rfl) rfl
theorem q170 : (Jvm.Cond.lays "PalaceOfRooms$Reader" "PalaceOfRooms$Reader" "many" "I") ∈ lw_all := lw_g (lw_at lw_m1 122 rfl) rfl
theorem q171 : (Jvm.Cond.soleField "PalaceOfRooms$Reader" "many") ∈ lw_all := lw_g (lw_at lw_m1 123 rfl) rfl
theorem q172 : (Jvm.Cond.lays "PalaceOfRooms$Reader" "PalaceOfRooms$Reader" "at" "I") ∈ lw_all := lw_g (lw_at lw_m1 124 rfl) rfl
theorem q173 : (Jvm.Cond.soleField "PalaceOfRooms$Reader" "at") ∈ lw_all := lw_g (lw_at lw_m1 125 rfl) rfl
theorem q174 : (Jvm.Cond.lays "PalaceOfRooms$Reader" "PalaceOfRooms$Reader" "place" "I") ∈ lw_all := lw_g (lw_at lw_m1 126 rfl) rfl
theorem q175 : (Jvm.Cond.soleField "PalaceOfRooms$Reader" "place") ∈ lw_all := lw_g (lw_at lw_m1 127 rfl) rfl
theorem q176 : (Jvm.Cond.lays "PalaceOfRooms$Reader" "PalaceOfRooms$Reader" "end" "I") ∈ lw_all := lw_g (lw_at lw_m1 128 rfl) rfl
theorem q177 : (Jvm.Cond.soleField "PalaceOfRooms$Reader" "end") ∈ lw_all := lw_g (lw_at lw_m1 129 rfl) rfl
theorem q178 : (Jvm.Cond.laysFinal "PalaceOfRooms$Reader" "PalaceOfRooms$Reader" "this$0" "LPalaceOfRooms;") ∈ lw_all := lw_g (lw_at lw_m1 130 rfl) rfl
theorem q179 : (Jvm.Cond.soleField "PalaceOfRooms$Reader" "this$0") ∈ lw_all := lw_g (lw_at lw_m1 131 rfl) rfl
theorem q180 : (Jvm.Cond.superclass "PalaceOfRooms$Reader" "java/lang/Object") ∈ lw_all := lw_g (lw_at lw_m1 132 rfl) rfl
theorem q263 : (Jvm.Cond.fieldLinkNest "PalaceOfRooms$Reader" (15 : Nat) "PalaceOfRooms" "text" "[B" "PalaceOfRooms") ∈ lw_tbl := lw_at lw_m1 215 rfl
theorem q265 : (Jvm.Cond.fieldLinkNest "PalaceOfRooms$Reader" (35 : Nat) "PalaceOfRooms" "length" "I" "PalaceOfRooms") ∈ lw_tbl := lw_at lw_m1 217 rfl
theorem q483 : (Jvm.Cond.instanceMethod ({ cls := "PalaceOfRooms$Reader", name := "read", desc := "()V" } : Jvm.MethodName)) ∈ lw_all := lw_g (lw_at lw_m2 195 rfl) rfl
theorem q484 : (Jvm.Cond.selects "PalaceOfRooms$Reader" ({ cls := "PalaceOfRooms$Reader", name := "read", desc := "()V" } : Jvm.MethodName) ({ cls := "PalaceOfRooms$Reader", name := "read", desc := "()V" } : Jvm.MethodName)) ∈ lw_all := lw_g (lw_at lw_m2 196 rfl) rfl
theorem q485 : (Jvm.Cond.code ({ cls := "PalaceOfRooms$Reader", name := "read", desc := "()V" } : Jvm.MethodName) prog_15_method_9_code (1 : Nat) (Option.none : Option Jvm.ClassFile.FieldType)) ∈ lw_all := lw_g (lw_at lw_m2 197 rfl) rfl
theorem q486 : (Jvm.Cond.classLink "PalaceOfRooms$Reader" (104 : Nat) "PalaceOfRooms$Line") ∈ lw_all := lw_g (lw_at lw_m2 198 rfl) rfl
theorem q487 : (Jvm.Cond.methodLink "PalaceOfRooms$Reader" (61 : Nat) ({ cls := "PalaceOfRooms$Reader", name := "token", desc := "()V" } : Jvm.MethodName)) ∈ lw_all := lw_g (lw_at lw_m2 199 rfl) rfl
theorem q488 : (Jvm.Cond.privateMethod ({ cls := "PalaceOfRooms$Reader", name := "token", desc := "()V" } : Jvm.MethodName)) ∈ lw_tbl := lw_at lw_m2 200 rfl
theorem q489 : (Jvm.Cond.instanceMethod ({ cls := "PalaceOfRooms$Reader", name := "token", desc := "()V" } : Jvm.MethodName)) ∈ lw_all := lw_g (lw_at lw_m2 201 rfl) rfl
theorem q490 : (Jvm.Cond.code ({ cls := "PalaceOfRooms$Reader", name := "token", desc := "()V" } : Jvm.MethodName) prog_15_method_3_code (1 : Nat) (Option.none : Option Jvm.ClassFile.FieldType)) ∈ lw_all := lw_g (lw_at lw_m2 202 rfl) rfl
theorem q491 : (Jvm.Cond.methodLink "PalaceOfRooms$Reader" (41 : Nat) ({ cls := "PalaceOfRooms$Reader", name := "kindAt", desc := "(I)I" } : Jvm.MethodName)) ∈ lw_all := lw_g (lw_at lw_m2 203 rfl) rfl
theorem q492 : (Jvm.Cond.privateMethod ({ cls := "PalaceOfRooms$Reader", name := "kindAt", desc := "(I)I" } : Jvm.MethodName)) ∈ lw_tbl := lw_at lw_m2 204 rfl
theorem q493 : (Jvm.Cond.instanceMethod ({ cls := "PalaceOfRooms$Reader", name := "kindAt", desc := "(I)I" } : Jvm.MethodName)) ∈ lw_all := lw_g (lw_at lw_m2 205 rfl) rfl
theorem q494 : (Jvm.Cond.code ({ cls := "PalaceOfRooms$Reader", name := "kindAt", desc := "(I)I" } : Jvm.MethodName) prog_15_method_2_code (2 : Nat) (Option.some Jvm.ClassFile.FieldType.int)) ∈ lw_all := lw_g (lw_at lw_m2 206 rfl) rfl
theorem q495 : (Jvm.Cond.constantLong "PalaceOfRooms$Reader" (19 : Nat) (97 : Int64)) ∈ lw_all := lw_g (lw_at lw_m2 207 rfl) rfl
theorem q496 : (Jvm.Cond.constantLong "PalaceOfRooms$Reader" (21 : Nat) (122 : Int64)) ∈ lw_all := lw_g (lw_at lw_m2 208 rfl) rfl
theorem q497 : (Jvm.Cond.methodLinkNest "PalaceOfRooms$Reader" (23 : Nat) ({ cls := "PalaceOfRooms", name := "isIn", desc := "(JJJ)Z" } : Jvm.MethodName) "PalaceOfRooms") ∈ lw_tbl := lw_at lw_m2 209 rfl
theorem q498 : (Jvm.Cond.constantLong "PalaceOfRooms$Reader" (27 : Nat) (48 : Int64)) ∈ lw_all := lw_g (lw_at lw_m2 210 rfl) rfl
theorem q499 : (Jvm.Cond.constantLong "PalaceOfRooms$Reader" (29 : Nat) (57 : Int64)) ∈ lw_all := lw_g (lw_at lw_m2 211 rfl) rfl
theorem q500 : (Jvm.Cond.methodLink "PalaceOfRooms$Reader" (113 : Nat) ({ cls := "PalaceOfRooms$Reader", name := "line", desc := "()LPalaceOfRooms$Line;" } : Jvm.MethodName)) ∈ lw_all := lw_g (lw_at lw_m2 212 rfl) rfl
theorem q501 : (Jvm.Cond.privateMethod ({ cls := "PalaceOfRooms$Reader", name := "line", desc := "()LPalaceOfRooms$Line;" } : Jvm.MethodName)) ∈ lw_tbl := lw_at lw_m2 213 rfl
theorem q502 : (Jvm.Cond.instanceMethod ({ cls := "PalaceOfRooms$Reader", name := "line", desc := "()LPalaceOfRooms$Line;" } : Jvm.MethodName)) ∈ lw_all := lw_g (lw_at lw_m2 214 rfl) rfl
theorem q503 : (Jvm.Cond.code ({ cls := "PalaceOfRooms$Reader", name := "line", desc := "()LPalaceOfRooms$Line;" } : Jvm.MethodName) prog_15_method_8_code (2 : Nat) (Option.some (Jvm.ClassFile.FieldType.object "PalaceOfRooms$Line"))) ∈ lw_all := lw_g (lw_at lw_m2 215 rfl) rfl
theorem q504 : (Jvm.Cond.stringRef "PalaceOfRooms$Reader" (73 : Nat) "room") ∈ lw_tbl := lw_at lw_m2 216 rfl
theorem q505 : (Jvm.Cond.methodLink "PalaceOfRooms$Reader" (75 : Nat) ({ cls := "PalaceOfRooms$Reader", name := "skips", desc := "(Ljava/lang/String;)Z" } : Jvm.MethodName)) ∈ lw_all := lw_g (lw_at lw_m2 217 rfl) rfl
theorem q506 : (Jvm.Cond.privateMethod ({ cls := "PalaceOfRooms$Reader", name := "skips", desc := "(Ljava/lang/String;)Z" } : Jvm.MethodName)) ∈ lw_tbl := lw_at lw_m2 218 rfl
theorem q507 : (Jvm.Cond.instanceMethod ({ cls := "PalaceOfRooms$Reader", name := "skips", desc := "(Ljava/lang/String;)Z" } : Jvm.MethodName)) ∈ lw_all := lw_g (lw_at lw_m2 219 rfl) rfl
theorem q508 : (Jvm.Cond.code ({ cls := "PalaceOfRooms$Reader", name := "skips", desc := "(Ljava/lang/String;)Z" } : Jvm.MethodName) prog_15_method_5_code (3 : Nat) (Option.some Jvm.ClassFile.FieldType.boolean)) ∈ lw_all := lw_g (lw_at lw_m2 220 rfl) rfl
theorem q509 : (Jvm.Cond.methodLink "PalaceOfRooms$Reader" (57 : Nat) ({ cls := "PalaceOfRooms$Reader", name := "isWord", desc := "(Ljava/lang/String;)Z" } : Jvm.MethodName)) ∈ lw_all := lw_g (lw_at lw_m2 221 rfl) rfl
theorem q510 : (Jvm.Cond.privateMethod ({ cls := "PalaceOfRooms$Reader", name := "isWord", desc := "(Ljava/lang/String;)Z" } : Jvm.MethodName)) ∈ lw_tbl := lw_at lw_m2 222 rfl
theorem q511 : (Jvm.Cond.instanceMethod ({ cls := "PalaceOfRooms$Reader", name := "isWord", desc := "(Ljava/lang/String;)Z" } : Jvm.MethodName)) ∈ lw_all := lw_g (lw_at lw_m2 223 rfl) rfl
theorem q512 : (Jvm.Cond.code ({ cls := "PalaceOfRooms$Reader", name := "isWord", desc := "(Ljava/lang/String;)Z" } : Jvm.MethodName) prog_15_method_4_code (4 : Nat) (Option.some Jvm.ClassFile.FieldType.boolean)) ∈ lw_all := lw_g (lw_at lw_m2 224 rfl) rfl
theorem q513 : (Jvm.Cond.methodLink "PalaceOfRooms$Reader" (48 : Nat) ({ cls := "java/lang/String", name := "length", desc := "()I" } : Jvm.MethodName)) ∈ lw_all := lw_g (lw_at lw_m2 225 rfl) rfl
theorem q523 : (Jvm.Cond.methodLink "PalaceOfRooms$Reader" (53 : Nat) ({ cls := "java/lang/String", name := "charAt", desc := "(I)C" } : Jvm.MethodName)) ∈ lw_all := lw_g (lw_at lw_m2 235 rfl) rfl
theorem q561 : (Jvm.Cond.methodLink "PalaceOfRooms$Reader" (78 : Nat) ({ cls := "PalaceOfRooms$Reader", name := "number", desc := "(II)I" } : Jvm.MethodName)) ∈ lw_all := lw_g (lw_at lw_m3 33 rfl) rfl
theorem q562 : (Jvm.Cond.privateMethod ({ cls := "PalaceOfRooms$Reader", name := "number", desc := "(II)I" } : Jvm.MethodName)) ∈ lw_tbl := lw_at lw_m3 34 rfl
theorem q563 : (Jvm.Cond.instanceMethod ({ cls := "PalaceOfRooms$Reader", name := "number", desc := "(II)I" } : Jvm.MethodName)) ∈ lw_all := lw_g (lw_at lw_m3 35 rfl) rfl
theorem q564 : (Jvm.Cond.code ({ cls := "PalaceOfRooms$Reader", name := "number", desc := "(II)I" } : Jvm.MethodName) prog_15_method_7_code (6 : Nat) (Option.some Jvm.ClassFile.FieldType.int)) ∈ lw_all := lw_g (lw_at lw_m3 36 rfl) rfl
theorem q565 : (Jvm.Cond.methodLink "PalaceOfRooms$Reader" (69 : Nat) ({ cls := "PalaceOfRooms$Reader", name := "need", desc := "(Z)V" } : Jvm.MethodName)) ∈ lw_all := lw_g (lw_at lw_m3 37 rfl) rfl
theorem q566 : (Jvm.Cond.privateMethod ({ cls := "PalaceOfRooms$Reader", name := "need", desc := "(Z)V" } : Jvm.MethodName)) ∈ lw_tbl := lw_at lw_m3 38 rfl
theorem q567 : (Jvm.Cond.instanceMethod ({ cls := "PalaceOfRooms$Reader", name := "need", desc := "(Z)V" } : Jvm.MethodName)) ∈ lw_all := lw_g (lw_at lw_m3 39 rfl) rfl
theorem q568 : (Jvm.Cond.code ({ cls := "PalaceOfRooms$Reader", name := "need", desc := "(Z)V" } : Jvm.MethodName) prog_15_method_6_code (2 : Nat) (Option.none : Option Jvm.ClassFile.FieldType)) ∈ lw_all := lw_g (lw_at lw_m3 40 rfl) rfl
theorem q569 : (Jvm.Cond.classLink "PalaceOfRooms$Reader" (64 : Nat) "PalaceOfRooms$Fault") ∈ lw_all := lw_g (lw_at lw_m3 41 rfl) rfl
theorem q606 : (Jvm.Cond.methodLink "PalaceOfRooms$Reader" (66 : Nat) ({ cls := "PalaceOfRooms$Fault", name := "<init>", desc := "(I)V" } : Jvm.MethodName)) ∈ lw_all := lw_g (lw_at lw_m3 78 rfl) rfl
theorem q633 : (Jvm.Cond.classLink "PalaceOfRooms$Reader" (82 : Nat) "PalaceOfRooms$RoomLine") ∈ lw_all := lw_g (lw_at lw_m3 105 rfl) rfl
theorem q635 : (Jvm.Cond.methodLink "PalaceOfRooms$Reader" (84 : Nat) ({ cls := "PalaceOfRooms$RoomLine", name := "<init>", desc := "(II)V" } : Jvm.MethodName)) ∈ lw_all := lw_g (lw_at lw_m3 107 rfl) rfl
theorem q649 : (Jvm.Cond.stringRef "PalaceOfRooms$Reader" (87 : Nat) "again") ∈ lw_tbl := lw_at lw_m3 121 rfl
theorem q650 : (Jvm.Cond.classLink "PalaceOfRooms$Reader" (89 : Nat) "PalaceOfRooms$Again") ∈ lw_all := lw_g (lw_at lw_m3 122 rfl) rfl
theorem q652 : (Jvm.Cond.methodLink "PalaceOfRooms$Reader" (91 : Nat) ({ cls := "PalaceOfRooms$Again", name := "<init>", desc := "(I)V" } : Jvm.MethodName)) ∈ lw_all := lw_g (lw_at lw_m3 124 rfl) rfl
theorem q660 : (Jvm.Cond.stringRef "PalaceOfRooms$Reader" (92 : Nat) "apart") ∈ lw_tbl := lw_at lw_m3 132 rfl
theorem q661 : (Jvm.Cond.classLink "PalaceOfRooms$Reader" (94 : Nat) "PalaceOfRooms$Apart") ∈ lw_all := lw_g (lw_at lw_m3 133 rfl) rfl
theorem q663 : (Jvm.Cond.methodLink "PalaceOfRooms$Reader" (96 : Nat) ({ cls := "PalaceOfRooms$Apart", name := "<init>", desc := "(I)V" } : Jvm.MethodName)) ∈ lw_all := lw_g (lw_at lw_m3 135 rfl) rfl
theorem q671 : (Jvm.Cond.stringRef "PalaceOfRooms$Reader" (97 : Nat) "walk") ∈ lw_tbl := lw_at lw_m3 143 rfl
theorem q672 : (Jvm.Cond.stringRef "PalaceOfRooms$Reader" (99 : Nat) "every") ∈ lw_tbl := lw_at lw_m3 144 rfl
theorem q673 : (Jvm.Cond.classLink "PalaceOfRooms$Reader" (101 : Nat) "PalaceOfRooms$Every") ∈ lw_all := lw_g (lw_at lw_m3 145 rfl) rfl
theorem q675 : (Jvm.Cond.methodLink "PalaceOfRooms$Reader" (103 : Nat) ({ cls := "PalaceOfRooms$Every", name := "<init>", desc := "(II)V" } : Jvm.MethodName)) ∈ lw_all := lw_g (lw_at lw_m3 147 rfl) rfl
theorem q686 : (Jvm.Cond.stringRef "PalaceOfRooms$Reader" (117 : Nat) ";") ∈ lw_tbl := lw_at lw_m3 158 rfl
theorem in_X5 : ∀ w ∈ wsX50, w ∈ lw_all := lw_in wsX50 [168, 170, 172, 174, 176, 178] (by decide +kernel) (by decide +kernel)
def RX6 : String := "PalaceOfRooms$Orders"
abbrev cX6_init : ByteArray := prog_13_method_1_code
def yX6_init : MethodName := ⟨RX6, "<init>", "(LPalaceOfRooms;)V"⟩
abbrev cX6_run : ByteArray := prog_13_method_4_code
def yX6_run : MethodName := ⟨RX6, "run", "(I)V"⟩
abbrev cX6_isMet : ByteArray := prog_13_method_3_code
def yX6_isMet : MethodName := ⟨RX6, "isMet", "(I)Z"⟩
theorem q55 : (Jvm.Cond.initialized "PalaceOfRooms$Orders") ∈ lw_all := lw_g (lw_at lw_m1 7 rfl) rfl
theorem q190 : (Jvm.Cond.instanceMethod ({ cls := "PalaceOfRooms$Orders", name := "<init>", desc := "(LPalaceOfRooms;)V" } : Jvm.MethodName)) ∈ lw_all := lw_g (lw_at lw_m1 142 rfl) rfl
theorem q191 : (Jvm.Cond.code ({ cls := "PalaceOfRooms$Orders", name := "<init>", desc := "(LPalaceOfRooms;)V" } : Jvm.MethodName) prog_13_method_1_code (2 : Nat) (Option.none : Option Jvm.ClassFile.FieldType)) ∈ lw_all := lw_g (lw_at lw_m1 143 rfl) rfl
theorem q192 : (Jvm.Cond.methodLink "PalaceOfRooms$Orders" (9 : Nat) ({ cls := "java/lang/Object", name := "<init>", desc := "()V" } : Jvm.MethodName)) ∈ lw_all := lw_g (lw_at lw_m1 144 rfl) rfl
theorem q194 : (Jvm.Cond.fieldLink "PalaceOfRooms$Orders" (15 : Nat) "PalaceOfRooms$Orders" "row" "[I") ∈ lw_all := lw_g (lw_at lw_m1 146 rfl) rfl
theorem q195 : (Jvm.Cond.fieldLink "PalaceOfRooms$Orders" (19 : Nat) "PalaceOfRooms$Orders" "best" "[I") ∈ lw_all := lw_g (lw_at lw_m1 147 rfl) rfl
theorem q197 : (Jvm.Cond.fieldLink "PalaceOfRooms$Orders" (22 : Nat) "PalaceOfRooms$Orders" "many" "I") ∈ lw_all := lw_g (lw_at lw_m1 149 rfl) rfl
theorem q198 : (Jvm.Cond.fieldLink "PalaceOfRooms$Orders" (27 : Nat) "PalaceOfRooms$Orders" "least" "I") ∈ lw_all := lw_g (lw_at lw_m1 150 rfl) rfl
theorem q200 : (Jvm.Cond.fieldLink "PalaceOfRooms$Orders" (3 : Nat) "PalaceOfRooms$Orders" "this$0" "LPalaceOfRooms;") ∈ lw_all := lw_g (lw_at lw_m1 152 rfl) rfl
theorem q204 : (Jvm.Cond.soleField "PalaceOfRooms$Orders" "row") ∈ lw_all := lw_g (lw_at lw_m1 156 rfl) rfl
theorem q206 : (Jvm.Cond.soleField "PalaceOfRooms$Orders" "best") ∈ lw_all := lw_g (lw_at lw_m1 158 rfl) rfl
theorem q208 : (Jvm.Cond.soleField "PalaceOfRooms$Orders" "many") ∈ lw_all := lw_g (lw_at lw_m1 160 rfl) rfl
theorem q210 : (Jvm.Cond.soleField "PalaceOfRooms$Orders" "least") ∈ lw_all := lw_g (lw_at lw_m1 162 rfl) rfl
theorem q212 : (Jvm.Cond.soleField "PalaceOfRooms$Orders" "this$0") ∈ lw_all := lw_g (lw_at lw_m1 164 rfl) rfl
theorem q819 : (Jvm.Cond.instanceMethod ({ cls := "PalaceOfRooms$Orders", name := "run", desc := "(I)V" } : Jvm.MethodName)) ∈ lw_all := lw_g (lw_at lw_m4 51 rfl) rfl
theorem q820 : (Jvm.Cond.sameMethod "PalaceOfRooms$Orders" "PalaceOfRooms$Orders" "run" "(I)V") ∈ lw_all := lw_g (lw_at lw_m4 52 rfl) rfl
theorem q823 : (Jvm.Cond.code ({ cls := "PalaceOfRooms$Orders", name := "run", desc := "(I)V" } : Jvm.MethodName) prog_13_method_4_code (4 : Nat) (Option.none : Option Jvm.ClassFile.FieldType)) ∈ lw_all := lw_g (lw_at lw_m4 55 rfl) rfl
theorem q824 : (Jvm.Cond.constant "PalaceOfRooms$Orders" (26 : Nat) (268435456 : Int32)) ∈ lw_all := lw_g (lw_at lw_m4 56 rfl) rfl
theorem q825 : (Jvm.Cond.methodLink "PalaceOfRooms$Orders" (30 : Nat) ({ cls := "PalaceOfRooms$Orders", name := "isMet", desc := "(I)Z" } : Jvm.MethodName)) ∈ lw_all := lw_g (lw_at lw_m4 57 rfl) rfl
theorem q826 : (Jvm.Cond.privateMethod ({ cls := "PalaceOfRooms$Orders", name := "isMet", desc := "(I)Z" } : Jvm.MethodName)) ∈ lw_tbl := lw_at lw_m4 58 rfl
theorem q827 : (Jvm.Cond.instanceMethod ({ cls := "PalaceOfRooms$Orders", name := "isMet", desc := "(I)Z" } : Jvm.MethodName)) ∈ lw_all := lw_g (lw_at lw_m4 59 rfl) rfl
theorem q828 : (Jvm.Cond.code ({ cls := "PalaceOfRooms$Orders", name := "isMet", desc := "(I)Z" } : Jvm.MethodName) prog_13_method_3_code (4 : Nat) (Option.some Jvm.ClassFile.FieldType.boolean)) ∈ lw_all := lw_g (lw_at lw_m4 60 rfl) rfl
theorem q829 : (Jvm.Cond.methodLink "PalaceOfRooms$Orders" (34 : Nat) ({ cls := "PalaceOfRooms$Orders", name := "more", desc := "([II)I" } : Jvm.MethodName)) ∈ lw_all := lw_g (lw_at lw_m4 61 rfl) rfl
theorem q830 : (Jvm.Cond.declares ({ cls := "PalaceOfRooms$Orders", name := "more", desc := "([II)I" } : Jvm.MethodName)) ∈ lw_tbl := lw_at lw_m4 62 rfl
theorem q831 : (Jvm.Cond.sameMethod "PalaceOfRooms$Orders" "PalaceOfRooms$Orders" "more" "([II)I") ∈ lw_all := lw_g (lw_at lw_m4 63 rfl) rfl
theorem q840 : (Jvm.Cond.methodLink "PalaceOfRooms$Orders" (38 : Nat) ({ cls := "java/lang/System", name := "arraycopy", desc := "(Ljava/lang/Object;ILjava/lang/Object;II)V" } : Jvm.MethodName)) ∈ lw_all := lw_g (lw_at lw_m4 72 rfl) rfl
theorem q1367 : (Jvm.Cond.sameMethod "PalaceOfRooms$Orders" "PalaceOfRooms$Orders" "isMet" "(I)Z") ∈ lw_all := lw_g (lw_at lw_m6 119 rfl) rfl
def RX7 : String := "PalaceOfRooms$Laid"
def TX7 : u_T := fun k => match k with
  | 0 => ("PalaceOfRooms$Orders", "row", "[I", true)
  | 1 => ("PalaceOfRooms$Orders", "best", "[I", true)
  | 2 => ("PalaceOfRooms$Orders", "many", "I", false)
  | 3 => ("PalaceOfRooms$Orders", "least", "I", false)
  | 4 => ("PalaceOfRooms$Orders", "this$0", "LPalaceOfRooms;", true)
  | _ => ("PalaceOfRooms$Laid", "this$0", "LPalaceOfRooms;", true)
def tyX7 : Nat → FieldType := fun k => match k with
  | 0 => .array .int
  | 1 => .array .int
  | 2 => .int
  | 3 => .int
  | 4 => .object "PalaceOfRooms"
  | _ => .object "PalaceOfRooms"
abbrev wsX70 : List Cond := u_ws RX7 TX7 6
theorem tyX7_ok : ∀ k, k < 6 → parseFieldDescriptor (TX7 k).2.2.1 = some (tyX7 k) := by decide +kernel
abbrev cX7_init : ByteArray := prog_11_method_1_code
def yX7_init : MethodName := ⟨RX7, "<init>", "(LPalaceOfRooms;)V"⟩
abbrev cX7_more : ByteArray := prog_11_method_2_code
def yX7_more : MethodName := ⟨RX7, "more", "([II)I"⟩
theorem q56 : (Jvm.Cond.initialized "PalaceOfRooms$Laid") ∈ lw_all := lw_g (lw_at lw_m1 8 rfl) rfl
theorem q185 : (Jvm.Cond.instantiable "PalaceOfRooms$Laid" (6 : Nat)) ∈ lw_all := lw_g (lw_at lw_m1 137 rfl) rfl
theorem q187 : (Jvm.Cond.instanceMethod ({ cls := "PalaceOfRooms$Laid", name := "<init>", desc := "(LPalaceOfRooms;)V" } : Jvm.MethodName)) ∈ lw_all := lw_g (lw_at lw_m1 139 rfl) rfl
theorem q188 : (Jvm.Cond.code ({ cls := "PalaceOfRooms$Laid", name := "<init>", desc := "(LPalaceOfRooms;)V" } : Jvm.MethodName) prog_11_method_1_code (2 : Nat) (Option.none : Option Jvm.ClassFile.FieldType)) ∈ lw_all := lw_g (lw_at lw_m1 140 rfl) rfl
theorem q189 : (Jvm.Cond.methodLinkNest "PalaceOfRooms$Laid" (7 : Nat) ({ cls := "PalaceOfRooms$Orders", name := "<init>", desc := "(LPalaceOfRooms;)V" } : Jvm.MethodName) "PalaceOfRooms") ∈ lw_tbl := lw_at lw_m1 141 rfl
theorem q193 : (Jvm.Cond.fieldLink "PalaceOfRooms$Laid" (1 : Nat) "PalaceOfRooms$Laid" "this$0" "LPalaceOfRooms;") ∈ lw_all := lw_g (lw_at lw_m1 145 rfl) rfl
theorem q201 : (Jvm.Cond.laysFinal "PalaceOfRooms$Laid" "PalaceOfRooms$Laid" "this$0" "LPalaceOfRooms;") ∈ lw_all := lw_g (lw_at lw_m1 153 rfl) rfl
theorem q202 : (Jvm.Cond.soleField "PalaceOfRooms$Laid" "this$0") ∈ lw_all := lw_g (lw_at lw_m1 154 rfl) rfl
theorem q203 : (Jvm.Cond.laysFinal "PalaceOfRooms$Laid" "PalaceOfRooms$Orders" "row" "[I") ∈ lw_all := lw_g (lw_at lw_m1 155 rfl) rfl
theorem q205 : (Jvm.Cond.laysFinal "PalaceOfRooms$Laid" "PalaceOfRooms$Orders" "best" "[I") ∈ lw_all := lw_g (lw_at lw_m1 157 rfl) rfl
theorem q207 : (Jvm.Cond.lays "PalaceOfRooms$Laid" "PalaceOfRooms$Orders" "many" "I") ∈ lw_all := lw_g (lw_at lw_m1 159 rfl) rfl
theorem q209 : (Jvm.Cond.lays "PalaceOfRooms$Laid" "PalaceOfRooms$Orders" "least" "I") ∈ lw_all := lw_g (lw_at lw_m1 161 rfl) rfl
theorem q211 : (Jvm.Cond.laysFinal "PalaceOfRooms$Laid" "PalaceOfRooms$Orders" "this$0" "LPalaceOfRooms;") ∈ lw_all := lw_g (lw_at lw_m1 163 rfl) rfl
theorem q213 : (Jvm.Cond.superclass "PalaceOfRooms$Laid" "PalaceOfRooms$Orders") ∈ lw_all := lw_g (lw_at lw_m1 165 rfl) rfl
theorem q268 : (Jvm.Cond.fieldLinkNest "PalaceOfRooms$Laid" (13 : Nat) "PalaceOfRooms" "hand" "[I" "PalaceOfRooms") ∈ lw_tbl := lw_at lw_m1 220 rfl
theorem q822 : (Jvm.Cond.selects "PalaceOfRooms$Laid" ({ cls := "PalaceOfRooms$Orders", name := "run", desc := "(I)V" } : Jvm.MethodName) ({ cls := "PalaceOfRooms$Orders", name := "run", desc := "(I)V" } : Jvm.MethodName)) ∈ lw_all := lw_g (lw_at lw_m4 54 rfl) rfl
theorem q836 : (Jvm.Cond.selects "PalaceOfRooms$Laid" ({ cls := "PalaceOfRooms$Orders", name := "more", desc := "([II)I" } : Jvm.MethodName) ({ cls := "PalaceOfRooms$Laid", name := "more", desc := "([II)I" } : Jvm.MethodName)) ∈ lw_all := lw_g (lw_at lw_m4 68 rfl) rfl
theorem q837 : (Jvm.Cond.instanceMethod ({ cls := "PalaceOfRooms$Laid", name := "more", desc := "([II)I" } : Jvm.MethodName)) ∈ lw_all := lw_g (lw_at lw_m4 69 rfl) rfl
theorem q838 : (Jvm.Cond.code ({ cls := "PalaceOfRooms$Laid", name := "more", desc := "([II)I" } : Jvm.MethodName) prog_11_method_2_code (3 : Nat) (Option.some Jvm.ClassFile.FieldType.int)) ∈ lw_all := lw_g (lw_at lw_m4 70 rfl) rfl
theorem q839 : (Jvm.Cond.methodLinkNest "PalaceOfRooms$Laid" (19 : Nat) ({ cls := "PalaceOfRooms", name := "likeness", desc := "(II)I" } : Jvm.MethodName) "PalaceOfRooms") ∈ lw_tbl := lw_at lw_m4 71 rfl
theorem in_X7 : ∀ w ∈ wsX70, w ∈ lw_all := lw_in wsX70 [203, 205, 207, 209, 211, 201] (by decide +kernel) (by decide +kernel)
def RX8 : String := "PalaceOfRooms$Code"
def TX8 : u_T := fun k => match k with
  | 0 => ("PalaceOfRooms$Orders", "row", "[I", true)
  | 1 => ("PalaceOfRooms$Orders", "best", "[I", true)
  | 2 => ("PalaceOfRooms$Orders", "many", "I", false)
  | 3 => ("PalaceOfRooms$Orders", "least", "I", false)
  | 4 => ("PalaceOfRooms$Orders", "this$0", "LPalaceOfRooms;", true)
  | _ => ("PalaceOfRooms$Code", "this$0", "LPalaceOfRooms;", true)
def tyX8 : Nat → FieldType := fun k => match k with
  | 0 => .array .int
  | 1 => .array .int
  | 2 => .int
  | 3 => .int
  | 4 => .object "PalaceOfRooms"
  | _ => .object "PalaceOfRooms"
abbrev wsX80 : List Cond := u_ws RX8 TX8 6
theorem tyX8_ok : ∀ k, k < 6 → parseFieldDescriptor (TX8 k).2.2.1 = some (tyX8 k) := by decide +kernel
abbrev cX8_init : ByteArray := prog_4_method_1_code
def yX8_init : MethodName := ⟨RX8, "<init>", "(LPalaceOfRooms;)V"⟩
abbrev cX8_more : ByteArray := prog_4_method_2_code
def yX8_more : MethodName := ⟨RX8, "more", "([II)I"⟩
theorem q57 : (Jvm.Cond.initialized "PalaceOfRooms$Code") ∈ lw_all := lw_g (lw_at lw_m1 9 rfl) rfl
theorem q215 : (Jvm.Cond.instantiable "PalaceOfRooms$Code" (6 : Nat)) ∈ lw_all := lw_g (lw_at lw_m1 167 rfl) rfl
theorem q217 : (Jvm.Cond.instanceMethod ({ cls := "PalaceOfRooms$Code", name := "<init>", desc := "(LPalaceOfRooms;)V" } : Jvm.MethodName)) ∈ lw_all := lw_g (lw_at lw_m1 169 rfl) rfl
theorem q218 : (Jvm.Cond.code ({ cls := "PalaceOfRooms$Code", name := "<init>", desc := "(LPalaceOfRooms;)V" } : Jvm.MethodName) prog_4_method_1_code (2 : Nat) (Option.none : Option Jvm.ClassFile.FieldType)) ∈ lw_all := lw_g (lw_at lw_m1 170 rfl) rfl
theorem q219 : (Jvm.Cond.methodLinkNest "PalaceOfRooms$Code" (7 : Nat) ({ cls := "PalaceOfRooms$Orders", name := "<init>", desc := "(LPalaceOfRooms;)V" } : Jvm.MethodName) "PalaceOfRooms") ∈ lw_tbl := lw_at lw_m1 171 rfl
theorem q220 : (Jvm.Cond.fieldLink "PalaceOfRooms$Code" (1 : Nat) "PalaceOfRooms$Code" "this$0" "LPalaceOfRooms;") ∈ lw_all := lw_g (lw_at lw_m1 172 rfl) rfl
theorem q221 : (Jvm.Cond.laysFinal "PalaceOfRooms$Code" "PalaceOfRooms$Code" "this$0" "LPalaceOfRooms;") ∈ lw_all := lw_g (lw_at lw_m1 173 rfl) rfl
theorem q222 : (Jvm.Cond.soleField "PalaceOfRooms$Code" "this$0") ∈ lw_all := lw_g (lw_at lw_m1 174 rfl) rfl
theorem q223 : (Jvm.Cond.laysFinal "PalaceOfRooms$Code" "PalaceOfRooms$Orders" "row" "[I") ∈ lw_all := lw_g (lw_at lw_m1 175 rfl) rfl
theorem q224 : (Jvm.Cond.laysFinal "PalaceOfRooms$Code" "PalaceOfRooms$Orders" "best" "[I") ∈ lw_all := lw_g (lw_at lw_m1 176 rfl) rfl
theorem q225 : (Jvm.Cond.lays "PalaceOfRooms$Code" "PalaceOfRooms$Orders" "many" "I") ∈ lw_all := lw_g (lw_at lw_m1 177 rfl) rfl
theorem q226 : (Jvm.Cond.lays "PalaceOfRooms$Code" "PalaceOfRooms$Orders" "least" "I") ∈ lw_all := lw_g (lw_at lw_m1 178 rfl) rfl
theorem q227 : (Jvm.Cond.laysFinal "PalaceOfRooms$Code" "PalaceOfRooms$Orders" "this$0" "LPalaceOfRooms;") ∈ lw_all := lw_g (lw_at lw_m1 179 rfl) rfl
theorem q228 : (Jvm.Cond.superclass "PalaceOfRooms$Code" "PalaceOfRooms$Orders") ∈ lw_all := lw_g (lw_at lw_m1 180 rfl) rfl
theorem q269 : (Jvm.Cond.fieldLinkNest "PalaceOfRooms$Code" (19 : Nat) "PalaceOfRooms" "hand" "[I" "PalaceOfRooms") ∈ lw_tbl := lw_at lw_m1 221 rfl
theorem q271 : (Jvm.Cond.fieldLinkNest "PalaceOfRooms$Code" (13 : Nat) "PalaceOfRooms" "alike" "[[I" "PalaceOfRooms") ∈ lw_tbl := lw_at lw_m1 223 rfl
theorem q821 : (Jvm.Cond.selects "PalaceOfRooms$Code" ({ cls := "PalaceOfRooms$Orders", name := "run", desc := "(I)V" } : Jvm.MethodName) ({ cls := "PalaceOfRooms$Orders", name := "run", desc := "(I)V" } : Jvm.MethodName)) ∈ lw_all := lw_g (lw_at lw_m4 53 rfl) rfl
theorem q832 : (Jvm.Cond.selects "PalaceOfRooms$Code" ({ cls := "PalaceOfRooms$Orders", name := "more", desc := "([II)I" } : Jvm.MethodName) ({ cls := "PalaceOfRooms$Code", name := "more", desc := "([II)I" } : Jvm.MethodName)) ∈ lw_all := lw_g (lw_at lw_m4 64 rfl) rfl
theorem q833 : (Jvm.Cond.instanceMethod ({ cls := "PalaceOfRooms$Code", name := "more", desc := "([II)I" } : Jvm.MethodName)) ∈ lw_all := lw_g (lw_at lw_m4 65 rfl) rfl
theorem q834 : (Jvm.Cond.code ({ cls := "PalaceOfRooms$Code", name := "more", desc := "([II)I" } : Jvm.MethodName) prog_4_method_2_code (5 : Nat) (Option.some Jvm.ClassFile.FieldType.int)) ∈ lw_all := lw_g (lw_at lw_m4 66 rfl) rfl
theorem q835 : (Jvm.Cond.methodLinkNest "PalaceOfRooms$Code" (23 : Nat) ({ cls := "PalaceOfRooms", name := "likeness", desc := "(II)I" } : Jvm.MethodName) "PalaceOfRooms") ∈ lw_tbl := lw_at lw_m4 67 rfl
theorem in_X8 : ∀ w ∈ wsX80, w ∈ lw_all := lw_in wsX80 [223, 224, 225, 226, 227, 221] (by decide +kernel) (by decide +kernel)
def RX9 : String := "PalaceOfRooms$Pupil"
def TX9 : u_T := fun k => match k with
  | 0 => ("PalaceOfRooms$Pupil", "days", "[I", true)
  | 1 => ("PalaceOfRooms$Pupil", "rights", "[Z", true)
  | _ => ("PalaceOfRooms$Pupil", "many", "I", false)
def tyX9 : Nat → FieldType := fun k => match k with
  | 0 => .array .int
  | 1 => .array .boolean
  | _ => .int
abbrev wsX90 : List Cond := u_ws RX9 TX9 3
theorem nmX9 : ∀ a, a < 3 → ∀ b, b < 3 → a ≠ b → (TX9 a).2.1 ≠ (TX9 b).2.1 := by decide +kernel
theorem tyX9_ok : ∀ k, k < 3 → parseFieldDescriptor (TX9 k).2.2.1 = some (tyX9 k) := by decide +kernel
abbrev cX9_init : ByteArray := prog_14_method_1_code
def yX9_init : MethodName := ⟨RX9, "<init>", "()V"⟩
abbrev cX9_mayBe : ByteArray := prog_14_method_4_code
def yX9_mayBe : MethodName := ⟨RX9, "mayBe", "()I"⟩
abbrev cX9_agrees : ByteArray := prog_14_method_3_code
def yX9_agrees : MethodName := ⟨RX9, "agrees", "(II)I"⟩
abbrev cX9_isRight : ByteArray := prog_14_method_2_code
def yX9_isRight : MethodName := ⟨RX9, "isRight", "(III)Z"⟩
abbrev cX9_likeliest : ByteArray := prog_14_method_5_code
def yX9_likeliest : MethodName := ⟨RX9, "likeliest", "()I"⟩
abbrev cX9_parts : ByteArray := prog_14_method_7_code
def yX9_parts : MethodName := ⟨RX9, "parts", "()I"⟩
abbrev cX9_unlike : ByteArray := prog_14_method_6_code
def yX9_unlike : MethodName := ⟨RX9, "unlike", "(I)I"⟩
theorem q58 : (Jvm.Cond.initialized "PalaceOfRooms$Pupil") ∈ lw_all := lw_g (lw_at lw_m1 10 rfl) rfl
theorem q231 : (Jvm.Cond.instantiable "PalaceOfRooms$Pupil" (3 : Nat)) ∈ lw_all := lw_g (lw_at lw_m1 183 rfl) rfl
theorem q233 : (Jvm.Cond.instanceMethod ({ cls := "PalaceOfRooms$Pupil", name := "<init>", desc := "()V" } : Jvm.MethodName)) ∈ lw_all := lw_g (lw_at lw_m1 185 rfl) rfl
theorem q234 : (Jvm.Cond.code ({ cls := "PalaceOfRooms$Pupil", name := "<init>", desc := "()V" } : Jvm.MethodName) prog_14_method_1_code (1 : Nat) (Option.none : Option Jvm.ClassFile.FieldType)) ∈ lw_all := lw_g (lw_at lw_m1 186 rfl) rfl
theorem q235 : (Jvm.Cond.methodLink "PalaceOfRooms$Pupil" (3 : Nat) ({ cls := "java/lang/Object", name := "<init>", desc := "()V" } : Jvm.MethodName)) ∈ lw_all := lw_g (lw_at lw_m1 187 rfl) rfl
theorem q236 : (Jvm.Cond.fieldLink "PalaceOfRooms$Pupil" (9 : Nat) "PalaceOfRooms$Pupil" "days" "[I") ∈ lw_all := lw_g (lw_at lw_m1 188 rfl) rfl
theorem q238 : (Jvm.Cond.fieldLink "PalaceOfRooms$Pupil" (15 : Nat) "PalaceOfRooms$Pupil" "rights" "[Z") ∈ lw_all := lw_g (lw_at lw_m1 190 rfl) rfl
theorem q240 : (Jvm.Cond.fieldLink "PalaceOfRooms$Pupil" (19 : Nat) "PalaceOfRooms$Pupil" "many" "I") ∈ lw_all := lw_g (lw_at lw_m1 192 rfl) rfl
theorem q242 : (Jvm.Cond.laysFinal "PalaceOfRooms$Pupil" "PalaceOfRooms$Pupil" "days" "[I") ∈ lw_all := lw_g (lw_at lw_m1 194 rfl) rfl
theorem q243 : (Jvm.Cond.soleField "PalaceOfRooms$Pupil" "days") ∈ lw_all := lw_g (lw_at lw_m1 195 rfl) rfl
theorem q244 : (Jvm.Cond.laysFinal "PalaceOfRooms$Pupil" "PalaceOfRooms$Pupil" "rights" "[Z") ∈ lw_all := lw_g (lw_at lw_m1 196 rfl) rfl
theorem q245 : (Jvm.Cond.soleField "PalaceOfRooms$Pupil" "rights") ∈ lw_all := lw_g (lw_at lw_m1 197 rfl) rfl
theorem q246 : (Jvm.Cond.lays "PalaceOfRooms$Pupil" "PalaceOfRooms$Pupil" "many" "I") ∈ lw_all := lw_g (lw_at lw_m1 198 rfl) rfl
theorem q247 : (Jvm.Cond.soleField "PalaceOfRooms$Pupil" "many") ∈ lw_all := lw_g (lw_at lw_m1 199 rfl) rfl
theorem q248 : (Jvm.Cond.superclass "PalaceOfRooms$Pupil" "java/lang/Object") ∈ lw_all := lw_g (lw_at lw_m1 200 rfl) rfl
theorem q936 : (Jvm.Cond.instanceMethod ({ cls := "PalaceOfRooms$Pupil", name := "mayBe", desc := "()I" } : Jvm.MethodName)) ∈ lw_all := lw_g (lw_at lw_m4 168 rfl) rfl
theorem q937 : (Jvm.Cond.selects "PalaceOfRooms$Pupil" ({ cls := "PalaceOfRooms$Pupil", name := "mayBe", desc := "()I" } : Jvm.MethodName) ({ cls := "PalaceOfRooms$Pupil", name := "mayBe", desc := "()I" } : Jvm.MethodName)) ∈ lw_all := lw_g (lw_at lw_m4 169 rfl) rfl
theorem q938 : (Jvm.Cond.code ({ cls := "PalaceOfRooms$Pupil", name := "mayBe", desc := "()I" } : Jvm.MethodName) prog_14_method_4_code (4 : Nat) (Option.some Jvm.ClassFile.FieldType.int)) ∈ lw_all := lw_g (lw_at lw_m4 170 rfl) rfl
theorem q939 : (Jvm.Cond.methodLink "PalaceOfRooms$Pupil" (27 : Nat) ({ cls := "PalaceOfRooms$Pupil", name := "agrees", desc := "(II)I" } : Jvm.MethodName)) ∈ lw_all := lw_g (lw_at lw_m4 171 rfl) rfl
theorem q940 : (Jvm.Cond.instanceMethod ({ cls := "PalaceOfRooms$Pupil", name := "agrees", desc := "(II)I" } : Jvm.MethodName)) ∈ lw_all := lw_g (lw_at lw_m4 172 rfl) rfl
theorem q941 : (Jvm.Cond.selects "PalaceOfRooms$Pupil" ({ cls := "PalaceOfRooms$Pupil", name := "agrees", desc := "(II)I" } : Jvm.MethodName) ({ cls := "PalaceOfRooms$Pupil", name := "agrees", desc := "(II)I" } : Jvm.MethodName)) ∈ lw_all := lw_g (lw_at lw_m4 173 rfl) rfl
theorem q942 : (Jvm.Cond.code ({ cls := "PalaceOfRooms$Pupil", name := "agrees", desc := "(II)I" } : Jvm.MethodName) prog_14_method_3_code (5 : Nat) (Option.some Jvm.ClassFile.FieldType.int)) ∈ lw_all := lw_g (lw_at lw_m4 174 rfl) rfl
theorem q943 : (Jvm.Cond.methodLink "PalaceOfRooms$Pupil" (23 : Nat) ({ cls := "PalaceOfRooms$Pupil", name := "isRight", desc := "(III)Z" } : Jvm.MethodName)) ∈ lw_all := lw_g (lw_at lw_m4 175 rfl) rfl
theorem q944 : (Jvm.Cond.static ({ cls := "PalaceOfRooms$Pupil", name := "isRight", desc := "(III)Z" } : Jvm.MethodName)) ∈ lw_all := lw_g (lw_at lw_m4 176 rfl) rfl
theorem q945 : (Jvm.Cond.code ({ cls := "PalaceOfRooms$Pupil", name := "isRight", desc := "(III)Z" } : Jvm.MethodName) prog_14_method_2_code (3 : Nat) (Option.some Jvm.ClassFile.FieldType.boolean)) ∈ lw_all := lw_g (lw_at lw_m4 177 rfl) rfl
theorem q947 : (Jvm.Cond.instanceMethod ({ cls := "PalaceOfRooms$Pupil", name := "likeliest", desc := "()I" } : Jvm.MethodName)) ∈ lw_all := lw_g (lw_at lw_m4 179 rfl) rfl
theorem q948 : (Jvm.Cond.selects "PalaceOfRooms$Pupil" ({ cls := "PalaceOfRooms$Pupil", name := "likeliest", desc := "()I" } : Jvm.MethodName) ({ cls := "PalaceOfRooms$Pupil", name := "likeliest", desc := "()I" } : Jvm.MethodName)) ∈ lw_all := lw_g (lw_at lw_m4 180 rfl) rfl
theorem q949 : (Jvm.Cond.code ({ cls := "PalaceOfRooms$Pupil", name := "likeliest", desc := "()I" } : Jvm.MethodName) prog_14_method_5_code (5 : Nat) (Option.some Jvm.ClassFile.FieldType.int)) ∈ lw_all := lw_g (lw_at lw_m4 181 rfl) rfl
theorem q952 : (Jvm.Cond.instanceMethod ({ cls := "PalaceOfRooms$Pupil", name := "parts", desc := "()I" } : Jvm.MethodName)) ∈ lw_all := lw_g (lw_at lw_m4 184 rfl) rfl
theorem q953 : (Jvm.Cond.selects "PalaceOfRooms$Pupil" ({ cls := "PalaceOfRooms$Pupil", name := "parts", desc := "()I" } : Jvm.MethodName) ({ cls := "PalaceOfRooms$Pupil", name := "parts", desc := "()I" } : Jvm.MethodName)) ∈ lw_all := lw_g (lw_at lw_m4 185 rfl) rfl
theorem q954 : (Jvm.Cond.code ({ cls := "PalaceOfRooms$Pupil", name := "parts", desc := "()I" } : Jvm.MethodName) prog_14_method_7_code (3 : Nat) (Option.some Jvm.ClassFile.FieldType.int)) ∈ lw_all := lw_g (lw_at lw_m4 186 rfl) rfl
theorem q955 : (Jvm.Cond.methodLink "PalaceOfRooms$Pupil" (37 : Nat) ({ cls := "PalaceOfRooms$Pupil", name := "mayBe", desc := "()I" } : Jvm.MethodName)) ∈ lw_all := lw_g (lw_at lw_m4 187 rfl) rfl
theorem q956 : (Jvm.Cond.methodLink "PalaceOfRooms$Pupil" (41 : Nat) ({ cls := "PalaceOfRooms$Pupil", name := "unlike", desc := "(I)I" } : Jvm.MethodName)) ∈ lw_all := lw_g (lw_at lw_m4 188 rfl) rfl
theorem q957 : (Jvm.Cond.privateMethod ({ cls := "PalaceOfRooms$Pupil", name := "unlike", desc := "(I)I" } : Jvm.MethodName)) ∈ lw_tbl := lw_at lw_m4 189 rfl
theorem q958 : (Jvm.Cond.instanceMethod ({ cls := "PalaceOfRooms$Pupil", name := "unlike", desc := "(I)I" } : Jvm.MethodName)) ∈ lw_all := lw_g (lw_at lw_m4 190 rfl) rfl
theorem q959 : (Jvm.Cond.code ({ cls := "PalaceOfRooms$Pupil", name := "unlike", desc := "(I)I" } : Jvm.MethodName) prog_14_method_6_code (5 : Nat) (Option.some Jvm.ClassFile.FieldType.int)) ∈ lw_all := lw_g (lw_at lw_m4 191 rfl) rfl
theorem q960 : (Jvm.Cond.methodLink "PalaceOfRooms$Pupil" (31 : Nat) ({ cls := "java/lang/Math", name := "abs", desc := "(I)I" } : Jvm.MethodName)) ∈ lw_all := lw_g (lw_at lw_m4 192 rfl) rfl
theorem in_X9 : ∀ w ∈ wsX90, w ∈ lw_all := lw_in wsX90 [242, 244, 246] (by decide +kernel) (by decide +kernel)
def RX10 : String := "PalaceOfRoomsModel"
def TX10 : u_T := fun k => match k with
  | 0 => ("PalaceOfRoomsModel", "day", "I", false)
  | 1 => ("PalaceOfRoomsModel", "doors", "I", false)
  | 2 => ("PalaceOfRoomsModel", "doorA", "[I", true)
  | 3 => ("PalaceOfRoomsModel", "doorB", "[I", true)
  | 4 => ("PalaceOfRoomsModel", "far", "[I", true)
  | 5 => ("PalaceOfRoomsModel", "marks", "[I", true)
  | 6 => ("PalaceOfRoomsModel", "tell", "I", false)
  | 7 => ("PalaceOfRoomsModel", "gain", "I", false)
  | 8 => ("PalaceOfRoomsModel", "falls", "[I", true)
  | 9 => ("PalaceOfRoomsModel", "top", "[I", true)
  | 10 => ("PalaceOfRoomsModel", "strength", "[I", true)
  | 11 => ("PalaceOfRoomsModel", "ghost", "[I", true)
  | 12 => ("PalaceOfRoomsModel", "faint", "[I", true)
  | 13 => ("PalaceOfRoomsModel", "putOn", "[I", true)
  | 14 => ("PalaceOfRoomsModel", "walkedOn", "[I", true)
  | 15 => ("PalaceOfRoomsModel", "ahead", "[I", true)
  | 16 => ("PalaceOfRoomsModel", "aheadFaint", "[I", true)
  | 17 => ("PalaceOfRoomsModel", "chosen", "[I", true)
  | 18 => ("PalaceOfRoomsModel", "best", "[I", true)
  | 19 => ("PalaceOfRoomsModel", "bytes", "I", false)
  | 20 => ("PalaceOfRoomsModel", "text", "[I", true)
  | 21 => ("PalaceOfRoomsModel", "position", "I", false)
  | 22 => ("PalaceOfRoomsModel", "tokenAt", "I", false)
  | 23 => ("PalaceOfRoomsModel", "token", "J", false)
  | 24 => ("PalaceOfRoomsModel", "digits", "I", false)
  | 25 => ("PalaceOfRoomsModel", "number", "I", false)
  | 26 => ("PalaceOfRoomsModel", "faultAt", "I", false)
  | 27 => ("PalaceOfRoomsModel", "readMany", "I", false)
  | 28 => ("PalaceOfRoomsModel", "read", "[I", true)
  | 29 => ("PalaceOfRoomsModel", "lines", "I", false)
  | 30 => ("PalaceOfRoomsModel", "line", "[I", true)
  | 31 => ("PalaceOfRoomsModel", "things", "[I", true)
  | 32 => ("PalaceOfRoomsModel", "order", "[I", true)
  | 33 => ("PalaceOfRoomsModel", "bestOrder", "[I", true)
  | 34 => ("PalaceOfRoomsModel", "bestSum", "I", false)
  | 35 => ("PalaceOfRoomsModel", "answers", "[I", true)
  | 36 => ("PalaceOfRoomsModel", "answerDay", "[I", true)
  | 37 => ("PalaceOfRoomsModel", "answerRight", "[Z", true)
  | _ => ("PalaceOfRoomsModel", "alike", "[I", true)
def tyX10 : Nat → FieldType := fun k => match k with
  | 0 => .int
  | 1 => .int
  | 2 => .array .int
  | 3 => .array .int
  | 4 => .array .int
  | 5 => .array .int
  | 6 => .int
  | 7 => .int
  | 8 => .array .int
  | 9 => .array .int
  | 10 => .array .int
  | 11 => .array .int
  | 12 => .array .int
  | 13 => .array .int
  | 14 => .array .int
  | 15 => .array .int
  | 16 => .array .int
  | 17 => .array .int
  | 18 => .array .int
  | 19 => .int
  | 20 => .array .int
  | 21 => .int
  | 22 => .int
  | 23 => .long
  | 24 => .int
  | 25 => .int
  | 26 => .int
  | 27 => .int
  | 28 => .array .int
  | 29 => .int
  | 30 => .array .int
  | 31 => .array .int
  | 32 => .array .int
  | 33 => .array .int
  | 34 => .int
  | 35 => .array .int
  | 36 => .array .int
  | 37 => .array .boolean
  | _ => .array .int
abbrev wsX100 : List Cond := u_ws RX10 TX10 39
theorem nmX10 : ∀ a, a < 39 → ∀ b, b < 39 → a ≠ b → (TX10 a).2.1 ≠ (TX10 b).2.1 := by decide +kernel
theorem tyX10_ok : ∀ k, k < 39 → parseFieldDescriptor (TX10 k).2.2.1 = some (tyX10 k) := by decide +kernel
abbrev cX10_init : ByteArray := prog_18_method_1_code
def yX10_init : MethodName := ⟨RX10, "<init>", "()V"⟩
abbrev cX10_door : ByteArray := prog_18_method_8_code
def yX10_door : MethodName := ⟨RX10, "door", "(II)I"⟩
abbrev cX10_isRoom : ByteArray := prog_18_method_3_code
def yX10_isRoom : MethodName := ⟨RX10, "isRoom", "(I)Z"⟩
abbrev cX10_in : ByteArray := prog_18_method_2_code
def yX10_in : MethodName := ⟨RX10, "in", "(III)Z"⟩
abbrev cX10_areJoined : ByteArray := prog_18_method_7_code
def yX10_areJoined : MethodName := ⟨RX10, "areJoined", "(II)Z"⟩
abbrev cX10_away : ByteArray := prog_18_method_10_code
def yX10_away : MethodName := ⟨RX10, "away", "(II)I"⟩
abbrev cX10_doorsTo : ByteArray := prog_18_method_9_code
def yX10_doorsTo : MethodName := ⟨RX10, "doorsTo", "(II)I"⟩
abbrev cX10_marks : ByteArray := prog_18_method_11_code
def yX10_marks : MethodName := ⟨RX10, "marks", "(II)I"⟩
abbrev cX10_isThing : ByteArray := prog_18_method_5_code
def yX10_isThing : MethodName := ⟨RX10, "isThing", "(I)Z"⟩
abbrev cX10_like : ByteArray := prog_18_method_12_code
def yX10_like : MethodName := ⟨RX10, "like", "(II)I"⟩
abbrev cX10_likeness : ByteArray := prog_18_method_6_code
def yX10_likeness : MethodName := ⟨RX10, "likeness", "(II)I"⟩
abbrev cX10_set : ByteArray := prog_18_method_13_code
def yX10_set : MethodName := ⟨RX10, "set", "(II)I"⟩
abbrev cX10_fall : ByteArray := prog_18_method_14_code
def yX10_fall : MethodName := ⟨RX10, "fall", "(II)I"⟩
abbrev cX10_put : ByteArray := prog_18_method_16_code
def yX10_put : MethodName := ⟨RX10, "put", "(II)I"⟩
abbrev cX10_isCorner : ByteArray := prog_18_method_4_code
def yX10_isCorner : MethodName := ⟨RX10, "isCorner", "(I)Z"⟩
abbrev cX10_cornerOf : ByteArray := prog_18_method_15_code
def yX10_cornerOf : MethodName := ⟨RX10, "cornerOf", "(I)I"⟩
abbrev cX10_clear : ByteArray := prog_18_method_17_code
def yX10_clear : MethodName := ⟨RX10, "clear", "(I)I"⟩
abbrev cX10_corner : ByteArray := prog_18_method_18_code
def yX10_corner : MethodName := ⟨RX10, "corner", "(II)I"⟩
abbrev cX10_where : ByteArray := prog_18_method_19_code
def yX10_where : MethodName := ⟨RX10, "where", "(I)I"⟩
abbrev cX10_days : ByteArray := prog_18_method_23_code
def yX10_days : MethodName := ⟨RX10, "days", "(I)I"⟩
abbrev cX10_lookAhead : ByteArray := prog_18_method_22_code
def yX10_lookAhead : MethodName := ⟨RX10, "lookAhead", "()V"⟩
abbrev cX10_goDay : ByteArray := prog_18_method_21_code
def yX10_goDay : MethodName := ⟨RX10, "goDay", "(II)V"⟩
abbrev cX10_likeBeside : ByteArray := prog_18_method_20_code
def yX10_likeBeside : MethodName := ⟨RX10, "likeBeside", "(I)I"⟩
abbrev cX10_walk : ByteArray := prog_18_method_25_code
def yX10_walk : MethodName := ⟨RX10, "walk", "(I)I"⟩
abbrev cX10_goWalk : ByteArray := prog_18_method_24_code
def yX10_goWalk : MethodName := ⟨RX10, "goWalk", "(II)I"⟩
abbrev cX10_write : ByteArray := prog_18_method_26_code
def yX10_write : MethodName := ⟨RX10, "write", "(JI)I"⟩
abbrev cX10_erase : ByteArray := prog_18_method_27_code
def yX10_erase : MethodName := ⟨RX10, "erase", "()I"⟩
abbrev cX10_fault : ByteArray := prog_18_method_34_code
def yX10_fault : MethodName := ⟨RX10, "fault", "()I"⟩
abbrev cX10_isRead : ByteArray := prog_18_method_33_code
def yX10_isRead : MethodName := ⟨RX10, "isRead", "()Z"⟩
abbrev cX10_isLine : ByteArray := prog_18_method_32_code
def yX10_isLine : MethodName := ⟨RX10, "isLine", "(I)Z"⟩
abbrev cX10_nextToken : ByteArray := prog_18_method_28_code
def yX10_nextToken : MethodName := ⟨RX10, "nextToken", "()V"⟩
abbrev cX10_isNumber : ByteArray := prog_18_method_30_code
def yX10_isNumber : MethodName := ⟨RX10, "isNumber", "(III)Z"⟩
abbrev cX10_fails : ByteArray := prog_18_method_29_code
def yX10_fails : MethodName := ⟨RX10, "fails", "()Z"⟩
abbrev cX10_isWord : ByteArray := prog_18_method_31_code
def yX10_isWord : MethodName := ⟨RX10, "isWord", "(J)Z"⟩
abbrev cX10_rules : ByteArray := prog_18_method_35_code
def yX10_rules : MethodName := ⟨RX10, "rules", "()I"⟩
abbrev cX10_bars : ByteArray := prog_18_method_39_code
def yX10_bars : MethodName := ⟨RX10, "bars", "(II)I"⟩
abbrev cX10_standIn : ByteArray := prog_18_method_37_code
def yX10_standIn : MethodName := ⟨RX10, "standIn", "(I)I"⟩
abbrev cX10_lastOf : ByteArray := prog_18_method_36_code
def yX10_lastOf : MethodName := ⟨RX10, "lastOf", "(III)I"⟩
abbrev cX10_isTooLike : ByteArray := prog_18_method_38_code
def yX10_isTooLike : MethodName := ⟨RX10, "isTooLike", "(III)Z"⟩
abbrev cX10_due : ByteArray := prog_18_method_40_code
def yX10_due : MethodName := ⟨RX10, "due", "()I"⟩
abbrev cX10_laid : ByteArray := prog_18_method_45_code
def yX10_laid : MethodName := ⟨RX10, "laid", "(JII)I"⟩
abbrev cX10_take : ByteArray := prog_18_method_41_code
def yX10_take : MethodName := ⟨RX10, "take", "(JI)I"⟩
abbrev cX10_findOrder : ByteArray := prog_18_method_42_code
def yX10_findOrder : MethodName := ⟨RX10, "findOrder", "(IZ)V"⟩
abbrev cX10_speechOf : ByteArray := prog_18_method_43_code
def yX10_speechOf : MethodName := ⟨RX10, "speechOf", "(I)I"⟩
abbrev cX10_harmOf : ByteArray := prog_18_method_44_code
def yX10_harmOf : MethodName := ⟨RX10, "harmOf", "(I)I"⟩
abbrev cX10_cost : ByteArray := prog_18_method_47_code
def yX10_cost : MethodName := ⟨RX10, "cost", "(I)I"⟩
abbrev cX10_costOf : ByteArray := prog_18_method_46_code
def yX10_costOf : MethodName := ⟨RX10, "costOf", "(I)I"⟩
abbrev cX10_plan : ByteArray := prog_18_method_51_code
def yX10_plan : MethodName := ⟨RX10, "plan", "(III)I"⟩
abbrev cX10_areMinutes : ByteArray := prog_18_method_48_code
def yX10_areMinutes : MethodName := ⟨RX10, "areMinutes", "(II)Z"⟩
abbrev cX10_isGone : ByteArray := prog_18_method_49_code
def yX10_isGone : MethodName := ⟨RX10, "isGone", "(III)Z"⟩
abbrev cX10_allAt : ByteArray := prog_18_method_50_code
def yX10_allAt : MethodName := ⟨RX10, "allAt", "(I)I"⟩
abbrev cX10_judge : ByteArray := prog_18_method_52_code
def yX10_judge : MethodName := ⟨RX10, "judge", "(III)I"⟩
abbrev cX10_right : ByteArray := prog_18_method_53_code
def yX10_right : MethodName := ⟨RX10, "right", "(II)I"⟩
abbrev cX10_causes : ByteArray := prog_18_method_54_code
def yX10_causes : MethodName := ⟨RX10, "causes", "(II)I"⟩
abbrev cX10_asked : ByteArray := prog_18_method_55_code
def yX10_asked : MethodName := ⟨RX10, "asked", "(II)I"⟩
abbrev cX10_beside : ByteArray := prog_18_method_56_code
def yX10_beside : MethodName := ⟨RX10, "beside", "(II)I"⟩
abbrev cX10_answer : ByteArray := prog_18_method_58_code
def yX10_answer : MethodName := ⟨RX10, "answer", "(IIZ)I"⟩
abbrev cX10_isPupil : ByteArray := prog_18_method_57_code
def yX10_isPupil : MethodName := ⟨RX10, "isPupil", "(I)Z"⟩
abbrev cX10_pupil : ByteArray := prog_18_method_62_code
def yX10_pupil : MethodName := ⟨RX10, "pupil", "(II)I"⟩
abbrev cX10_agrees : ByteArray := prog_18_method_60_code
def yX10_agrees : MethodName := ⟨RX10, "agrees", "(II)I"⟩
abbrev cX10_isRight : ByteArray := prog_18_method_59_code
def yX10_isRight : MethodName := ⟨RX10, "isRight", "(II)Z"⟩
abbrev cX10_partsMost : ByteArray := prog_18_method_61_code
def yX10_partsMost : MethodName := ⟨RX10, "partsMost", "(I)I"⟩
abbrev cX10_figures : ByteArray := prog_18_method_63_code
def yX10_figures : MethodName := ⟨RX10, "figures", "(III)I"⟩
abbrev cX10_code : ByteArray := prog_18_method_64_code
def yX10_code : MethodName := ⟨RX10, "code", "(JII)I"⟩
abbrev cX10_enough : ByteArray := prog_18_method_65_code
def yX10_enough : MethodName := ⟨RX10, "enough", "(I)I"⟩
abbrev cX10_count : ByteArray := prog_18_method_66_code
def yX10_count : MethodName := ⟨RX10, "count", "(I)I"⟩
theorem q59 : (Jvm.Cond.initialized "PalaceOfRoomsModel") ∈ lw_all := lw_g (lw_at lw_m1 11 rfl) rfl
theorem q974 : (Jvm.Cond.instantiable "PalaceOfRoomsModel" (39 : Nat)) ∈ lw_all := lw_g (lw_at lw_m4 206 rfl) rfl
theorem q976 : (Jvm.Cond.instanceMethod ({ cls := "PalaceOfRoomsModel", name := "<init>", desc := "()V" } : Jvm.MethodName)) ∈ lw_all := lw_g (lw_at lw_m4 208 rfl) rfl
theorem q977 : (Jvm.Cond.code ({ cls := "PalaceOfRoomsModel", name := "<init>", desc := "()V" } : Jvm.MethodName) prog_18_method_1_code (2 : Nat) (Option.none : Option Jvm.ClassFile.FieldType)) ∈ lw_all := lw_g (lw_at lw_m4 209 rfl) rfl
theorem q978 : (Jvm.Cond.methodLink "PalaceOfRoomsModel" (1 : Nat) ({ cls := "java/lang/Object", name := "<init>", desc := "()V" } : Jvm.MethodName)) ∈ lw_all := lw_g (lw_at lw_m4 210 rfl) rfl
theorem q979 : (Jvm.Cond.fieldLink "PalaceOfRoomsModel" (125 : Nat) "PalaceOfRoomsModel" "day" "I") ∈ lw_all := lw_g (lw_at lw_m4 211 rfl) rfl
theorem q980 : (Jvm.Cond.fieldLink "PalaceOfRoomsModel" (97 : Nat) "PalaceOfRoomsModel" "doors" "I") ∈ lw_all := lw_g (lw_at lw_m4 212 rfl) rfl
theorem q981 : (Jvm.Cond.fieldLink "PalaceOfRoomsModel" (7 : Nat) "PalaceOfRoomsModel" "doorA" "[I") ∈ lw_all := lw_g (lw_at lw_m4 213 rfl) rfl
theorem q982 : (Jvm.Cond.fieldLink "PalaceOfRoomsModel" (13 : Nat) "PalaceOfRoomsModel" "doorB" "[I") ∈ lw_all := lw_g (lw_at lw_m4 214 rfl) rfl
theorem q983 : (Jvm.Cond.fieldLink "PalaceOfRoomsModel" (16 : Nat) "PalaceOfRoomsModel" "far" "[I") ∈ lw_all := lw_g (lw_at lw_m4 215 rfl) rfl
theorem q984 : (Jvm.Cond.fieldLink "PalaceOfRoomsModel" (19 : Nat) "PalaceOfRoomsModel" "marks" "[I") ∈ lw_all := lw_g (lw_at lw_m4 216 rfl) rfl
theorem q985 : (Jvm.Cond.fieldLink "PalaceOfRoomsModel" (22 : Nat) "PalaceOfRoomsModel" "tell" "I") ∈ lw_all := lw_g (lw_at lw_m4 217 rfl) rfl
theorem q986 : (Jvm.Cond.fieldLink "PalaceOfRoomsModel" (26 : Nat) "PalaceOfRoomsModel" "gain" "I") ∈ lw_all := lw_g (lw_at lw_m4 218 rfl) rfl
theorem q987 : (Jvm.Cond.fieldLink "PalaceOfRoomsModel" (29 : Nat) "PalaceOfRoomsModel" "falls" "[I") ∈ lw_all := lw_g (lw_at lw_m4 219 rfl) rfl
theorem q988 : (Jvm.Cond.fieldLink "PalaceOfRoomsModel" (32 : Nat) "PalaceOfRoomsModel" "top" "[I") ∈ lw_all := lw_g (lw_at lw_m4 220 rfl) rfl
theorem q989 : (Jvm.Cond.fieldLink "PalaceOfRoomsModel" (35 : Nat) "PalaceOfRoomsModel" "strength" "[I") ∈ lw_all := lw_g (lw_at lw_m4 221 rfl) rfl
theorem q990 : (Jvm.Cond.fieldLink "PalaceOfRoomsModel" (38 : Nat) "PalaceOfRoomsModel" "ghost" "[I") ∈ lw_all := lw_g (lw_at lw_m4 222 rfl) rfl
theorem q991 : (Jvm.Cond.fieldLink "PalaceOfRoomsModel" (41 : Nat) "PalaceOfRoomsModel" "faint" "[I") ∈ lw_all := lw_g (lw_at lw_m4 223 rfl) rfl
theorem q992 : (Jvm.Cond.fieldLink "PalaceOfRoomsModel" (44 : Nat) "PalaceOfRoomsModel" "putOn" "[I") ∈ lw_all := lw_g (lw_at lw_m4 224 rfl) rfl
theorem q993 : (Jvm.Cond.fieldLink "PalaceOfRoomsModel" (47 : Nat) "PalaceOfRoomsModel" "walkedOn" "[I") ∈ lw_all := lw_g (lw_at lw_m4 225 rfl) rfl
theorem q994 : (Jvm.Cond.fieldLink "PalaceOfRoomsModel" (50 : Nat) "PalaceOfRoomsModel" "ahead" "[I") ∈ lw_all := lw_g (lw_at lw_m4 226 rfl) rfl
theorem q995 : (Jvm.Cond.fieldLink "PalaceOfRoomsModel" (53 : Nat) "PalaceOfRoomsModel" "aheadFaint" "[I") ∈ lw_all := lw_g (lw_at lw_m4 227 rfl) rfl
theorem q996 : (Jvm.Cond.fieldLink "PalaceOfRoomsModel" (56 : Nat) "PalaceOfRoomsModel" "chosen" "[I") ∈ lw_all := lw_g (lw_at lw_m4 228 rfl) rfl
theorem q997 : (Jvm.Cond.fieldLink "PalaceOfRoomsModel" (59 : Nat) "PalaceOfRoomsModel" "best" "[I") ∈ lw_all := lw_g (lw_at lw_m4 229 rfl) rfl
theorem q998 : (Jvm.Cond.fieldLink "PalaceOfRoomsModel" (141 : Nat) "PalaceOfRoomsModel" "bytes" "I") ∈ lw_all := lw_g (lw_at lw_m4 230 rfl) rfl
theorem q999 : (Jvm.Cond.fieldLink "PalaceOfRoomsModel" (62 : Nat) "PalaceOfRoomsModel" "text" "[I") ∈ lw_all := lw_g (lw_at lw_m4 231 rfl) rfl
theorem q1000 : (Jvm.Cond.fieldLink "PalaceOfRoomsModel" (146 : Nat) "PalaceOfRoomsModel" "position" "I") ∈ lw_all := lw_g (lw_at lw_m4 232 rfl) rfl
theorem q1001 : (Jvm.Cond.fieldLink "PalaceOfRoomsModel" (149 : Nat) "PalaceOfRoomsModel" "tokenAt" "I") ∈ lw_all := lw_g (lw_at lw_m4 233 rfl) rfl
theorem q1002 : (Jvm.Cond.fieldLink "PalaceOfRoomsModel" (160 : Nat) "PalaceOfRoomsModel" "token" "J") ∈ lw_all := lw_g (lw_at lw_m4 234 rfl) rfl
theorem q1003 : (Jvm.Cond.fieldLink "PalaceOfRoomsModel" (152 : Nat) "PalaceOfRoomsModel" "digits" "I") ∈ lw_all := lw_g (lw_at lw_m4 235 rfl) rfl
theorem q1004 : (Jvm.Cond.fieldLink "PalaceOfRoomsModel" (155 : Nat) "PalaceOfRoomsModel" "number" "I") ∈ lw_all := lw_g (lw_at lw_m4 236 rfl) rfl
theorem q1005 : (Jvm.Cond.fieldLink "PalaceOfRoomsModel" (174 : Nat) "PalaceOfRoomsModel" "faultAt" "I") ∈ lw_all := lw_g (lw_at lw_m4 237 rfl) rfl
theorem q1006 : (Jvm.Cond.fieldLink "PalaceOfRoomsModel" (201 : Nat) "PalaceOfRoomsModel" "readMany" "I") ∈ lw_all := lw_g (lw_at lw_m4 238 rfl) rfl
theorem q1007 : (Jvm.Cond.fieldLink "PalaceOfRoomsModel" (65 : Nat) "PalaceOfRoomsModel" "read" "[I") ∈ lw_all := lw_g (lw_at lw_m4 239 rfl) rfl
theorem q1008 : (Jvm.Cond.fieldLink "PalaceOfRoomsModel" (210 : Nat) "PalaceOfRoomsModel" "lines" "I") ∈ lw_all := lw_g (lw_at lw_m5 0 rfl) rfl
theorem q1009 : (Jvm.Cond.fieldLink "PalaceOfRoomsModel" (68 : Nat) "PalaceOfRoomsModel" "line" "[I") ∈ lw_all := lw_g (lw_at lw_m5 1 rfl) rfl
theorem q1010 : (Jvm.Cond.fieldLink "PalaceOfRoomsModel" (71 : Nat) "PalaceOfRoomsModel" "things" "[I") ∈ lw_all := lw_g (lw_at lw_m5 2 rfl) rfl
theorem q1011 : (Jvm.Cond.fieldLink "PalaceOfRoomsModel" (74 : Nat) "PalaceOfRoomsModel" "order" "[I") ∈ lw_all := lw_g (lw_at lw_m5 3 rfl) rfl
theorem q1012 : (Jvm.Cond.fieldLink "PalaceOfRoomsModel" (77 : Nat) "PalaceOfRoomsModel" "bestOrder" "[I") ∈ lw_all := lw_g (lw_at lw_m5 4 rfl) rfl
theorem q1013 : (Jvm.Cond.fieldLink "PalaceOfRoomsModel" (225 : Nat) "PalaceOfRoomsModel" "bestSum" "I") ∈ lw_all := lw_g (lw_at lw_m5 5 rfl) rfl
theorem q1014 : (Jvm.Cond.fieldLink "PalaceOfRoomsModel" (80 : Nat) "PalaceOfRoomsModel" "answers" "[I") ∈ lw_all := lw_g (lw_at lw_m5 6 rfl) rfl
theorem q1015 : (Jvm.Cond.fieldLink "PalaceOfRoomsModel" (83 : Nat) "PalaceOfRoomsModel" "answerDay" "[I") ∈ lw_all := lw_g (lw_at lw_m5 7 rfl) rfl
theorem q1016 : (Jvm.Cond.fieldLink "PalaceOfRoomsModel" (86 : Nat) "PalaceOfRoomsModel" "answerRight" "[Z") ∈ lw_all := lw_g (lw_at lw_m5 8 rfl) rfl
theorem q1017 : (Jvm.Cond.fieldLink "PalaceOfRoomsModel" (90 : Nat) "PalaceOfRoomsModel" "alike" "[I") ∈ lw_all := lw_g (lw_at lw_m5 9 rfl) rfl
theorem q1018 : (Jvm.Cond.lays "PalaceOfRoomsModel" "PalaceOfRoomsModel" "day" "I") ∈ lw_all := lw_g (lw_at lw_m5 10 rfl) rfl
theorem q1019 : (Jvm.Cond.soleField "PalaceOfRoomsModel" "day") ∈ lw_all := lw_g (lw_at lw_m5 11 rfl) rfl
theorem q1020 : (Jvm.Cond.lays "PalaceOfRoomsModel" "PalaceOfRoomsModel" "doors" "I") ∈ lw_all := lw_g (lw_at lw_m5 12 rfl) rfl
theorem q1021 : (Jvm.Cond.soleField "PalaceOfRoomsModel" "doors") ∈ lw_all := lw_g (lw_at lw_m5 13 rfl) rfl
theorem q1022 : (Jvm.Cond.laysFinal "PalaceOfRoomsModel" "PalaceOfRoomsModel" "doorA" "[I") ∈ lw_all := lw_g (lw_at lw_m5 14 rfl) rfl
theorem q1023 : (Jvm.Cond.soleField "PalaceOfRoomsModel" "doorA") ∈ lw_all := lw_g (lw_at lw_m5 15 rfl) rfl
theorem q1024 : (Jvm.Cond.laysFinal "PalaceOfRoomsModel" "PalaceOfRoomsModel" "doorB" "[I") ∈ lw_all := lw_g (lw_at lw_m5 16 rfl) rfl
theorem q1025 : (Jvm.Cond.soleField "PalaceOfRoomsModel" "doorB") ∈ lw_all := lw_g (lw_at lw_m5 17 rfl) rfl
theorem q1026 : (Jvm.Cond.laysFinal "PalaceOfRoomsModel" "PalaceOfRoomsModel" "far" "[I") ∈ lw_all := lw_g (lw_at lw_m5 18 rfl) rfl
theorem q1027 : (Jvm.Cond.soleField "PalaceOfRoomsModel" "far") ∈ lw_all := lw_g (lw_at lw_m5 19 rfl) rfl
theorem q1028 : (Jvm.Cond.laysFinal "PalaceOfRoomsModel" "PalaceOfRoomsModel" "marks" "[I") ∈ lw_all := lw_g (lw_at lw_m5 20 rfl) rfl
theorem q1029 : (Jvm.Cond.soleField "PalaceOfRoomsModel" "marks") ∈ lw_all := lw_g (lw_at lw_m5 21 rfl) rfl
theorem q1030 : (Jvm.Cond.lays "PalaceOfRoomsModel" "PalaceOfRoomsModel" "tell" "I") ∈ lw_all := lw_g (lw_at lw_m5 22 rfl) rfl
theorem q1031 : (Jvm.Cond.soleField "PalaceOfRoomsModel" "tell") ∈ lw_all := lw_g (lw_at lw_m5 23 rfl) rfl
theorem q1032 : (Jvm.Cond.lays "PalaceOfRoomsModel" "PalaceOfRoomsModel" "gain" "I") ∈ lw_all := lw_g (lw_at lw_m5 24 rfl) rfl
theorem q1033 : (Jvm.Cond.soleField "PalaceOfRoomsModel" "gain") ∈ lw_all := lw_g (lw_at lw_m5 25 rfl) rfl
theorem q1034 : (Jvm.Cond.laysFinal "PalaceOfRoomsModel" "PalaceOfRoomsModel" "falls" "[I") ∈ lw_all := lw_g (lw_at lw_m5 26 rfl) rfl
theorem q1035 : (Jvm.Cond.soleField "PalaceOfRoomsModel" "falls") ∈ lw_all := lw_g (lw_at lw_m5 27 rfl) rfl
theorem q1036 : (Jvm.Cond.laysFinal "PalaceOfRoomsModel" "PalaceOfRoomsModel" "top" "[I") ∈ lw_all := lw_g (lw_at lw_m5 28 rfl) rfl
theorem q1037 : (Jvm.Cond.soleField "PalaceOfRoomsModel" "top") ∈ lw_all := lw_g (lw_at lw_m5 29 rfl) rfl
theorem q1038 : (Jvm.Cond.laysFinal "PalaceOfRoomsModel" "PalaceOfRoomsModel" "strength" "[I") ∈ lw_all := lw_g (lw_at lw_m5 30 rfl) rfl
theorem q1039 : (Jvm.Cond.soleField "PalaceOfRoomsModel" "strength") ∈ lw_all := lw_g (lw_at lw_m5 31 rfl) rfl
theorem q1040 : (Jvm.Cond.laysFinal "PalaceOfRoomsModel" "PalaceOfRoomsModel" "ghost" "[I") ∈ lw_all := lw_g (lw_at lw_m5 32 rfl) rfl
theorem q1041 : (Jvm.Cond.soleField "PalaceOfRoomsModel" "ghost") ∈ lw_all := lw_g (lw_at lw_m5 33 rfl) rfl
theorem q1042 : (Jvm.Cond.laysFinal "PalaceOfRoomsModel" "PalaceOfRoomsModel" "faint" "[I") ∈ lw_all := lw_g (lw_at lw_m5 34 rfl) rfl
theorem q1043 : (Jvm.Cond.soleField "PalaceOfRoomsModel" "faint") ∈ lw_all := lw_g (lw_at lw_m5 35 rfl) rfl
theorem q1044 : (Jvm.Cond.laysFinal "PalaceOfRoomsModel" "PalaceOfRoomsModel" "putOn" "[I") ∈ lw_all := lw_g (lw_at lw_m5 36 rfl) rfl
theorem q1045 : (Jvm.Cond.soleField "PalaceOfRoomsModel" "putOn") ∈ lw_all := lw_g (lw_at lw_m5 37 rfl) rfl
theorem q1046 : (Jvm.Cond.laysFinal "PalaceOfRoomsModel" "PalaceOfRoomsModel" "walkedOn" "[I") ∈ lw_all := lw_g (lw_at lw_m5 38 rfl) rfl
theorem q1047 : (Jvm.Cond.soleField "PalaceOfRoomsModel" "walkedOn") ∈ lw_all := lw_g (lw_at lw_m5 39 rfl) rfl
theorem q1048 : (Jvm.Cond.laysFinal "PalaceOfRoomsModel" "PalaceOfRoomsModel" "ahead" "[I") ∈ lw_all := lw_g (lw_at lw_m5 40 rfl) rfl
theorem q1049 : (Jvm.Cond.soleField "PalaceOfRoomsModel" "ahead") ∈ lw_all := lw_g (lw_at lw_m5 41 rfl) rfl
theorem q1050 : (Jvm.Cond.laysFinal "PalaceOfRoomsModel" "PalaceOfRoomsModel" "aheadFaint" "[I") ∈ lw_all := lw_g (lw_at lw_m5 42 rfl) rfl
theorem q1051 : (Jvm.Cond.soleField "PalaceOfRoomsModel" "aheadFaint") ∈ lw_all := lw_g (lw_at lw_m5 43 rfl) rfl
theorem q1052 : (Jvm.Cond.laysFinal "PalaceOfRoomsModel" "PalaceOfRoomsModel" "chosen" "[I") ∈ lw_all := lw_g (lw_at lw_m5 44 rfl) rfl
theorem q1053 : (Jvm.Cond.soleField "PalaceOfRoomsModel" "chosen") ∈ lw_all := lw_g (lw_at lw_m5 45 rfl) rfl
theorem q1054 : (Jvm.Cond.laysFinal "PalaceOfRoomsModel" "PalaceOfRoomsModel" "best" "[I") ∈ lw_all := lw_g (lw_at lw_m5 46 rfl) rfl
theorem q1055 : (Jvm.Cond.soleField "PalaceOfRoomsModel" "best") ∈ lw_all := lw_g (lw_at lw_m5 47 rfl) rfl
theorem q1056 : (Jvm.Cond.lays "PalaceOfRoomsModel" "PalaceOfRoomsModel" "bytes" "I") ∈ lw_all := lw_g (lw_at lw_m5 48 rfl) rfl
theorem q1057 : (Jvm.Cond.soleField "PalaceOfRoomsModel" "bytes") ∈ lw_all := lw_g (lw_at lw_m5 49 rfl) rfl
theorem q1058 : (Jvm.Cond.laysFinal "PalaceOfRoomsModel" "PalaceOfRoomsModel" "text" "[I") ∈ lw_all := lw_g (lw_at lw_m5 50 rfl) rfl
theorem q1059 : (Jvm.Cond.soleField "PalaceOfRoomsModel" "text") ∈ lw_all := lw_g (lw_at lw_m5 51 rfl) rfl
theorem q1060 : (Jvm.Cond.lays "PalaceOfRoomsModel" "PalaceOfRoomsModel" "position" "I") ∈ lw_all := lw_g (lw_at lw_m5 52 rfl) rfl
theorem q1061 : (Jvm.Cond.soleField "PalaceOfRoomsModel" "position") ∈ lw_all := lw_g (lw_at lw_m5 53 rfl) rfl
theorem q1062 : (Jvm.Cond.lays "PalaceOfRoomsModel" "PalaceOfRoomsModel" "tokenAt" "I") ∈ lw_all := lw_g (lw_at lw_m5 54 rfl) rfl
theorem q1063 : (Jvm.Cond.soleField "PalaceOfRoomsModel" "tokenAt") ∈ lw_all := lw_g (lw_at lw_m5 55 rfl) rfl
theorem q1064 : (Jvm.Cond.lays "PalaceOfRoomsModel" "PalaceOfRoomsModel" "token" "J") ∈ lw_all := lw_g (lw_at lw_m5 56 rfl) rfl
theorem q1065 : (Jvm.Cond.soleField "PalaceOfRoomsModel" "token") ∈ lw_all := lw_g (lw_at lw_m5 57 rfl) rfl
theorem q1066 : (Jvm.Cond.lays "PalaceOfRoomsModel" "PalaceOfRoomsModel" "digits" "I") ∈ lw_all := lw_g (lw_at lw_m5 58 rfl) rfl
theorem q1067 : (Jvm.Cond.soleField "PalaceOfRoomsModel" "digits") ∈ lw_all := lw_g (lw_at lw_m5 59 rfl) rfl
theorem q1068 : (Jvm.Cond.lays "PalaceOfRoomsModel" "PalaceOfRoomsModel" "number" "I") ∈ lw_all := lw_g (lw_at lw_m5 60 rfl) rfl
theorem q1069 : (Jvm.Cond.soleField "PalaceOfRoomsModel" "number") ∈ lw_all := lw_g (lw_at lw_m5 61 rfl) rfl
theorem q1070 : (Jvm.Cond.lays "PalaceOfRoomsModel" "PalaceOfRoomsModel" "faultAt" "I") ∈ lw_all := lw_g (lw_at lw_m5 62 rfl) rfl
theorem q1071 : (Jvm.Cond.soleField "PalaceOfRoomsModel" "faultAt") ∈ lw_all := lw_g (lw_at lw_m5 63 rfl) rfl
theorem q1072 : (Jvm.Cond.lays "PalaceOfRoomsModel" "PalaceOfRoomsModel" "readMany" "I") ∈ lw_all := lw_g (lw_at lw_m5 64 rfl) rfl
theorem q1073 : (Jvm.Cond.soleField "PalaceOfRoomsModel" "readMany") ∈ lw_all := lw_g (lw_at lw_m5 65 rfl) rfl
theorem q1074 : (Jvm.Cond.laysFinal "PalaceOfRoomsModel" "PalaceOfRoomsModel" "read" "[I") ∈ lw_all := lw_g (lw_at lw_m5 66 rfl) rfl
theorem q1075 : (Jvm.Cond.soleField "PalaceOfRoomsModel" "read") ∈ lw_all := lw_g (lw_at lw_m5 67 rfl) rfl
theorem q1076 : (Jvm.Cond.lays "PalaceOfRoomsModel" "PalaceOfRoomsModel" "lines" "I") ∈ lw_all := lw_g (lw_at lw_m5 68 rfl) rfl
theorem q1077 : (Jvm.Cond.soleField "PalaceOfRoomsModel" "lines") ∈ lw_all := lw_g (lw_at lw_m5 69 rfl) rfl
theorem q1078 : (Jvm.Cond.laysFinal "PalaceOfRoomsModel" "PalaceOfRoomsModel" "line" "[I") ∈ lw_all := lw_g (lw_at lw_m5 70 rfl) rfl
theorem q1079 : (Jvm.Cond.soleField "PalaceOfRoomsModel" "line") ∈ lw_all := lw_g (lw_at lw_m5 71 rfl) rfl
theorem q1080 : (Jvm.Cond.laysFinal "PalaceOfRoomsModel" "PalaceOfRoomsModel" "things" "[I") ∈ lw_all := lw_g (lw_at lw_m5 72 rfl) rfl
theorem q1081 : (Jvm.Cond.soleField "PalaceOfRoomsModel" "things") ∈ lw_all := lw_g (lw_at lw_m5 73 rfl) rfl
theorem q1082 : (Jvm.Cond.laysFinal "PalaceOfRoomsModel" "PalaceOfRoomsModel" "order" "[I") ∈ lw_all := lw_g (lw_at lw_m5 74 rfl) rfl
theorem q1083 : (Jvm.Cond.soleField "PalaceOfRoomsModel" "order") ∈ lw_all := lw_g (lw_at lw_m5 75 rfl) rfl
theorem q1084 : (Jvm.Cond.laysFinal "PalaceOfRoomsModel" "PalaceOfRoomsModel" "bestOrder" "[I") ∈ lw_all := lw_g (lw_at lw_m5 76 rfl) rfl
theorem q1085 : (Jvm.Cond.soleField "PalaceOfRoomsModel" "bestOrder") ∈ lw_all := lw_g (lw_at lw_m5 77 rfl) rfl
theorem q1086 : (Jvm.Cond.lays "PalaceOfRoomsModel" "PalaceOfRoomsModel" "bestSum" "I") ∈ lw_all := lw_g (lw_at lw_m5 78 rfl) rfl
theorem q1087 : (Jvm.Cond.soleField "PalaceOfRoomsModel" "bestSum") ∈ lw_all := lw_g (lw_at lw_m5 79 rfl) rfl
theorem q1088 : (Jvm.Cond.laysFinal "PalaceOfRoomsModel" "PalaceOfRoomsModel" "answers" "[I") ∈ lw_all := lw_g (lw_at lw_m5 80 rfl) rfl
theorem q1089 : (Jvm.Cond.soleField "PalaceOfRoomsModel" "answers") ∈ lw_all := lw_g (lw_at lw_m5 81 rfl) rfl
theorem q1090 : (Jvm.Cond.laysFinal "PalaceOfRoomsModel" "PalaceOfRoomsModel" "answerDay" "[I") ∈ lw_all := lw_g (lw_at lw_m5 82 rfl) rfl
theorem q1091 : (Jvm.Cond.soleField "PalaceOfRoomsModel" "answerDay") ∈ lw_all := lw_g (lw_at lw_m5 83 rfl) rfl
theorem q1092 : (Jvm.Cond.laysFinal "PalaceOfRoomsModel" "PalaceOfRoomsModel" "answerRight" "[Z") ∈ lw_all := lw_g (lw_at lw_m5 84 rfl) rfl
theorem q1093 : (Jvm.Cond.soleField "PalaceOfRoomsModel" "answerRight") ∈ lw_all := lw_g (lw_at lw_m5 85 rfl) rfl
theorem q1094 : (Jvm.Cond.laysFinal "PalaceOfRoomsModel" "PalaceOfRoomsModel" "alike" "[I") ∈ lw_all := lw_g (lw_at lw_m5 86 rfl) rfl
theorem q1095 : (Jvm.Cond.soleField "PalaceOfRoomsModel" "alike") ∈ lw_all := lw_g (lw_at lw_m5 87 rfl) rfl
theorem q1096 : (Jvm.Cond.superclass "PalaceOfRoomsModel" "java/lang/Object") ∈ lw_all := lw_g (lw_at lw_m5 88 rfl) rfl
theorem q1098 : (Jvm.Cond.instanceMethod ({ cls := "PalaceOfRoomsModel", name := "door", desc := "(II)I" } : Jvm.MethodName)) ∈ lw_all := lw_g (lw_at lw_m5 90 rfl) rfl
theorem q1099 : (Jvm.Cond.selects "PalaceOfRoomsModel" ({ cls := "PalaceOfRoomsModel", name := "door", desc := "(II)I" } : Jvm.MethodName) ({ cls := "PalaceOfRoomsModel", name := "door", desc := "(II)I" } : Jvm.MethodName)) ∈ lw_all := lw_g (lw_at lw_m5 91 rfl) rfl
theorem q1100 : (Jvm.Cond.code ({ cls := "PalaceOfRoomsModel", name := "door", desc := "(II)I" } : Jvm.MethodName) prog_18_method_8_code (3 : Nat) (Option.some Jvm.ClassFile.FieldType.int)) ∈ lw_all := lw_g (lw_at lw_m5 92 rfl) rfl
theorem q1101 : (Jvm.Cond.methodLink "PalaceOfRoomsModel" (100 : Nat) ({ cls := "PalaceOfRoomsModel", name := "isRoom", desc := "(I)Z" } : Jvm.MethodName)) ∈ lw_all := lw_g (lw_at lw_m5 93 rfl) rfl
theorem q1102 : (Jvm.Cond.static ({ cls := "PalaceOfRoomsModel", name := "isRoom", desc := "(I)Z" } : Jvm.MethodName)) ∈ lw_all := lw_g (lw_at lw_m5 94 rfl) rfl
theorem q1103 : (Jvm.Cond.code ({ cls := "PalaceOfRoomsModel", name := "isRoom", desc := "(I)Z" } : Jvm.MethodName) prog_18_method_3_code (1 : Nat) (Option.some Jvm.ClassFile.FieldType.boolean)) ∈ lw_all := lw_g (lw_at lw_m5 95 rfl) rfl
theorem q1104 : (Jvm.Cond.methodLink "PalaceOfRoomsModel" (93 : Nat) ({ cls := "PalaceOfRoomsModel", name := "in", desc := "(III)Z" } : Jvm.MethodName)) ∈ lw_all := lw_g (lw_at lw_m5 96 rfl) rfl
theorem q1105 : (Jvm.Cond.static ({ cls := "PalaceOfRoomsModel", name := "in", desc := "(III)Z" } : Jvm.MethodName)) ∈ lw_all := lw_g (lw_at lw_m5 97 rfl) rfl
theorem q1106 : (Jvm.Cond.code ({ cls := "PalaceOfRoomsModel", name := "in", desc := "(III)Z" } : Jvm.MethodName) prog_18_method_2_code (3 : Nat) (Option.some Jvm.ClassFile.FieldType.boolean)) ∈ lw_all := lw_g (lw_at lw_m5 98 rfl) rfl
theorem q1107 : (Jvm.Cond.methodLink "PalaceOfRoomsModel" (104 : Nat) ({ cls := "PalaceOfRoomsModel", name := "areJoined", desc := "(II)Z" } : Jvm.MethodName)) ∈ lw_all := lw_g (lw_at lw_m5 99 rfl) rfl
theorem q1108 : (Jvm.Cond.privateMethod ({ cls := "PalaceOfRoomsModel", name := "areJoined", desc := "(II)Z" } : Jvm.MethodName)) ∈ lw_tbl := lw_at lw_m5 100 rfl
theorem q1109 : (Jvm.Cond.instanceMethod ({ cls := "PalaceOfRoomsModel", name := "areJoined", desc := "(II)Z" } : Jvm.MethodName)) ∈ lw_all := lw_g (lw_at lw_m5 101 rfl) rfl
theorem q1110 : (Jvm.Cond.code ({ cls := "PalaceOfRoomsModel", name := "areJoined", desc := "(II)Z" } : Jvm.MethodName) prog_18_method_7_code (5 : Nat) (Option.some Jvm.ClassFile.FieldType.boolean)) ∈ lw_all := lw_g (lw_at lw_m5 102 rfl) rfl
theorem q1112 : (Jvm.Cond.instanceMethod ({ cls := "PalaceOfRoomsModel", name := "away", desc := "(II)I" } : Jvm.MethodName)) ∈ lw_all := lw_g (lw_at lw_m5 104 rfl) rfl
theorem q1113 : (Jvm.Cond.selects "PalaceOfRoomsModel" ({ cls := "PalaceOfRoomsModel", name := "away", desc := "(II)I" } : Jvm.MethodName) ({ cls := "PalaceOfRoomsModel", name := "away", desc := "(II)I" } : Jvm.MethodName)) ∈ lw_all := lw_g (lw_at lw_m5 105 rfl) rfl
theorem q1114 : (Jvm.Cond.code ({ cls := "PalaceOfRoomsModel", name := "away", desc := "(II)I" } : Jvm.MethodName) prog_18_method_10_code (3 : Nat) (Option.some Jvm.ClassFile.FieldType.int)) ∈ lw_all := lw_g (lw_at lw_m5 106 rfl) rfl
theorem q1115 : (Jvm.Cond.methodLink "PalaceOfRoomsModel" (108 : Nat) ({ cls := "PalaceOfRoomsModel", name := "doorsTo", desc := "(II)I" } : Jvm.MethodName)) ∈ lw_all := lw_g (lw_at lw_m5 107 rfl) rfl
theorem q1116 : (Jvm.Cond.privateMethod ({ cls := "PalaceOfRoomsModel", name := "doorsTo", desc := "(II)I" } : Jvm.MethodName)) ∈ lw_tbl := lw_at lw_m5 108 rfl
theorem q1117 : (Jvm.Cond.instanceMethod ({ cls := "PalaceOfRoomsModel", name := "doorsTo", desc := "(II)I" } : Jvm.MethodName)) ∈ lw_all := lw_g (lw_at lw_m5 109 rfl) rfl
theorem q1118 : (Jvm.Cond.code ({ cls := "PalaceOfRoomsModel", name := "doorsTo", desc := "(II)I" } : Jvm.MethodName) prog_18_method_9_code (7 : Nat) (Option.some Jvm.ClassFile.FieldType.int)) ∈ lw_all := lw_g (lw_at lw_m5 110 rfl) rfl
theorem q1120 : (Jvm.Cond.instanceMethod ({ cls := "PalaceOfRoomsModel", name := "marks", desc := "(II)I" } : Jvm.MethodName)) ∈ lw_all := lw_g (lw_at lw_m5 112 rfl) rfl
theorem q1121 : (Jvm.Cond.selects "PalaceOfRoomsModel" ({ cls := "PalaceOfRoomsModel", name := "marks", desc := "(II)I" } : Jvm.MethodName) ({ cls := "PalaceOfRoomsModel", name := "marks", desc := "(II)I" } : Jvm.MethodName)) ∈ lw_all := lw_g (lw_at lw_m5 113 rfl) rfl
theorem q1122 : (Jvm.Cond.code ({ cls := "PalaceOfRoomsModel", name := "marks", desc := "(II)I" } : Jvm.MethodName) prog_18_method_11_code (4 : Nat) (Option.some Jvm.ClassFile.FieldType.int)) ∈ lw_all := lw_g (lw_at lw_m5 114 rfl) rfl
theorem q1123 : (Jvm.Cond.methodLink "PalaceOfRoomsModel" (112 : Nat) ({ cls := "PalaceOfRoomsModel", name := "isThing", desc := "(I)Z" } : Jvm.MethodName)) ∈ lw_all := lw_g (lw_at lw_m5 115 rfl) rfl
theorem q1124 : (Jvm.Cond.static ({ cls := "PalaceOfRoomsModel", name := "isThing", desc := "(I)Z" } : Jvm.MethodName)) ∈ lw_all := lw_g (lw_at lw_m5 116 rfl) rfl
theorem q1125 : (Jvm.Cond.code ({ cls := "PalaceOfRoomsModel", name := "isThing", desc := "(I)Z" } : Jvm.MethodName) prog_18_method_5_code (1 : Nat) (Option.some Jvm.ClassFile.FieldType.boolean)) ∈ lw_all := lw_g (lw_at lw_m5 117 rfl) rfl
theorem q1127 : (Jvm.Cond.instanceMethod ({ cls := "PalaceOfRoomsModel", name := "like", desc := "(II)I" } : Jvm.MethodName)) ∈ lw_all := lw_g (lw_at lw_m5 119 rfl) rfl
theorem q1128 : (Jvm.Cond.selects "PalaceOfRoomsModel" ({ cls := "PalaceOfRoomsModel", name := "like", desc := "(II)I" } : Jvm.MethodName) ({ cls := "PalaceOfRoomsModel", name := "like", desc := "(II)I" } : Jvm.MethodName)) ∈ lw_all := lw_g (lw_at lw_m5 120 rfl) rfl
theorem q1129 : (Jvm.Cond.code ({ cls := "PalaceOfRoomsModel", name := "like", desc := "(II)I" } : Jvm.MethodName) prog_18_method_12_code (3 : Nat) (Option.some Jvm.ClassFile.FieldType.int)) ∈ lw_all := lw_g (lw_at lw_m5 121 rfl) rfl
theorem q1130 : (Jvm.Cond.methodLink "PalaceOfRoomsModel" (115 : Nat) ({ cls := "PalaceOfRoomsModel", name := "likeness", desc := "(II)I" } : Jvm.MethodName)) ∈ lw_all := lw_g (lw_at lw_m5 122 rfl) rfl
theorem q1131 : (Jvm.Cond.privateMethod ({ cls := "PalaceOfRoomsModel", name := "likeness", desc := "(II)I" } : Jvm.MethodName)) ∈ lw_tbl := lw_at lw_m5 123 rfl
theorem q1132 : (Jvm.Cond.instanceMethod ({ cls := "PalaceOfRoomsModel", name := "likeness", desc := "(II)I" } : Jvm.MethodName)) ∈ lw_all := lw_g (lw_at lw_m5 124 rfl) rfl
theorem q1133 : (Jvm.Cond.code ({ cls := "PalaceOfRoomsModel", name := "likeness", desc := "(II)I" } : Jvm.MethodName) prog_18_method_6_code (6 : Nat) (Option.some Jvm.ClassFile.FieldType.int)) ∈ lw_all := lw_g (lw_at lw_m5 125 rfl) rfl
theorem q1135 : (Jvm.Cond.instanceMethod ({ cls := "PalaceOfRoomsModel", name := "set", desc := "(II)I" } : Jvm.MethodName)) ∈ lw_all := lw_g (lw_at lw_m5 127 rfl) rfl
theorem q1136 : (Jvm.Cond.selects "PalaceOfRoomsModel" ({ cls := "PalaceOfRoomsModel", name := "set", desc := "(II)I" } : Jvm.MethodName) ({ cls := "PalaceOfRoomsModel", name := "set", desc := "(II)I" } : Jvm.MethodName)) ∈ lw_all := lw_g (lw_at lw_m5 128 rfl) rfl
theorem q1137 : (Jvm.Cond.code ({ cls := "PalaceOfRoomsModel", name := "set", desc := "(II)I" } : Jvm.MethodName) prog_18_method_13_code (4 : Nat) (Option.some Jvm.ClassFile.FieldType.int)) ∈ lw_all := lw_g (lw_at lw_m5 129 rfl) rfl
theorem q1139 : (Jvm.Cond.instanceMethod ({ cls := "PalaceOfRoomsModel", name := "fall", desc := "(II)I" } : Jvm.MethodName)) ∈ lw_all := lw_g (lw_at lw_m5 131 rfl) rfl
theorem q1140 : (Jvm.Cond.selects "PalaceOfRoomsModel" ({ cls := "PalaceOfRoomsModel", name := "fall", desc := "(II)I" } : Jvm.MethodName) ({ cls := "PalaceOfRoomsModel", name := "fall", desc := "(II)I" } : Jvm.MethodName)) ∈ lw_all := lw_g (lw_at lw_m5 132 rfl) rfl
theorem q1141 : (Jvm.Cond.code ({ cls := "PalaceOfRoomsModel", name := "fall", desc := "(II)I" } : Jvm.MethodName) prog_18_method_14_code (4 : Nat) (Option.some Jvm.ClassFile.FieldType.int)) ∈ lw_all := lw_g (lw_at lw_m5 133 rfl) rfl
theorem q1143 : (Jvm.Cond.instanceMethod ({ cls := "PalaceOfRoomsModel", name := "put", desc := "(II)I" } : Jvm.MethodName)) ∈ lw_all := lw_g (lw_at lw_m5 135 rfl) rfl
theorem q1144 : (Jvm.Cond.selects "PalaceOfRoomsModel" ({ cls := "PalaceOfRoomsModel", name := "put", desc := "(II)I" } : Jvm.MethodName) ({ cls := "PalaceOfRoomsModel", name := "put", desc := "(II)I" } : Jvm.MethodName)) ∈ lw_all := lw_g (lw_at lw_m5 136 rfl) rfl
theorem q1145 : (Jvm.Cond.code ({ cls := "PalaceOfRoomsModel", name := "put", desc := "(II)I" } : Jvm.MethodName) prog_18_method_16_code (5 : Nat) (Option.some Jvm.ClassFile.FieldType.int)) ∈ lw_all := lw_g (lw_at lw_m5 137 rfl) rfl
theorem q1146 : (Jvm.Cond.methodLink "PalaceOfRoomsModel" (118 : Nat) ({ cls := "PalaceOfRoomsModel", name := "isCorner", desc := "(I)Z" } : Jvm.MethodName)) ∈ lw_all := lw_g (lw_at lw_m5 138 rfl) rfl
theorem q1147 : (Jvm.Cond.static ({ cls := "PalaceOfRoomsModel", name := "isCorner", desc := "(I)Z" } : Jvm.MethodName)) ∈ lw_all := lw_g (lw_at lw_m5 139 rfl) rfl
theorem q1148 : (Jvm.Cond.code ({ cls := "PalaceOfRoomsModel", name := "isCorner", desc := "(I)Z" } : Jvm.MethodName) prog_18_method_4_code (1 : Nat) (Option.some Jvm.ClassFile.FieldType.boolean)) ∈ lw_all := lw_g (lw_at lw_m5 140 rfl) rfl
theorem q1149 : (Jvm.Cond.methodLink "PalaceOfRoomsModel" (121 : Nat) ({ cls := "PalaceOfRoomsModel", name := "cornerOf", desc := "(I)I" } : Jvm.MethodName)) ∈ lw_all := lw_g (lw_at lw_m5 141 rfl) rfl
theorem q1150 : (Jvm.Cond.privateMethod ({ cls := "PalaceOfRoomsModel", name := "cornerOf", desc := "(I)I" } : Jvm.MethodName)) ∈ lw_tbl := lw_at lw_m5 142 rfl
theorem q1151 : (Jvm.Cond.instanceMethod ({ cls := "PalaceOfRoomsModel", name := "cornerOf", desc := "(I)I" } : Jvm.MethodName)) ∈ lw_all := lw_g (lw_at lw_m5 143 rfl) rfl
theorem q1152 : (Jvm.Cond.code ({ cls := "PalaceOfRoomsModel", name := "cornerOf", desc := "(I)I" } : Jvm.MethodName) prog_18_method_15_code (4 : Nat) (Option.some Jvm.ClassFile.FieldType.int)) ∈ lw_all := lw_g (lw_at lw_m5 144 rfl) rfl
theorem q1154 : (Jvm.Cond.instanceMethod ({ cls := "PalaceOfRoomsModel", name := "clear", desc := "(I)I" } : Jvm.MethodName)) ∈ lw_all := lw_g (lw_at lw_m5 146 rfl) rfl
theorem q1155 : (Jvm.Cond.selects "PalaceOfRoomsModel" ({ cls := "PalaceOfRoomsModel", name := "clear", desc := "(I)I" } : Jvm.MethodName) ({ cls := "PalaceOfRoomsModel", name := "clear", desc := "(I)I" } : Jvm.MethodName)) ∈ lw_all := lw_g (lw_at lw_m5 147 rfl) rfl
theorem q1156 : (Jvm.Cond.code ({ cls := "PalaceOfRoomsModel", name := "clear", desc := "(I)I" } : Jvm.MethodName) prog_18_method_17_code (3 : Nat) (Option.some Jvm.ClassFile.FieldType.int)) ∈ lw_all := lw_g (lw_at lw_m5 148 rfl) rfl
theorem q1158 : (Jvm.Cond.instanceMethod ({ cls := "PalaceOfRoomsModel", name := "corner", desc := "(II)I" } : Jvm.MethodName)) ∈ lw_all := lw_g (lw_at lw_m5 150 rfl) rfl
theorem q1159 : (Jvm.Cond.selects "PalaceOfRoomsModel" ({ cls := "PalaceOfRoomsModel", name := "corner", desc := "(II)I" } : Jvm.MethodName) ({ cls := "PalaceOfRoomsModel", name := "corner", desc := "(II)I" } : Jvm.MethodName)) ∈ lw_all := lw_g (lw_at lw_m5 151 rfl) rfl
theorem q1160 : (Jvm.Cond.code ({ cls := "PalaceOfRoomsModel", name := "corner", desc := "(II)I" } : Jvm.MethodName) prog_18_method_18_code (3 : Nat) (Option.some Jvm.ClassFile.FieldType.int)) ∈ lw_all := lw_g (lw_at lw_m5 152 rfl) rfl
theorem q1162 : (Jvm.Cond.instanceMethod ({ cls := "PalaceOfRoomsModel", name := "where", desc := "(I)I" } : Jvm.MethodName)) ∈ lw_all := lw_g (lw_at lw_m5 154 rfl) rfl
theorem q1163 : (Jvm.Cond.selects "PalaceOfRoomsModel" ({ cls := "PalaceOfRoomsModel", name := "where", desc := "(I)I" } : Jvm.MethodName) ({ cls := "PalaceOfRoomsModel", name := "where", desc := "(I)I" } : Jvm.MethodName)) ∈ lw_all := lw_g (lw_at lw_m5 155 rfl) rfl
theorem q1164 : (Jvm.Cond.code ({ cls := "PalaceOfRoomsModel", name := "where", desc := "(I)I" } : Jvm.MethodName) prog_18_method_19_code (2 : Nat) (Option.some Jvm.ClassFile.FieldType.int)) ∈ lw_all := lw_g (lw_at lw_m5 156 rfl) rfl
theorem q1166 : (Jvm.Cond.instanceMethod ({ cls := "PalaceOfRoomsModel", name := "days", desc := "(I)I" } : Jvm.MethodName)) ∈ lw_all := lw_g (lw_at lw_m5 158 rfl) rfl
theorem q1167 : (Jvm.Cond.selects "PalaceOfRoomsModel" ({ cls := "PalaceOfRoomsModel", name := "days", desc := "(I)I" } : Jvm.MethodName) ({ cls := "PalaceOfRoomsModel", name := "days", desc := "(I)I" } : Jvm.MethodName)) ∈ lw_all := lw_g (lw_at lw_m5 159 rfl) rfl
theorem q1168 : (Jvm.Cond.code ({ cls := "PalaceOfRoomsModel", name := "days", desc := "(I)I" } : Jvm.MethodName) prog_18_method_23_code (3 : Nat) (Option.some Jvm.ClassFile.FieldType.int)) ∈ lw_all := lw_g (lw_at lw_m5 160 rfl) rfl
theorem q1169 : (Jvm.Cond.methodLink "PalaceOfRoomsModel" (131 : Nat) ({ cls := "PalaceOfRoomsModel", name := "lookAhead", desc := "()V" } : Jvm.MethodName)) ∈ lw_all := lw_g (lw_at lw_m5 161 rfl) rfl
theorem q1170 : (Jvm.Cond.privateMethod ({ cls := "PalaceOfRoomsModel", name := "lookAhead", desc := "()V" } : Jvm.MethodName)) ∈ lw_tbl := lw_at lw_m5 162 rfl
theorem q1171 : (Jvm.Cond.instanceMethod ({ cls := "PalaceOfRoomsModel", name := "lookAhead", desc := "()V" } : Jvm.MethodName)) ∈ lw_all := lw_g (lw_at lw_m5 163 rfl) rfl
theorem q1172 : (Jvm.Cond.code ({ cls := "PalaceOfRoomsModel", name := "lookAhead", desc := "()V" } : Jvm.MethodName) prog_18_method_22_code (2 : Nat) (Option.none : Option Jvm.ClassFile.FieldType)) ∈ lw_all := lw_g (lw_at lw_m5 164 rfl) rfl
theorem q1173 : (Jvm.Cond.methodLink "PalaceOfRoomsModel" (134 : Nat) ({ cls := "PalaceOfRoomsModel", name := "goDay", desc := "(II)V" } : Jvm.MethodName)) ∈ lw_all := lw_g (lw_at lw_m5 165 rfl) rfl
theorem q1174 : (Jvm.Cond.privateMethod ({ cls := "PalaceOfRoomsModel", name := "goDay", desc := "(II)V" } : Jvm.MethodName)) ∈ lw_tbl := lw_at lw_m5 166 rfl
theorem q1175 : (Jvm.Cond.instanceMethod ({ cls := "PalaceOfRoomsModel", name := "goDay", desc := "(II)V" } : Jvm.MethodName)) ∈ lw_all := lw_g (lw_at lw_m5 167 rfl) rfl
theorem q1176 : (Jvm.Cond.code ({ cls := "PalaceOfRoomsModel", name := "goDay", desc := "(II)V" } : Jvm.MethodName) prog_18_method_21_code (6 : Nat) (Option.none : Option Jvm.ClassFile.FieldType)) ∈ lw_all := lw_g (lw_at lw_m5 168 rfl) rfl
theorem q1177 : (Jvm.Cond.methodLink "PalaceOfRoomsModel" (128 : Nat) ({ cls := "PalaceOfRoomsModel", name := "likeBeside", desc := "(I)I" } : Jvm.MethodName)) ∈ lw_all := lw_g (lw_at lw_m5 169 rfl) rfl
theorem q1178 : (Jvm.Cond.privateMethod ({ cls := "PalaceOfRoomsModel", name := "likeBeside", desc := "(I)I" } : Jvm.MethodName)) ∈ lw_tbl := lw_at lw_m5 170 rfl
theorem q1179 : (Jvm.Cond.instanceMethod ({ cls := "PalaceOfRoomsModel", name := "likeBeside", desc := "(I)I" } : Jvm.MethodName)) ∈ lw_all := lw_g (lw_at lw_m5 171 rfl) rfl
theorem q1180 : (Jvm.Cond.code ({ cls := "PalaceOfRoomsModel", name := "likeBeside", desc := "(I)I" } : Jvm.MethodName) prog_18_method_20_code (4 : Nat) (Option.some Jvm.ClassFile.FieldType.int)) ∈ lw_all := lw_g (lw_at lw_m5 172 rfl) rfl
theorem q1182 : (Jvm.Cond.instanceMethod ({ cls := "PalaceOfRoomsModel", name := "walk", desc := "(I)I" } : Jvm.MethodName)) ∈ lw_all := lw_g (lw_at lw_m5 174 rfl) rfl
theorem q1183 : (Jvm.Cond.selects "PalaceOfRoomsModel" ({ cls := "PalaceOfRoomsModel", name := "walk", desc := "(I)I" } : Jvm.MethodName) ({ cls := "PalaceOfRoomsModel", name := "walk", desc := "(I)I" } : Jvm.MethodName)) ∈ lw_all := lw_g (lw_at lw_m5 175 rfl) rfl
theorem q1184 : (Jvm.Cond.code ({ cls := "PalaceOfRoomsModel", name := "walk", desc := "(I)I" } : Jvm.MethodName) prog_18_method_25_code (4 : Nat) (Option.some Jvm.ClassFile.FieldType.int)) ∈ lw_all := lw_g (lw_at lw_m5 176 rfl) rfl
theorem q1185 : (Jvm.Cond.methodLink "PalaceOfRoomsModel" (138 : Nat) ({ cls := "PalaceOfRoomsModel", name := "goWalk", desc := "(II)I" } : Jvm.MethodName)) ∈ lw_all := lw_g (lw_at lw_m5 177 rfl) rfl
theorem q1186 : (Jvm.Cond.privateMethod ({ cls := "PalaceOfRoomsModel", name := "goWalk", desc := "(II)I" } : Jvm.MethodName)) ∈ lw_tbl := lw_at lw_m5 178 rfl
theorem q1187 : (Jvm.Cond.instanceMethod ({ cls := "PalaceOfRoomsModel", name := "goWalk", desc := "(II)I" } : Jvm.MethodName)) ∈ lw_all := lw_g (lw_at lw_m5 179 rfl) rfl
theorem q1188 : (Jvm.Cond.code ({ cls := "PalaceOfRoomsModel", name := "goWalk", desc := "(II)I" } : Jvm.MethodName) prog_18_method_24_code (6 : Nat) (Option.some Jvm.ClassFile.FieldType.int)) ∈ lw_all := lw_g (lw_at lw_m5 180 rfl) rfl
theorem q1190 : (Jvm.Cond.instanceMethod ({ cls := "PalaceOfRoomsModel", name := "write", desc := "(JI)I" } : Jvm.MethodName)) ∈ lw_all := lw_g (lw_at lw_m5 182 rfl) rfl
theorem q1191 : (Jvm.Cond.selects "PalaceOfRoomsModel" ({ cls := "PalaceOfRoomsModel", name := "write", desc := "(JI)I" } : Jvm.MethodName) ({ cls := "PalaceOfRoomsModel", name := "write", desc := "(JI)I" } : Jvm.MethodName)) ∈ lw_all := lw_g (lw_at lw_m5 183 rfl) rfl
theorem q1192 : (Jvm.Cond.code ({ cls := "PalaceOfRoomsModel", name := "write", desc := "(JI)I" } : Jvm.MethodName) prog_18_method_26_code (5 : Nat) (Option.some Jvm.ClassFile.FieldType.int)) ∈ lw_all := lw_g (lw_at lw_m5 184 rfl) rfl
theorem q1193 : (Jvm.Cond.constantLong "PalaceOfRoomsModel" (144 : Nat) (255 : Int64)) ∈ lw_all := lw_g (lw_at lw_m5 185 rfl) rfl
theorem q1195 : (Jvm.Cond.instanceMethod ({ cls := "PalaceOfRoomsModel", name := "erase", desc := "()I" } : Jvm.MethodName)) ∈ lw_all := lw_g (lw_at lw_m5 187 rfl) rfl
theorem q1196 : (Jvm.Cond.selects "PalaceOfRoomsModel" ({ cls := "PalaceOfRoomsModel", name := "erase", desc := "()I" } : Jvm.MethodName) ({ cls := "PalaceOfRoomsModel", name := "erase", desc := "()I" } : Jvm.MethodName)) ∈ lw_all := lw_g (lw_at lw_m5 188 rfl) rfl
theorem q1197 : (Jvm.Cond.code ({ cls := "PalaceOfRoomsModel", name := "erase", desc := "()I" } : Jvm.MethodName) prog_18_method_27_code (2 : Nat) (Option.some Jvm.ClassFile.FieldType.int)) ∈ lw_all := lw_g (lw_at lw_m5 189 rfl) rfl
theorem q1199 : (Jvm.Cond.instanceMethod ({ cls := "PalaceOfRoomsModel", name := "fault", desc := "()I" } : Jvm.MethodName)) ∈ lw_all := lw_g (lw_at lw_m5 191 rfl) rfl
theorem q1200 : (Jvm.Cond.selects "PalaceOfRoomsModel" ({ cls := "PalaceOfRoomsModel", name := "fault", desc := "()I" } : Jvm.MethodName) ({ cls := "PalaceOfRoomsModel", name := "fault", desc := "()I" } : Jvm.MethodName)) ∈ lw_all := lw_g (lw_at lw_m5 192 rfl) rfl
theorem q1201 : (Jvm.Cond.code ({ cls := "PalaceOfRoomsModel", name := "fault", desc := "()I" } : Jvm.MethodName) prog_18_method_34_code (1 : Nat) (Option.some Jvm.ClassFile.FieldType.int)) ∈ lw_all := lw_g (lw_at lw_m5 193 rfl) rfl
theorem q1202 : (Jvm.Cond.methodLink "PalaceOfRoomsModel" (207 : Nat) ({ cls := "PalaceOfRoomsModel", name := "isRead", desc := "()Z" } : Jvm.MethodName)) ∈ lw_all := lw_g (lw_at lw_m5 194 rfl) rfl
theorem q1203 : (Jvm.Cond.privateMethod ({ cls := "PalaceOfRoomsModel", name := "isRead", desc := "()Z" } : Jvm.MethodName)) ∈ lw_tbl := lw_at lw_m5 195 rfl
theorem q1204 : (Jvm.Cond.instanceMethod ({ cls := "PalaceOfRoomsModel", name := "isRead", desc := "()Z" } : Jvm.MethodName)) ∈ lw_all := lw_g (lw_at lw_m5 196 rfl) rfl
theorem q1205 : (Jvm.Cond.code ({ cls := "PalaceOfRoomsModel", name := "isRead", desc := "()Z" } : Jvm.MethodName) prog_18_method_33_code (2 : Nat) (Option.some Jvm.ClassFile.FieldType.boolean)) ∈ lw_all := lw_g (lw_at lw_m5 197 rfl) rfl
theorem q1206 : (Jvm.Cond.methodLink "PalaceOfRoomsModel" (204 : Nat) ({ cls := "PalaceOfRoomsModel", name := "isLine", desc := "(I)Z" } : Jvm.MethodName)) ∈ lw_all := lw_g (lw_at lw_m5 198 rfl) rfl
theorem q1207 : (Jvm.Cond.privateMethod ({ cls := "PalaceOfRoomsModel", name := "isLine", desc := "(I)Z" } : Jvm.MethodName)) ∈ lw_tbl := lw_at lw_m5 199 rfl
theorem q1208 : (Jvm.Cond.instanceMethod ({ cls := "PalaceOfRoomsModel", name := "isLine", desc := "(I)Z" } : Jvm.MethodName)) ∈ lw_all := lw_g (lw_at lw_m5 200 rfl) rfl
theorem q1209 : (Jvm.Cond.code ({ cls := "PalaceOfRoomsModel", name := "isLine", desc := "(I)Z" } : Jvm.MethodName) prog_18_method_32_code (2 : Nat) (Option.some Jvm.ClassFile.FieldType.boolean)) ∈ lw_all := lw_g (lw_at lw_m5 201 rfl) rfl
theorem q1210 : (Jvm.Cond.methodLink "PalaceOfRoomsModel" (177 : Nat) ({ cls := "PalaceOfRoomsModel", name := "nextToken", desc := "()V" } : Jvm.MethodName)) ∈ lw_all := lw_g (lw_at lw_m5 202 rfl) rfl
theorem q1211 : (Jvm.Cond.privateMethod ({ cls := "PalaceOfRoomsModel", name := "nextToken", desc := "()V" } : Jvm.MethodName)) ∈ lw_tbl := lw_at lw_m5 203 rfl
theorem q1212 : (Jvm.Cond.instanceMethod ({ cls := "PalaceOfRoomsModel", name := "nextToken", desc := "()V" } : Jvm.MethodName)) ∈ lw_all := lw_g (lw_at lw_m5 204 rfl) rfl
theorem q1213 : (Jvm.Cond.code ({ cls := "PalaceOfRoomsModel", name := "nextToken", desc := "()V" } : Jvm.MethodName) prog_18_method_28_code (1 : Nat) (Option.none : Option Jvm.ClassFile.FieldType)) ∈ lw_all := lw_g (lw_at lw_m5 205 rfl) rfl
theorem q1214 : (Jvm.Cond.constantLong "PalaceOfRoomsModel" (158 : Nat) (-2 : Int64)) ∈ lw_all := lw_g (lw_at lw_m5 206 rfl) rfl
theorem q1215 : (Jvm.Cond.constantLong "PalaceOfRoomsModel" (164 : Nat) (27 : Int64)) ∈ lw_all := lw_g (lw_at lw_m5 207 rfl) rfl
theorem q1216 : (Jvm.Cond.constantLong "PalaceOfRoomsModel" (166 : Nat) (96 : Int64)) ∈ lw_all := lw_g (lw_at lw_m5 208 rfl) rfl
theorem q1217 : (Jvm.Cond.constantLong "PalaceOfRoomsModel" (168 : Nat) (-4 : Int64)) ∈ lw_all := lw_g (lw_at lw_m5 209 rfl) rfl
theorem q1218 : (Jvm.Cond.constantLong "PalaceOfRoomsModel" (170 : Nat) (-1 : Int64)) ∈ lw_all := lw_g (lw_at lw_m5 210 rfl) rfl
theorem q1219 : (Jvm.Cond.constantLong "PalaceOfRoomsModel" (172 : Nat) (-3 : Int64)) ∈ lw_all := lw_g (lw_at lw_m5 211 rfl) rfl
theorem q1220 : (Jvm.Cond.constantLong "PalaceOfRoomsModel" (184 : Nat) (365647 : Int64)) ∈ lw_all := lw_g (lw_at lw_m5 212 rfl) rfl
theorem q1221 : (Jvm.Cond.constantLong "PalaceOfRoomsModel" (186 : Nat) (670208 : Int64)) ∈ lw_all := lw_g (lw_at lw_m5 213 rfl) rfl
theorem q1222 : (Jvm.Cond.constantLong "PalaceOfRoomsModel" (188 : Nat) (847604 : Int64)) ∈ lw_all := lw_g (lw_at lw_m5 214 rfl) rfl
theorem q1223 : (Jvm.Cond.constantLong "PalaceOfRoomsModel" (190 : Nat) (453773 : Int64)) ∈ lw_all := lw_g (lw_at lw_m5 215 rfl) rfl
theorem q1224 : (Jvm.Cond.methodLink "PalaceOfRoomsModel" (192 : Nat) ({ cls := "PalaceOfRoomsModel", name := "isNumber", desc := "(III)Z" } : Jvm.MethodName)) ∈ lw_all := lw_g (lw_at lw_m5 216 rfl) rfl
theorem q1225 : (Jvm.Cond.privateMethod ({ cls := "PalaceOfRoomsModel", name := "isNumber", desc := "(III)Z" } : Jvm.MethodName)) ∈ lw_tbl := lw_at lw_m5 217 rfl
theorem q1226 : (Jvm.Cond.instanceMethod ({ cls := "PalaceOfRoomsModel", name := "isNumber", desc := "(III)Z" } : Jvm.MethodName)) ∈ lw_all := lw_g (lw_at lw_m5 218 rfl) rfl
theorem q1227 : (Jvm.Cond.code ({ cls := "PalaceOfRoomsModel", name := "isNumber", desc := "(III)Z" } : Jvm.MethodName) prog_18_method_30_code (4 : Nat) (Option.some Jvm.ClassFile.FieldType.boolean)) ∈ lw_all := lw_g (lw_at lw_m5 219 rfl) rfl
theorem q1228 : (Jvm.Cond.methodLink "PalaceOfRoomsModel" (180 : Nat) ({ cls := "PalaceOfRoomsModel", name := "fails", desc := "()Z" } : Jvm.MethodName)) ∈ lw_all := lw_g (lw_at lw_m5 220 rfl) rfl
theorem q1229 : (Jvm.Cond.privateMethod ({ cls := "PalaceOfRoomsModel", name := "fails", desc := "()Z" } : Jvm.MethodName)) ∈ lw_tbl := lw_at lw_m5 221 rfl
theorem q1230 : (Jvm.Cond.instanceMethod ({ cls := "PalaceOfRoomsModel", name := "fails", desc := "()Z" } : Jvm.MethodName)) ∈ lw_all := lw_g (lw_at lw_m5 222 rfl) rfl
theorem q1231 : (Jvm.Cond.code ({ cls := "PalaceOfRoomsModel", name := "fails", desc := "()Z" } : Jvm.MethodName) prog_18_method_29_code (1 : Nat) (Option.some Jvm.ClassFile.FieldType.boolean)) ∈ lw_all := lw_g (lw_at lw_m5 223 rfl) rfl
theorem q1232 : (Jvm.Cond.constantLong "PalaceOfRoomsModel" (195 : Nat) (3094387 : Int64)) ∈ lw_all := lw_g (lw_at lw_m5 224 rfl) rfl
theorem q1233 : (Jvm.Cond.methodLink "PalaceOfRoomsModel" (197 : Nat) ({ cls := "PalaceOfRoomsModel", name := "isWord", desc := "(J)Z" } : Jvm.MethodName)) ∈ lw_all := lw_g (lw_at lw_m5 225 rfl) rfl
theorem q1234 : (Jvm.Cond.privateMethod ({ cls := "PalaceOfRoomsModel", name := "isWord", desc := "(J)Z" } : Jvm.MethodName)) ∈ lw_tbl := lw_at lw_m5 226 rfl
theorem q1235 : (Jvm.Cond.instanceMethod ({ cls := "PalaceOfRoomsModel", name := "isWord", desc := "(J)Z" } : Jvm.MethodName)) ∈ lw_all := lw_g (lw_at lw_m5 227 rfl) rfl
theorem q1236 : (Jvm.Cond.code ({ cls := "PalaceOfRoomsModel", name := "isWord", desc := "(J)Z" } : Jvm.MethodName) prog_18_method_31_code (3 : Nat) (Option.some Jvm.ClassFile.FieldType.boolean)) ∈ lw_all := lw_g (lw_at lw_m5 228 rfl) rfl
theorem q1238 : (Jvm.Cond.instanceMethod ({ cls := "PalaceOfRoomsModel", name := "rules", desc := "()I" } : Jvm.MethodName)) ∈ lw_all := lw_g (lw_at lw_m5 230 rfl) rfl
theorem q1239 : (Jvm.Cond.selects "PalaceOfRoomsModel" ({ cls := "PalaceOfRoomsModel", name := "rules", desc := "()I" } : Jvm.MethodName) ({ cls := "PalaceOfRoomsModel", name := "rules", desc := "()I" } : Jvm.MethodName)) ∈ lw_all := lw_g (lw_at lw_m5 231 rfl) rfl
theorem q1240 : (Jvm.Cond.code ({ cls := "PalaceOfRoomsModel", name := "rules", desc := "()I" } : Jvm.MethodName) prog_18_method_35_code (2 : Nat) (Option.some Jvm.ClassFile.FieldType.int)) ∈ lw_all := lw_g (lw_at lw_m5 232 rfl) rfl
theorem q1242 : (Jvm.Cond.instanceMethod ({ cls := "PalaceOfRoomsModel", name := "bars", desc := "(II)I" } : Jvm.MethodName)) ∈ lw_all := lw_g (lw_at lw_m5 234 rfl) rfl
theorem q1243 : (Jvm.Cond.selects "PalaceOfRoomsModel" ({ cls := "PalaceOfRoomsModel", name := "bars", desc := "(II)I" } : Jvm.MethodName) ({ cls := "PalaceOfRoomsModel", name := "bars", desc := "(II)I" } : Jvm.MethodName)) ∈ lw_all := lw_g (lw_at lw_m5 235 rfl) rfl
theorem q1244 : (Jvm.Cond.code ({ cls := "PalaceOfRoomsModel", name := "bars", desc := "(II)I" } : Jvm.MethodName) prog_18_method_39_code (6 : Nat) (Option.some Jvm.ClassFile.FieldType.int)) ∈ lw_all := lw_g (lw_at lw_m5 236 rfl) rfl
theorem q1245 : (Jvm.Cond.methodLink "PalaceOfRoomsModel" (213 : Nat) ({ cls := "PalaceOfRoomsModel", name := "standIn", desc := "(I)I" } : Jvm.MethodName)) ∈ lw_all := lw_g (lw_at lw_m5 237 rfl) rfl
theorem q1246 : (Jvm.Cond.privateMethod ({ cls := "PalaceOfRoomsModel", name := "standIn", desc := "(I)I" } : Jvm.MethodName)) ∈ lw_tbl := lw_at lw_m5 238 rfl
theorem q1247 : (Jvm.Cond.instanceMethod ({ cls := "PalaceOfRoomsModel", name := "standIn", desc := "(I)I" } : Jvm.MethodName)) ∈ lw_all := lw_g (lw_at lw_m5 239 rfl) rfl
theorem q1248 : (Jvm.Cond.code ({ cls := "PalaceOfRoomsModel", name := "standIn", desc := "(I)I" } : Jvm.MethodName) prog_18_method_37_code (4 : Nat) (Option.some Jvm.ClassFile.FieldType.int)) ∈ lw_all := lw_g (lw_at lw_m6 0 rfl) rfl
theorem q1249 : (Jvm.Cond.methodLink "PalaceOfRoomsModel" (216 : Nat) ({ cls := "PalaceOfRoomsModel", name := "lastOf", desc := "(III)I" } : Jvm.MethodName)) ∈ lw_all := lw_g (lw_at lw_m6 1 rfl) rfl
theorem q1250 : (Jvm.Cond.privateMethod ({ cls := "PalaceOfRoomsModel", name := "lastOf", desc := "(III)I" } : Jvm.MethodName)) ∈ lw_tbl := lw_at lw_m6 2 rfl
theorem q1251 : (Jvm.Cond.instanceMethod ({ cls := "PalaceOfRoomsModel", name := "lastOf", desc := "(III)I" } : Jvm.MethodName)) ∈ lw_all := lw_g (lw_at lw_m6 3 rfl) rfl
theorem q1252 : (Jvm.Cond.code ({ cls := "PalaceOfRoomsModel", name := "lastOf", desc := "(III)I" } : Jvm.MethodName) prog_18_method_36_code (6 : Nat) (Option.some Jvm.ClassFile.FieldType.int)) ∈ lw_all := lw_g (lw_at lw_m6 4 rfl) rfl
theorem q1253 : (Jvm.Cond.methodLink "PalaceOfRoomsModel" (220 : Nat) ({ cls := "PalaceOfRoomsModel", name := "isTooLike", desc := "(III)Z" } : Jvm.MethodName)) ∈ lw_all := lw_g (lw_at lw_m6 5 rfl) rfl
theorem q1254 : (Jvm.Cond.privateMethod ({ cls := "PalaceOfRoomsModel", name := "isTooLike", desc := "(III)Z" } : Jvm.MethodName)) ∈ lw_tbl := lw_at lw_m6 6 rfl
theorem q1255 : (Jvm.Cond.instanceMethod ({ cls := "PalaceOfRoomsModel", name := "isTooLike", desc := "(III)Z" } : Jvm.MethodName)) ∈ lw_all := lw_g (lw_at lw_m6 7 rfl) rfl
theorem q1256 : (Jvm.Cond.code ({ cls := "PalaceOfRoomsModel", name := "isTooLike", desc := "(III)Z" } : Jvm.MethodName) prog_18_method_38_code (4 : Nat) (Option.some Jvm.ClassFile.FieldType.boolean)) ∈ lw_all := lw_g (lw_at lw_m6 8 rfl) rfl
theorem q1258 : (Jvm.Cond.instanceMethod ({ cls := "PalaceOfRoomsModel", name := "due", desc := "()I" } : Jvm.MethodName)) ∈ lw_all := lw_g (lw_at lw_m6 10 rfl) rfl
theorem q1259 : (Jvm.Cond.selects "PalaceOfRoomsModel" ({ cls := "PalaceOfRoomsModel", name := "due", desc := "()I" } : Jvm.MethodName) ({ cls := "PalaceOfRoomsModel", name := "due", desc := "()I" } : Jvm.MethodName)) ∈ lw_all := lw_g (lw_at lw_m6 11 rfl) rfl
theorem q1260 : (Jvm.Cond.code ({ cls := "PalaceOfRoomsModel", name := "due", desc := "()I" } : Jvm.MethodName) prog_18_method_40_code (5 : Nat) (Option.some Jvm.ClassFile.FieldType.int)) ∈ lw_all := lw_g (lw_at lw_m6 12 rfl) rfl
theorem q1262 : (Jvm.Cond.instanceMethod ({ cls := "PalaceOfRoomsModel", name := "laid", desc := "(JII)I" } : Jvm.MethodName)) ∈ lw_all := lw_g (lw_at lw_m6 14 rfl) rfl
theorem q1263 : (Jvm.Cond.selects "PalaceOfRoomsModel" ({ cls := "PalaceOfRoomsModel", name := "laid", desc := "(JII)I" } : Jvm.MethodName) ({ cls := "PalaceOfRoomsModel", name := "laid", desc := "(JII)I" } : Jvm.MethodName)) ∈ lw_all := lw_g (lw_at lw_m6 15 rfl) rfl
theorem q1264 : (Jvm.Cond.code ({ cls := "PalaceOfRoomsModel", name := "laid", desc := "(JII)I" } : Jvm.MethodName) prog_18_method_45_code (9 : Nat) (Option.some Jvm.ClassFile.FieldType.int)) ∈ lw_all := lw_g (lw_at lw_m6 16 rfl) rfl
theorem q1265 : (Jvm.Cond.methodLink "PalaceOfRoomsModel" (234 : Nat) ({ cls := "PalaceOfRoomsModel", name := "take", desc := "(JI)I" } : Jvm.MethodName)) ∈ lw_all := lw_g (lw_at lw_m6 17 rfl) rfl
theorem q1266 : (Jvm.Cond.privateMethod ({ cls := "PalaceOfRoomsModel", name := "take", desc := "(JI)I" } : Jvm.MethodName)) ∈ lw_tbl := lw_at lw_m6 18 rfl
theorem q1267 : (Jvm.Cond.instanceMethod ({ cls := "PalaceOfRoomsModel", name := "take", desc := "(JI)I" } : Jvm.MethodName)) ∈ lw_all := lw_g (lw_at lw_m6 19 rfl) rfl
theorem q1268 : (Jvm.Cond.code ({ cls := "PalaceOfRoomsModel", name := "take", desc := "(JI)I" } : Jvm.MethodName) prog_18_method_41_code (7 : Nat) (Option.some Jvm.ClassFile.FieldType.int)) ∈ lw_all := lw_g (lw_at lw_m6 20 rfl) rfl
theorem q1269 : (Jvm.Cond.constantLong "PalaceOfRoomsModel" (223 : Nat) (31 : Int64)) ∈ lw_all := lw_g (lw_at lw_m6 21 rfl) rfl
theorem q1270 : (Jvm.Cond.methodLink "PalaceOfRoomsModel" (238 : Nat) ({ cls := "PalaceOfRoomsModel", name := "findOrder", desc := "(IZ)V" } : Jvm.MethodName)) ∈ lw_all := lw_g (lw_at lw_m6 22 rfl) rfl
theorem q1271 : (Jvm.Cond.privateMethod ({ cls := "PalaceOfRoomsModel", name := "findOrder", desc := "(IZ)V" } : Jvm.MethodName)) ∈ lw_tbl := lw_at lw_m6 23 rfl
theorem q1272 : (Jvm.Cond.instanceMethod ({ cls := "PalaceOfRoomsModel", name := "findOrder", desc := "(IZ)V" } : Jvm.MethodName)) ∈ lw_all := lw_g (lw_at lw_m6 24 rfl) rfl
theorem q1273 : (Jvm.Cond.code ({ cls := "PalaceOfRoomsModel", name := "findOrder", desc := "(IZ)V" } : Jvm.MethodName) prog_18_method_42_code (7 : Nat) (Option.none : Option Jvm.ClassFile.FieldType)) ∈ lw_all := lw_g (lw_at lw_m6 25 rfl) rfl
theorem q1274 : (Jvm.Cond.methodLink "PalaceOfRoomsModel" (228 : Nat) ({ cls := "PalaceOfRoomsModel", name := "speechOf", desc := "(I)I" } : Jvm.MethodName)) ∈ lw_all := lw_g (lw_at lw_m6 26 rfl) rfl
theorem q1275 : (Jvm.Cond.privateMethod ({ cls := "PalaceOfRoomsModel", name := "speechOf", desc := "(I)I" } : Jvm.MethodName)) ∈ lw_tbl := lw_at lw_m6 27 rfl
theorem q1276 : (Jvm.Cond.instanceMethod ({ cls := "PalaceOfRoomsModel", name := "speechOf", desc := "(I)I" } : Jvm.MethodName)) ∈ lw_all := lw_g (lw_at lw_m6 28 rfl) rfl
theorem q1277 : (Jvm.Cond.code ({ cls := "PalaceOfRoomsModel", name := "speechOf", desc := "(I)I" } : Jvm.MethodName) prog_18_method_43_code (4 : Nat) (Option.some Jvm.ClassFile.FieldType.int)) ∈ lw_all := lw_g (lw_at lw_m6 29 rfl) rfl
theorem q1278 : (Jvm.Cond.methodLink "PalaceOfRoomsModel" (231 : Nat) ({ cls := "PalaceOfRoomsModel", name := "harmOf", desc := "(I)I" } : Jvm.MethodName)) ∈ lw_all := lw_g (lw_at lw_m6 30 rfl) rfl
theorem q1279 : (Jvm.Cond.privateMethod ({ cls := "PalaceOfRoomsModel", name := "harmOf", desc := "(I)I" } : Jvm.MethodName)) ∈ lw_tbl := lw_at lw_m6 31 rfl
theorem q1280 : (Jvm.Cond.instanceMethod ({ cls := "PalaceOfRoomsModel", name := "harmOf", desc := "(I)I" } : Jvm.MethodName)) ∈ lw_all := lw_g (lw_at lw_m6 32 rfl) rfl
theorem q1281 : (Jvm.Cond.code ({ cls := "PalaceOfRoomsModel", name := "harmOf", desc := "(I)I" } : Jvm.MethodName) prog_18_method_44_code (5 : Nat) (Option.some Jvm.ClassFile.FieldType.int)) ∈ lw_all := lw_g (lw_at lw_m6 33 rfl) rfl
theorem q1283 : (Jvm.Cond.instanceMethod ({ cls := "PalaceOfRoomsModel", name := "cost", desc := "(I)I" } : Jvm.MethodName)) ∈ lw_all := lw_g (lw_at lw_m6 35 rfl) rfl
theorem q1284 : (Jvm.Cond.selects "PalaceOfRoomsModel" ({ cls := "PalaceOfRoomsModel", name := "cost", desc := "(I)I" } : Jvm.MethodName) ({ cls := "PalaceOfRoomsModel", name := "cost", desc := "(I)I" } : Jvm.MethodName)) ∈ lw_all := lw_g (lw_at lw_m6 36 rfl) rfl
theorem q1285 : (Jvm.Cond.code ({ cls := "PalaceOfRoomsModel", name := "cost", desc := "(I)I" } : Jvm.MethodName) prog_18_method_47_code (2 : Nat) (Option.some Jvm.ClassFile.FieldType.int)) ∈ lw_all := lw_g (lw_at lw_m6 37 rfl) rfl
theorem q1286 : (Jvm.Cond.methodLink "PalaceOfRoomsModel" (242 : Nat) ({ cls := "PalaceOfRoomsModel", name := "costOf", desc := "(I)I" } : Jvm.MethodName)) ∈ lw_all := lw_g (lw_at lw_m6 38 rfl) rfl
theorem q1287 : (Jvm.Cond.privateMethod ({ cls := "PalaceOfRoomsModel", name := "costOf", desc := "(I)I" } : Jvm.MethodName)) ∈ lw_tbl := lw_at lw_m6 39 rfl
theorem q1288 : (Jvm.Cond.instanceMethod ({ cls := "PalaceOfRoomsModel", name := "costOf", desc := "(I)I" } : Jvm.MethodName)) ∈ lw_all := lw_g (lw_at lw_m6 40 rfl) rfl
theorem q1289 : (Jvm.Cond.code ({ cls := "PalaceOfRoomsModel", name := "costOf", desc := "(I)I" } : Jvm.MethodName) prog_18_method_46_code (3 : Nat) (Option.some Jvm.ClassFile.FieldType.int)) ∈ lw_all := lw_g (lw_at lw_m6 41 rfl) rfl
theorem q1291 : (Jvm.Cond.instanceMethod ({ cls := "PalaceOfRoomsModel", name := "plan", desc := "(III)I" } : Jvm.MethodName)) ∈ lw_all := lw_g (lw_at lw_m6 43 rfl) rfl
theorem q1292 : (Jvm.Cond.selects "PalaceOfRoomsModel" ({ cls := "PalaceOfRoomsModel", name := "plan", desc := "(III)I" } : Jvm.MethodName) ({ cls := "PalaceOfRoomsModel", name := "plan", desc := "(III)I" } : Jvm.MethodName)) ∈ lw_all := lw_g (lw_at lw_m6 44 rfl) rfl
theorem q1293 : (Jvm.Cond.code ({ cls := "PalaceOfRoomsModel", name := "plan", desc := "(III)I" } : Jvm.MethodName) prog_18_method_51_code (8 : Nat) (Option.some Jvm.ClassFile.FieldType.int)) ∈ lw_all := lw_g (lw_at lw_m6 45 rfl) rfl
theorem q1294 : (Jvm.Cond.methodLink "PalaceOfRoomsModel" (245 : Nat) ({ cls := "PalaceOfRoomsModel", name := "areMinutes", desc := "(II)Z" } : Jvm.MethodName)) ∈ lw_all := lw_g (lw_at lw_m6 46 rfl) rfl
theorem q1295 : (Jvm.Cond.static ({ cls := "PalaceOfRoomsModel", name := "areMinutes", desc := "(II)Z" } : Jvm.MethodName)) ∈ lw_all := lw_g (lw_at lw_m6 47 rfl) rfl
theorem q1296 : (Jvm.Cond.code ({ cls := "PalaceOfRoomsModel", name := "areMinutes", desc := "(II)Z" } : Jvm.MethodName) prog_18_method_48_code (4 : Nat) (Option.some Jvm.ClassFile.FieldType.boolean)) ∈ lw_all := lw_g (lw_at lw_m6 48 rfl) rfl
theorem q1297 : (Jvm.Cond.methodLink "PalaceOfRoomsModel" (248 : Nat) ({ cls := "PalaceOfRoomsModel", name := "isGone", desc := "(III)Z" } : Jvm.MethodName)) ∈ lw_all := lw_g (lw_at lw_m6 49 rfl) rfl
theorem q1298 : (Jvm.Cond.privateMethod ({ cls := "PalaceOfRoomsModel", name := "isGone", desc := "(III)Z" } : Jvm.MethodName)) ∈ lw_tbl := lw_at lw_m6 50 rfl
theorem q1299 : (Jvm.Cond.instanceMethod ({ cls := "PalaceOfRoomsModel", name := "isGone", desc := "(III)Z" } : Jvm.MethodName)) ∈ lw_all := lw_g (lw_at lw_m6 51 rfl) rfl
theorem q1300 : (Jvm.Cond.code ({ cls := "PalaceOfRoomsModel", name := "isGone", desc := "(III)Z" } : Jvm.MethodName) prog_18_method_49_code (5 : Nat) (Option.some Jvm.ClassFile.FieldType.boolean)) ∈ lw_all := lw_g (lw_at lw_m6 52 rfl) rfl
theorem q1301 : (Jvm.Cond.methodLink "PalaceOfRoomsModel" (251 : Nat) ({ cls := "PalaceOfRoomsModel", name := "allAt", desc := "(I)I" } : Jvm.MethodName)) ∈ lw_all := lw_g (lw_at lw_m6 53 rfl) rfl
theorem q1302 : (Jvm.Cond.privateMethod ({ cls := "PalaceOfRoomsModel", name := "allAt", desc := "(I)I" } : Jvm.MethodName)) ∈ lw_tbl := lw_at lw_m6 54 rfl
theorem q1303 : (Jvm.Cond.instanceMethod ({ cls := "PalaceOfRoomsModel", name := "allAt", desc := "(I)I" } : Jvm.MethodName)) ∈ lw_all := lw_g (lw_at lw_m6 55 rfl) rfl
theorem q1304 : (Jvm.Cond.code ({ cls := "PalaceOfRoomsModel", name := "allAt", desc := "(I)I" } : Jvm.MethodName) prog_18_method_50_code (4 : Nat) (Option.some Jvm.ClassFile.FieldType.int)) ∈ lw_all := lw_g (lw_at lw_m6 56 rfl) rfl
theorem q1306 : (Jvm.Cond.instanceMethod ({ cls := "PalaceOfRoomsModel", name := "judge", desc := "(III)I" } : Jvm.MethodName)) ∈ lw_all := lw_g (lw_at lw_m6 58 rfl) rfl
theorem q1307 : (Jvm.Cond.selects "PalaceOfRoomsModel" ({ cls := "PalaceOfRoomsModel", name := "judge", desc := "(III)I" } : Jvm.MethodName) ({ cls := "PalaceOfRoomsModel", name := "judge", desc := "(III)I" } : Jvm.MethodName)) ∈ lw_all := lw_g (lw_at lw_m6 59 rfl) rfl
theorem q1308 : (Jvm.Cond.code ({ cls := "PalaceOfRoomsModel", name := "judge", desc := "(III)I" } : Jvm.MethodName) prog_18_method_52_code (5 : Nat) (Option.some Jvm.ClassFile.FieldType.int)) ∈ lw_all := lw_g (lw_at lw_m6 60 rfl) rfl
theorem q1310 : (Jvm.Cond.instanceMethod ({ cls := "PalaceOfRoomsModel", name := "right", desc := "(II)I" } : Jvm.MethodName)) ∈ lw_all := lw_g (lw_at lw_m6 62 rfl) rfl
theorem q1311 : (Jvm.Cond.selects "PalaceOfRoomsModel" ({ cls := "PalaceOfRoomsModel", name := "right", desc := "(II)I" } : Jvm.MethodName) ({ cls := "PalaceOfRoomsModel", name := "right", desc := "(II)I" } : Jvm.MethodName)) ∈ lw_all := lw_g (lw_at lw_m6 63 rfl) rfl
theorem q1312 : (Jvm.Cond.code ({ cls := "PalaceOfRoomsModel", name := "right", desc := "(II)I" } : Jvm.MethodName) prog_18_method_53_code (7 : Nat) (Option.some Jvm.ClassFile.FieldType.int)) ∈ lw_all := lw_g (lw_at lw_m6 64 rfl) rfl
theorem q1314 : (Jvm.Cond.instanceMethod ({ cls := "PalaceOfRoomsModel", name := "causes", desc := "(II)I" } : Jvm.MethodName)) ∈ lw_all := lw_g (lw_at lw_m6 66 rfl) rfl
theorem q1315 : (Jvm.Cond.selects "PalaceOfRoomsModel" ({ cls := "PalaceOfRoomsModel", name := "causes", desc := "(II)I" } : Jvm.MethodName) ({ cls := "PalaceOfRoomsModel", name := "causes", desc := "(II)I" } : Jvm.MethodName)) ∈ lw_all := lw_g (lw_at lw_m6 67 rfl) rfl
theorem q1316 : (Jvm.Cond.code ({ cls := "PalaceOfRoomsModel", name := "causes", desc := "(II)I" } : Jvm.MethodName) prog_18_method_54_code (5 : Nat) (Option.some Jvm.ClassFile.FieldType.int)) ∈ lw_all := lw_g (lw_at lw_m6 68 rfl) rfl
theorem q1318 : (Jvm.Cond.instanceMethod ({ cls := "PalaceOfRoomsModel", name := "asked", desc := "(II)I" } : Jvm.MethodName)) ∈ lw_all := lw_g (lw_at lw_m6 70 rfl) rfl
theorem q1319 : (Jvm.Cond.selects "PalaceOfRoomsModel" ({ cls := "PalaceOfRoomsModel", name := "asked", desc := "(II)I" } : Jvm.MethodName) ({ cls := "PalaceOfRoomsModel", name := "asked", desc := "(II)I" } : Jvm.MethodName)) ∈ lw_all := lw_g (lw_at lw_m6 71 rfl) rfl
theorem q1320 : (Jvm.Cond.code ({ cls := "PalaceOfRoomsModel", name := "asked", desc := "(II)I" } : Jvm.MethodName) prog_18_method_55_code (5 : Nat) (Option.some Jvm.ClassFile.FieldType.int)) ∈ lw_all := lw_g (lw_at lw_m6 72 rfl) rfl
theorem q1322 : (Jvm.Cond.instanceMethod ({ cls := "PalaceOfRoomsModel", name := "beside", desc := "(II)I" } : Jvm.MethodName)) ∈ lw_all := lw_g (lw_at lw_m6 74 rfl) rfl
theorem q1323 : (Jvm.Cond.selects "PalaceOfRoomsModel" ({ cls := "PalaceOfRoomsModel", name := "beside", desc := "(II)I" } : Jvm.MethodName) ({ cls := "PalaceOfRoomsModel", name := "beside", desc := "(II)I" } : Jvm.MethodName)) ∈ lw_all := lw_g (lw_at lw_m6 75 rfl) rfl
theorem q1324 : (Jvm.Cond.code ({ cls := "PalaceOfRoomsModel", name := "beside", desc := "(II)I" } : Jvm.MethodName) prog_18_method_56_code (6 : Nat) (Option.some Jvm.ClassFile.FieldType.int)) ∈ lw_all := lw_g (lw_at lw_m6 76 rfl) rfl
theorem q1326 : (Jvm.Cond.instanceMethod ({ cls := "PalaceOfRoomsModel", name := "answer", desc := "(IIZ)I" } : Jvm.MethodName)) ∈ lw_all := lw_g (lw_at lw_m6 78 rfl) rfl
theorem q1327 : (Jvm.Cond.selects "PalaceOfRoomsModel" ({ cls := "PalaceOfRoomsModel", name := "answer", desc := "(IIZ)I" } : Jvm.MethodName) ({ cls := "PalaceOfRoomsModel", name := "answer", desc := "(IIZ)I" } : Jvm.MethodName)) ∈ lw_all := lw_g (lw_at lw_m6 79 rfl) rfl
theorem q1328 : (Jvm.Cond.code ({ cls := "PalaceOfRoomsModel", name := "answer", desc := "(IIZ)I" } : Jvm.MethodName) prog_18_method_58_code (4 : Nat) (Option.some Jvm.ClassFile.FieldType.int)) ∈ lw_all := lw_g (lw_at lw_m6 80 rfl) rfl
theorem q1329 : (Jvm.Cond.methodLink "PalaceOfRoomsModel" (254 : Nat) ({ cls := "PalaceOfRoomsModel", name := "isPupil", desc := "(I)Z" } : Jvm.MethodName)) ∈ lw_all := lw_g (lw_at lw_m6 81 rfl) rfl
theorem q1330 : (Jvm.Cond.static ({ cls := "PalaceOfRoomsModel", name := "isPupil", desc := "(I)Z" } : Jvm.MethodName)) ∈ lw_all := lw_g (lw_at lw_m6 82 rfl) rfl
theorem q1331 : (Jvm.Cond.code ({ cls := "PalaceOfRoomsModel", name := "isPupil", desc := "(I)Z" } : Jvm.MethodName) prog_18_method_57_code (1 : Nat) (Option.some Jvm.ClassFile.FieldType.boolean)) ∈ lw_all := lw_g (lw_at lw_m6 83 rfl) rfl
theorem q1333 : (Jvm.Cond.instanceMethod ({ cls := "PalaceOfRoomsModel", name := "pupil", desc := "(II)I" } : Jvm.MethodName)) ∈ lw_all := lw_g (lw_at lw_m6 85 rfl) rfl
theorem q1334 : (Jvm.Cond.selects "PalaceOfRoomsModel" ({ cls := "PalaceOfRoomsModel", name := "pupil", desc := "(II)I" } : Jvm.MethodName) ({ cls := "PalaceOfRoomsModel", name := "pupil", desc := "(II)I" } : Jvm.MethodName)) ∈ lw_all := lw_g (lw_at lw_m6 86 rfl) rfl
theorem q1335 : (Jvm.Cond.code ({ cls := "PalaceOfRoomsModel", name := "pupil", desc := "(II)I" } : Jvm.MethodName) prog_18_method_62_code (8 : Nat) (Option.some Jvm.ClassFile.FieldType.int)) ∈ lw_all := lw_g (lw_at lw_m6 87 rfl) rfl
theorem q1336 : (Jvm.Cond.methodLink "PalaceOfRoomsModel" (260 : Nat) ({ cls := "PalaceOfRoomsModel", name := "agrees", desc := "(II)I" } : Jvm.MethodName)) ∈ lw_all := lw_g (lw_at lw_m6 88 rfl) rfl
theorem q1337 : (Jvm.Cond.privateMethod ({ cls := "PalaceOfRoomsModel", name := "agrees", desc := "(II)I" } : Jvm.MethodName)) ∈ lw_tbl := lw_at lw_m6 89 rfl
theorem q1338 : (Jvm.Cond.instanceMethod ({ cls := "PalaceOfRoomsModel", name := "agrees", desc := "(II)I" } : Jvm.MethodName)) ∈ lw_all := lw_g (lw_at lw_m6 90 rfl) rfl
theorem q1339 : (Jvm.Cond.code ({ cls := "PalaceOfRoomsModel", name := "agrees", desc := "(II)I" } : Jvm.MethodName) prog_18_method_60_code (5 : Nat) (Option.some Jvm.ClassFile.FieldType.int)) ∈ lw_all := lw_g (lw_at lw_m6 91 rfl) rfl
theorem q1340 : (Jvm.Cond.methodLink "PalaceOfRoomsModel" (257 : Nat) ({ cls := "PalaceOfRoomsModel", name := "isRight", desc := "(II)Z" } : Jvm.MethodName)) ∈ lw_all := lw_g (lw_at lw_m6 92 rfl) rfl
theorem q1341 : (Jvm.Cond.static ({ cls := "PalaceOfRoomsModel", name := "isRight", desc := "(II)Z" } : Jvm.MethodName)) ∈ lw_all := lw_g (lw_at lw_m6 93 rfl) rfl
theorem q1342 : (Jvm.Cond.code ({ cls := "PalaceOfRoomsModel", name := "isRight", desc := "(II)Z" } : Jvm.MethodName) prog_18_method_59_code (2 : Nat) (Option.some Jvm.ClassFile.FieldType.boolean)) ∈ lw_all := lw_g (lw_at lw_m6 94 rfl) rfl
theorem q1343 : (Jvm.Cond.methodLink "PalaceOfRoomsModel" (263 : Nat) ({ cls := "PalaceOfRoomsModel", name := "partsMost", desc := "(I)I" } : Jvm.MethodName)) ∈ lw_all := lw_g (lw_at lw_m6 95 rfl) rfl
theorem q1344 : (Jvm.Cond.privateMethod ({ cls := "PalaceOfRoomsModel", name := "partsMost", desc := "(I)I" } : Jvm.MethodName)) ∈ lw_tbl := lw_at lw_m6 96 rfl
theorem q1345 : (Jvm.Cond.instanceMethod ({ cls := "PalaceOfRoomsModel", name := "partsMost", desc := "(I)I" } : Jvm.MethodName)) ∈ lw_all := lw_g (lw_at lw_m6 97 rfl) rfl
theorem q1346 : (Jvm.Cond.code ({ cls := "PalaceOfRoomsModel", name := "partsMost", desc := "(I)I" } : Jvm.MethodName) prog_18_method_61_code (9 : Nat) (Option.some Jvm.ClassFile.FieldType.int)) ∈ lw_all := lw_g (lw_at lw_m6 98 rfl) rfl
theorem q1348 : (Jvm.Cond.instanceMethod ({ cls := "PalaceOfRoomsModel", name := "figures", desc := "(III)I" } : Jvm.MethodName)) ∈ lw_all := lw_g (lw_at lw_m6 100 rfl) rfl
theorem q1349 : (Jvm.Cond.selects "PalaceOfRoomsModel" ({ cls := "PalaceOfRoomsModel", name := "figures", desc := "(III)I" } : Jvm.MethodName) ({ cls := "PalaceOfRoomsModel", name := "figures", desc := "(III)I" } : Jvm.MethodName)) ∈ lw_all := lw_g (lw_at lw_m6 101 rfl) rfl
theorem q1350 : (Jvm.Cond.code ({ cls := "PalaceOfRoomsModel", name := "figures", desc := "(III)I" } : Jvm.MethodName) prog_18_method_63_code (5 : Nat) (Option.some Jvm.ClassFile.FieldType.int)) ∈ lw_all := lw_g (lw_at lw_m6 102 rfl) rfl
theorem q1352 : (Jvm.Cond.instanceMethod ({ cls := "PalaceOfRoomsModel", name := "code", desc := "(JII)I" } : Jvm.MethodName)) ∈ lw_all := lw_g (lw_at lw_m6 104 rfl) rfl
theorem q1353 : (Jvm.Cond.selects "PalaceOfRoomsModel" ({ cls := "PalaceOfRoomsModel", name := "code", desc := "(JII)I" } : Jvm.MethodName) ({ cls := "PalaceOfRoomsModel", name := "code", desc := "(JII)I" } : Jvm.MethodName)) ∈ lw_all := lw_g (lw_at lw_m6 105 rfl) rfl
theorem q1354 : (Jvm.Cond.code ({ cls := "PalaceOfRoomsModel", name := "code", desc := "(JII)I" } : Jvm.MethodName) prog_18_method_64_code (6 : Nat) (Option.some Jvm.ClassFile.FieldType.int)) ∈ lw_all := lw_g (lw_at lw_m6 106 rfl) rfl
theorem q1356 : (Jvm.Cond.instanceMethod ({ cls := "PalaceOfRoomsModel", name := "enough", desc := "(I)I" } : Jvm.MethodName)) ∈ lw_all := lw_g (lw_at lw_m6 108 rfl) rfl
theorem q1357 : (Jvm.Cond.selects "PalaceOfRoomsModel" ({ cls := "PalaceOfRoomsModel", name := "enough", desc := "(I)I" } : Jvm.MethodName) ({ cls := "PalaceOfRoomsModel", name := "enough", desc := "(I)I" } : Jvm.MethodName)) ∈ lw_all := lw_g (lw_at lw_m6 109 rfl) rfl
theorem q1358 : (Jvm.Cond.code ({ cls := "PalaceOfRoomsModel", name := "enough", desc := "(I)I" } : Jvm.MethodName) prog_18_method_65_code (7 : Nat) (Option.some Jvm.ClassFile.FieldType.int)) ∈ lw_all := lw_g (lw_at lw_m6 110 rfl) rfl
theorem q1360 : (Jvm.Cond.instanceMethod ({ cls := "PalaceOfRoomsModel", name := "count", desc := "(I)I" } : Jvm.MethodName)) ∈ lw_all := lw_g (lw_at lw_m6 112 rfl) rfl
theorem q1361 : (Jvm.Cond.selects "PalaceOfRoomsModel" ({ cls := "PalaceOfRoomsModel", name := "count", desc := "(I)I" } : Jvm.MethodName) ({ cls := "PalaceOfRoomsModel", name := "count", desc := "(I)I" } : Jvm.MethodName)) ∈ lw_all := lw_g (lw_at lw_m6 113 rfl) rfl
theorem q1362 : (Jvm.Cond.code ({ cls := "PalaceOfRoomsModel", name := "count", desc := "(I)I" } : Jvm.MethodName) prog_18_method_66_code (4 : Nat) (Option.some Jvm.ClassFile.FieldType.int)) ∈ lw_all := lw_g (lw_at lw_m6 114 rfl) rfl
theorem in_X10 : ∀ w ∈ wsX100, w ∈ lw_all := lw_in wsX100 [1018, 1020, 1022, 1024, 1026, 1028, 1030, 1032, 1034, 1036, 1038, 1040, 1042, 1044, 1046, 1048, 1050, 1052, 1054, 1056, 1058, 1060, 1062, 1064, 1066, 1068, 1070, 1072, 1074, 1076, 1078, 1080, 1082, 1084, 1086, 1088, 1090, 1092, 1094] (by decide +kernel) (by decide +kernel)
def RX11 : String := "PalaceOfRooms$Fault"
def TX11 : u_T := fun k => match k with
  | 0 => ("java/lang/Throwable", "cause", "Ljava/lang/Throwable;", false)
  | 1 => ("java/lang/Throwable", "stackTrace", "[Ljava/lang/StackTraceElement;", false)
  | 2 => ("java/lang/Throwable", "suppressedExceptions", "Ljava/util/List;", false)
  | 3 => ("java/lang/Throwable", "detailMessage", "Ljava/lang/String;", false)
  | 4 => ("java/lang/Throwable", "backtrace", "Ljava/lang/Object;", false)
  | 5 => ("java/lang/Throwable", "depth", "I", false)
  | _ => ("PalaceOfRooms$Fault", "place", "I", true)
def tyX11 : Nat → FieldType := fun k => match k with
  | 0 => .object "java/lang/Throwable"
  | 1 => .array (.object "java/lang/StackTraceElement")
  | 2 => .object "java/util/List"
  | 3 => .object "java/lang/String"
  | 4 => .object "java/lang/Object"
  | 5 => .int
  | _ => .int
abbrev wsX110 : List Cond := u_ws RX11 TX11 7
theorem nmX11 : ∀ a, a < 7 → ∀ b, b < 7 → a ≠ b → (TX11 a).2.1 ≠ (TX11 b).2.1 := by decide +kernel
theorem tyX11_ok : ∀ k, k < 7 → parseFieldDescriptor (TX11 k).2.2.1 = some (tyX11 k) := by decide +kernel
abbrev cX11_init : ByteArray := prog_7_method_1_code
def yX11_init : MethodName := ⟨RX11, "<init>", "(I)V"⟩
theorem q68 : (Jvm.Cond.initialized "PalaceOfRooms$Fault") ∈ lw_all := lw_g (lw_at lw_m1 20 rfl) rfl
theorem q570 : (Jvm.Cond.instantiable "PalaceOfRooms$Fault" (7 : Nat)) ∈ lw_all := lw_g (lw_at lw_m3 42 rfl) rfl
theorem q571 : (Jvm.Cond.castable "PalaceOfRooms$Fault" "PalaceOfRooms$Fault") ∈ lw_tbl := lw_at lw_m3 43 rfl
theorem q576 : (Jvm.Cond.selects "PalaceOfRooms$Fault" ({ cls := "java/lang/Throwable", name := "fillInStackTrace", desc := "(I)Ljava/lang/Throwable;" } : Jvm.MethodName) ({ cls := "java/lang/Throwable", name := "fillInStackTrace", desc := "(I)Ljava/lang/Throwable;" } : Jvm.MethodName)) ∈ lw_all := lw_g (lw_at lw_m3 48 rfl) rfl
theorem q577 : (Jvm.Cond.selects "PalaceOfRooms$Fault" ({ cls := "java/lang/Throwable", name := "fillInStackTrace", desc := "()Ljava/lang/Throwable;" } : Jvm.MethodName) ({ cls := "java/lang/Throwable", name := "fillInStackTrace", desc := "()Ljava/lang/Throwable;" } : Jvm.MethodName)) ∈ lw_all := lw_g (lw_at lw_m3 49 rfl) rfl
theorem q578 : (Jvm.Cond.lays "PalaceOfRooms$Fault" "java/lang/Throwable" "cause" "Ljava/lang/Throwable;") ∈ lw_all := lw_g (lw_at lw_m3 50 rfl) rfl
theorem q580 : (Jvm.Cond.lays "PalaceOfRooms$Fault" "java/lang/Throwable" "stackTrace" "[Ljava/lang/StackTraceElement;") ∈ lw_all := lw_g (lw_at lw_m3 52 rfl) rfl
theorem q582 : (Jvm.Cond.lays "PalaceOfRooms$Fault" "java/lang/Throwable" "suppressedExceptions" "Ljava/util/List;") ∈ lw_all := lw_g (lw_at lw_m3 54 rfl) rfl
theorem q584 : (Jvm.Cond.lays "PalaceOfRooms$Fault" "java/lang/Throwable" "detailMessage" "Ljava/lang/String;") ∈ lw_all := lw_g (lw_at lw_m3 56 rfl) rfl
theorem q586 : (Jvm.Cond.lays "PalaceOfRooms$Fault" "java/lang/Throwable" "backtrace" "Ljava/lang/Object;") ∈ lw_all := lw_g (lw_at lw_m3 58 rfl) rfl
theorem q607 : (Jvm.Cond.instanceMethod ({ cls := "PalaceOfRooms$Fault", name := "<init>", desc := "(I)V" } : Jvm.MethodName)) ∈ lw_all := lw_g (lw_at lw_m3 79 rfl) rfl
theorem q608 : (Jvm.Cond.code ({ cls := "PalaceOfRooms$Fault", name := "<init>", desc := "(I)V" } : Jvm.MethodName) prog_7_method_1_code (2 : Nat) (Option.none : Option Jvm.ClassFile.FieldType)) ∈ lw_all := lw_g (lw_at lw_m3 80 rfl) rfl
theorem q609 : (Jvm.Cond.stringRef "PalaceOfRooms$Fault" (1 : Nat) "") ∈ lw_tbl := lw_at lw_m3 81 rfl
theorem q610 : (Jvm.Cond.methodLink "PalaceOfRooms$Fault" (3 : Nat) ({ cls := "java/lang/Exception", name := "<init>", desc := "(Ljava/lang/String;Ljava/lang/Throwable;ZZ)V" } : Jvm.MethodName)) ∈ lw_all := lw_g (lw_at lw_m3 82 rfl) rfl
theorem q616 : (Jvm.Cond.fieldLink "PalaceOfRooms$Fault" (9 : Nat) "PalaceOfRooms$Fault" "place" "I") ∈ lw_all := lw_g (lw_at lw_m3 88 rfl) rfl
theorem q623 : (Jvm.Cond.laysFinal "PalaceOfRooms$Fault" "PalaceOfRooms$Fault" "place" "I") ∈ lw_all := lw_g (lw_at lw_m3 95 rfl) rfl
theorem q624 : (Jvm.Cond.soleField "PalaceOfRooms$Fault" "place") ∈ lw_all := lw_g (lw_at lw_m3 96 rfl) rfl
theorem q629 : (Jvm.Cond.lays "PalaceOfRooms$Fault" "java/lang/Throwable" "depth" "I") ∈ lw_all := lw_g (lw_at lw_m3 101 rfl) rfl
theorem q632 : (Jvm.Cond.superclass "PalaceOfRooms$Fault" "java/lang/Exception") ∈ lw_all := lw_g (lw_at lw_m3 104 rfl) rfl
theorem in_X11 : ∀ w ∈ wsX110, w ∈ lw_all := lw_in wsX110 [578, 580, 582, 584, 586, 629, 623] (by decide +kernel) (by decide +kernel)
def RX12 : String := "PalaceOfRooms$Line"
abbrev cX12_init : ByteArray := prog_12_method_1_code
def yX12_init : MethodName := ⟨RX12, "<init>", "()V"⟩
abbrev cX12_again : ByteArray := prog_12_method_3_code
def yX12_again : MethodName := ⟨RX12, "again", "()I"⟩
abbrev cX12_apart : ByteArray := prog_12_method_4_code
def yX12_apart : MethodName := ⟨RX12, "apart", "()I"⟩
abbrev cX12_room : ByteArray := prog_12_method_2_code
def yX12_room : MethodName := ⟨RX12, "room", "(I)I"⟩
abbrev cX12_every : ByteArray := prog_12_method_5_code
def yX12_every : MethodName := ⟨RX12, "every", "(I)I"⟩
theorem q69 : (Jvm.Cond.initialized "PalaceOfRooms$Line") ∈ lw_all := lw_g (lw_at lw_m1 21 rfl) rfl
theorem q639 : (Jvm.Cond.instanceMethod ({ cls := "PalaceOfRooms$Line", name := "<init>", desc := "()V" } : Jvm.MethodName)) ∈ lw_all := lw_g (lw_at lw_m3 111 rfl) rfl
theorem q640 : (Jvm.Cond.code ({ cls := "PalaceOfRooms$Line", name := "<init>", desc := "()V" } : Jvm.MethodName) prog_12_method_1_code (1 : Nat) (Option.none : Option Jvm.ClassFile.FieldType)) ∈ lw_all := lw_g (lw_at lw_m3 112 rfl) rfl
theorem q641 : (Jvm.Cond.methodLink "PalaceOfRooms$Line" (3 : Nat) ({ cls := "java/lang/Object", name := "<init>", desc := "()V" } : Jvm.MethodName)) ∈ lw_all := lw_g (lw_at lw_m3 113 rfl) rfl
theorem q697 : (Jvm.Cond.instanceMethod ({ cls := "PalaceOfRooms$Line", name := "again", desc := "()I" } : Jvm.MethodName)) ∈ lw_all := lw_g (lw_at lw_m3 169 rfl) rfl
theorem q698 : (Jvm.Cond.sameMethod "PalaceOfRooms$Line" "PalaceOfRooms$Line" "again" "()I") ∈ lw_all := lw_g (lw_at lw_m3 170 rfl) rfl
theorem q705 : (Jvm.Cond.code ({ cls := "PalaceOfRooms$Line", name := "again", desc := "()I" } : Jvm.MethodName) prog_12_method_3_code (1 : Nat) (Option.some Jvm.ClassFile.FieldType.int)) ∈ lw_all := lw_g (lw_at lw_m3 177 rfl) rfl
theorem q707 : (Jvm.Cond.instanceMethod ({ cls := "PalaceOfRooms$Line", name := "apart", desc := "()I" } : Jvm.MethodName)) ∈ lw_all := lw_g (lw_at lw_m3 179 rfl) rfl
theorem q708 : (Jvm.Cond.sameMethod "PalaceOfRooms$Line" "PalaceOfRooms$Line" "apart" "()I") ∈ lw_all := lw_g (lw_at lw_m3 180 rfl) rfl
theorem q715 : (Jvm.Cond.code ({ cls := "PalaceOfRooms$Line", name := "apart", desc := "()I" } : Jvm.MethodName) prog_12_method_4_code (1 : Nat) (Option.some Jvm.ClassFile.FieldType.int)) ∈ lw_all := lw_g (lw_at lw_m3 187 rfl) rfl
theorem q721 : (Jvm.Cond.instanceMethod ({ cls := "PalaceOfRooms$Line", name := "room", desc := "(I)I" } : Jvm.MethodName)) ∈ lw_all := lw_g (lw_at lw_m3 193 rfl) rfl
theorem q722 : (Jvm.Cond.sameMethod "PalaceOfRooms$Line" "PalaceOfRooms$Line" "room" "(I)I") ∈ lw_all := lw_g (lw_at lw_m3 194 rfl) rfl
theorem q730 : (Jvm.Cond.code ({ cls := "PalaceOfRooms$Line", name := "room", desc := "(I)I" } : Jvm.MethodName) prog_12_method_2_code (2 : Nat) (Option.some Jvm.ClassFile.FieldType.int)) ∈ lw_all := lw_g (lw_at lw_m3 202 rfl) rfl
theorem q745 : (Jvm.Cond.instanceMethod ({ cls := "PalaceOfRooms$Line", name := "every", desc := "(I)I" } : Jvm.MethodName)) ∈ lw_all := lw_g (lw_at lw_m3 217 rfl) rfl
theorem q746 : (Jvm.Cond.sameMethod "PalaceOfRooms$Line" "PalaceOfRooms$Line" "every" "(I)I") ∈ lw_all := lw_g (lw_at lw_m3 218 rfl) rfl
theorem q754 : (Jvm.Cond.code ({ cls := "PalaceOfRooms$Line", name := "every", desc := "(I)I" } : Jvm.MethodName) prog_12_method_5_code (2 : Nat) (Option.some Jvm.ClassFile.FieldType.int)) ∈ lw_all := lw_g (lw_at lw_m3 226 rfl) rfl
def RX13 : String := "PalaceOfRooms$RoomLine"
def TX13 : u_T := fun k => match k with
  | 0 => ("PalaceOfRooms$RoomLine", "room", "I", true)
  | _ => ("PalaceOfRooms$RoomLine", "n", "I", true)
def tyX13 : Nat → FieldType := fun k => match k with
  | 0 => .int
  | _ => .int
abbrev wsX130 : List Cond := u_ws RX13 TX13 2
theorem nmX13 : ∀ a, a < 2 → ∀ b, b < 2 → a ≠ b → (TX13 a).2.1 ≠ (TX13 b).2.1 := by decide +kernel
theorem tyX13_ok : ∀ k, k < 2 → parseFieldDescriptor (TX13 k).2.2.1 = some (tyX13 k) := by decide +kernel
abbrev cX13_init : ByteArray := prog_16_method_1_code
def yX13_init : MethodName := ⟨RX13, "<init>", "(II)V"⟩
abbrev cX13_room : ByteArray := prog_16_method_2_code
def yX13_room : MethodName := ⟨RX13, "room", "(I)I"⟩
theorem q70 : (Jvm.Cond.initialized "PalaceOfRooms$RoomLine") ∈ lw_all := lw_g (lw_at lw_m1 22 rfl) rfl
theorem q634 : (Jvm.Cond.instantiable "PalaceOfRooms$RoomLine" (2 : Nat)) ∈ lw_all := lw_g (lw_at lw_m3 106 rfl) rfl
theorem q636 : (Jvm.Cond.instanceMethod ({ cls := "PalaceOfRooms$RoomLine", name := "<init>", desc := "(II)V" } : Jvm.MethodName)) ∈ lw_all := lw_g (lw_at lw_m3 108 rfl) rfl
theorem q637 : (Jvm.Cond.code ({ cls := "PalaceOfRooms$RoomLine", name := "<init>", desc := "(II)V" } : Jvm.MethodName) prog_16_method_1_code (3 : Nat) (Option.none : Option Jvm.ClassFile.FieldType)) ∈ lw_all := lw_g (lw_at lw_m3 109 rfl) rfl
theorem q638 : (Jvm.Cond.methodLinkNest "PalaceOfRooms$RoomLine" (1 : Nat) ({ cls := "PalaceOfRooms$Line", name := "<init>", desc := "()V" } : Jvm.MethodName) "PalaceOfRooms") ∈ lw_tbl := lw_at lw_m3 110 rfl
theorem q642 : (Jvm.Cond.fieldLink "PalaceOfRooms$RoomLine" (7 : Nat) "PalaceOfRooms$RoomLine" "room" "I") ∈ lw_all := lw_g (lw_at lw_m3 114 rfl) rfl
theorem q643 : (Jvm.Cond.fieldLink "PalaceOfRooms$RoomLine" (13 : Nat) "PalaceOfRooms$RoomLine" "n" "I") ∈ lw_all := lw_g (lw_at lw_m3 115 rfl) rfl
theorem q644 : (Jvm.Cond.laysFinal "PalaceOfRooms$RoomLine" "PalaceOfRooms$RoomLine" "room" "I") ∈ lw_all := lw_g (lw_at lw_m3 116 rfl) rfl
theorem q645 : (Jvm.Cond.soleField "PalaceOfRooms$RoomLine" "room") ∈ lw_all := lw_g (lw_at lw_m3 117 rfl) rfl
theorem q646 : (Jvm.Cond.laysFinal "PalaceOfRooms$RoomLine" "PalaceOfRooms$RoomLine" "n" "I") ∈ lw_all := lw_g (lw_at lw_m3 118 rfl) rfl
theorem q647 : (Jvm.Cond.soleField "PalaceOfRooms$RoomLine" "n") ∈ lw_all := lw_g (lw_at lw_m3 119 rfl) rfl
theorem q648 : (Jvm.Cond.superclass "PalaceOfRooms$RoomLine" "PalaceOfRooms$Line") ∈ lw_all := lw_g (lw_at lw_m3 120 rfl) rfl
theorem q704 : (Jvm.Cond.selects "PalaceOfRooms$RoomLine" ({ cls := "PalaceOfRooms$Line", name := "again", desc := "()I" } : Jvm.MethodName) ({ cls := "PalaceOfRooms$Line", name := "again", desc := "()I" } : Jvm.MethodName)) ∈ lw_all := lw_g (lw_at lw_m3 176 rfl) rfl
theorem q714 : (Jvm.Cond.selects "PalaceOfRooms$RoomLine" ({ cls := "PalaceOfRooms$Line", name := "apart", desc := "()I" } : Jvm.MethodName) ({ cls := "PalaceOfRooms$Line", name := "apart", desc := "()I" } : Jvm.MethodName)) ∈ lw_all := lw_g (lw_at lw_m3 186 rfl) rfl
theorem q726 : (Jvm.Cond.selects "PalaceOfRooms$RoomLine" ({ cls := "PalaceOfRooms$Line", name := "room", desc := "(I)I" } : Jvm.MethodName) ({ cls := "PalaceOfRooms$RoomLine", name := "room", desc := "(I)I" } : Jvm.MethodName)) ∈ lw_all := lw_g (lw_at lw_m3 198 rfl) rfl
theorem q727 : (Jvm.Cond.instanceMethod ({ cls := "PalaceOfRooms$RoomLine", name := "room", desc := "(I)I" } : Jvm.MethodName)) ∈ lw_all := lw_g (lw_at lw_m3 199 rfl) rfl
theorem q728 : (Jvm.Cond.code ({ cls := "PalaceOfRooms$RoomLine", name := "room", desc := "(I)I" } : Jvm.MethodName) prog_16_method_2_code (2 : Nat) (Option.some Jvm.ClassFile.FieldType.int)) ∈ lw_all := lw_g (lw_at lw_m3 200 rfl) rfl
theorem q729 : (Jvm.Cond.methodLink "PalaceOfRooms$RoomLine" (16 : Nat) ({ cls := "PalaceOfRooms$Line", name := "room", desc := "(I)I" } : Jvm.MethodName)) ∈ lw_all := lw_g (lw_at lw_m3 201 rfl) rfl
theorem q753 : (Jvm.Cond.selects "PalaceOfRooms$RoomLine" ({ cls := "PalaceOfRooms$Line", name := "every", desc := "(I)I" } : Jvm.MethodName) ({ cls := "PalaceOfRooms$Line", name := "every", desc := "(I)I" } : Jvm.MethodName)) ∈ lw_all := lw_g (lw_at lw_m3 225 rfl) rfl
theorem q1372 : (Jvm.Cond.castable "PalaceOfRooms$RoomLine" "PalaceOfRooms$Line") ∈ lw_tbl := lw_at lw_m6 124 rfl
theorem in_X13 : ∀ w ∈ wsX130, w ∈ lw_all := lw_in wsX130 [644, 646] (by decide +kernel) (by decide +kernel)
def RX14 : String := "PalaceOfRooms$Again"
def TX14 : u_T := fun k => match k with
  | _ => ("PalaceOfRooms$Again", "days", "I", true)
def tyX14 : Nat → FieldType := fun k => match k with
  | _ => .int
abbrev wsX140 : List Cond := u_ws RX14 TX14 1
theorem nmX14 : ∀ a, a < 1 → ∀ b, b < 1 → a ≠ b → (TX14 a).2.1 ≠ (TX14 b).2.1 := by decide +kernel
theorem tyX14_ok : ∀ k, k < 1 → parseFieldDescriptor (TX14 k).2.2.1 = some (tyX14 k) := by decide +kernel
abbrev cX14_init : ByteArray := prog_2_method_1_code
def yX14_init : MethodName := ⟨RX14, "<init>", "(I)V"⟩
abbrev cX14_again : ByteArray := prog_2_method_2_code
def yX14_again : MethodName := ⟨RX14, "again", "()I"⟩
theorem q71 : (Jvm.Cond.initialized "PalaceOfRooms$Again") ∈ lw_all := lw_g (lw_at lw_m1 23 rfl) rfl
theorem q651 : (Jvm.Cond.instantiable "PalaceOfRooms$Again" (1 : Nat)) ∈ lw_all := lw_g (lw_at lw_m3 123 rfl) rfl
theorem q653 : (Jvm.Cond.instanceMethod ({ cls := "PalaceOfRooms$Again", name := "<init>", desc := "(I)V" } : Jvm.MethodName)) ∈ lw_all := lw_g (lw_at lw_m3 125 rfl) rfl
theorem q654 : (Jvm.Cond.code ({ cls := "PalaceOfRooms$Again", name := "<init>", desc := "(I)V" } : Jvm.MethodName) prog_2_method_1_code (2 : Nat) (Option.none : Option Jvm.ClassFile.FieldType)) ∈ lw_all := lw_g (lw_at lw_m3 126 rfl) rfl
theorem q655 : (Jvm.Cond.methodLinkNest "PalaceOfRooms$Again" (1 : Nat) ({ cls := "PalaceOfRooms$Line", name := "<init>", desc := "()V" } : Jvm.MethodName) "PalaceOfRooms") ∈ lw_tbl := lw_at lw_m3 127 rfl
theorem q656 : (Jvm.Cond.fieldLink "PalaceOfRooms$Again" (7 : Nat) "PalaceOfRooms$Again" "days" "I") ∈ lw_all := lw_g (lw_at lw_m3 128 rfl) rfl
theorem q657 : (Jvm.Cond.laysFinal "PalaceOfRooms$Again" "PalaceOfRooms$Again" "days" "I") ∈ lw_all := lw_g (lw_at lw_m3 129 rfl) rfl
theorem q658 : (Jvm.Cond.soleField "PalaceOfRooms$Again" "days") ∈ lw_all := lw_g (lw_at lw_m3 130 rfl) rfl
theorem q659 : (Jvm.Cond.superclass "PalaceOfRooms$Again" "PalaceOfRooms$Line") ∈ lw_all := lw_g (lw_at lw_m3 131 rfl) rfl
theorem q699 : (Jvm.Cond.selects "PalaceOfRooms$Again" ({ cls := "PalaceOfRooms$Line", name := "again", desc := "()I" } : Jvm.MethodName) ({ cls := "PalaceOfRooms$Again", name := "again", desc := "()I" } : Jvm.MethodName)) ∈ lw_all := lw_g (lw_at lw_m3 171 rfl) rfl
theorem q700 : (Jvm.Cond.instanceMethod ({ cls := "PalaceOfRooms$Again", name := "again", desc := "()I" } : Jvm.MethodName)) ∈ lw_all := lw_g (lw_at lw_m3 172 rfl) rfl
theorem q701 : (Jvm.Cond.code ({ cls := "PalaceOfRooms$Again", name := "again", desc := "()I" } : Jvm.MethodName) prog_2_method_2_code (1 : Nat) (Option.some Jvm.ClassFile.FieldType.int)) ∈ lw_all := lw_g (lw_at lw_m3 173 rfl) rfl
theorem q709 : (Jvm.Cond.selects "PalaceOfRooms$Again" ({ cls := "PalaceOfRooms$Line", name := "apart", desc := "()I" } : Jvm.MethodName) ({ cls := "PalaceOfRooms$Line", name := "apart", desc := "()I" } : Jvm.MethodName)) ∈ lw_all := lw_g (lw_at lw_m3 181 rfl) rfl
theorem q723 : (Jvm.Cond.selects "PalaceOfRooms$Again" ({ cls := "PalaceOfRooms$Line", name := "room", desc := "(I)I" } : Jvm.MethodName) ({ cls := "PalaceOfRooms$Line", name := "room", desc := "(I)I" } : Jvm.MethodName)) ∈ lw_all := lw_g (lw_at lw_m3 195 rfl) rfl
theorem q747 : (Jvm.Cond.selects "PalaceOfRooms$Again" ({ cls := "PalaceOfRooms$Line", name := "every", desc := "(I)I" } : Jvm.MethodName) ({ cls := "PalaceOfRooms$Line", name := "every", desc := "(I)I" } : Jvm.MethodName)) ∈ lw_all := lw_g (lw_at lw_m3 219 rfl) rfl
theorem q1373 : (Jvm.Cond.castable "PalaceOfRooms$Again" "PalaceOfRooms$Line") ∈ lw_tbl := lw_at lw_m6 125 rfl
theorem in_X14 : ∀ w ∈ wsX140, w ∈ lw_all := lw_in wsX140 [657] (by decide +kernel) (by decide +kernel)
def RX15 : String := "PalaceOfRooms$Apart"
def TX15 : u_T := fun k => match k with
  | _ => ("PalaceOfRooms$Apart", "n", "I", true)
def tyX15 : Nat → FieldType := fun k => match k with
  | _ => .int
abbrev wsX150 : List Cond := u_ws RX15 TX15 1
theorem nmX15 : ∀ a, a < 1 → ∀ b, b < 1 → a ≠ b → (TX15 a).2.1 ≠ (TX15 b).2.1 := by decide +kernel
theorem tyX15_ok : ∀ k, k < 1 → parseFieldDescriptor (TX15 k).2.2.1 = some (tyX15 k) := by decide +kernel
abbrev cX15_init : ByteArray := prog_3_method_1_code
def yX15_init : MethodName := ⟨RX15, "<init>", "(I)V"⟩
abbrev cX15_apart : ByteArray := prog_3_method_2_code
def yX15_apart : MethodName := ⟨RX15, "apart", "()I"⟩
theorem q72 : (Jvm.Cond.initialized "PalaceOfRooms$Apart") ∈ lw_all := lw_g (lw_at lw_m1 24 rfl) rfl
theorem q662 : (Jvm.Cond.instantiable "PalaceOfRooms$Apart" (1 : Nat)) ∈ lw_all := lw_g (lw_at lw_m3 134 rfl) rfl
theorem q664 : (Jvm.Cond.instanceMethod ({ cls := "PalaceOfRooms$Apart", name := "<init>", desc := "(I)V" } : Jvm.MethodName)) ∈ lw_all := lw_g (lw_at lw_m3 136 rfl) rfl
theorem q665 : (Jvm.Cond.code ({ cls := "PalaceOfRooms$Apart", name := "<init>", desc := "(I)V" } : Jvm.MethodName) prog_3_method_1_code (2 : Nat) (Option.none : Option Jvm.ClassFile.FieldType)) ∈ lw_all := lw_g (lw_at lw_m3 137 rfl) rfl
theorem q666 : (Jvm.Cond.methodLinkNest "PalaceOfRooms$Apart" (1 : Nat) ({ cls := "PalaceOfRooms$Line", name := "<init>", desc := "()V" } : Jvm.MethodName) "PalaceOfRooms") ∈ lw_tbl := lw_at lw_m3 138 rfl
theorem q667 : (Jvm.Cond.fieldLink "PalaceOfRooms$Apart" (7 : Nat) "PalaceOfRooms$Apart" "n" "I") ∈ lw_all := lw_g (lw_at lw_m3 139 rfl) rfl
theorem q668 : (Jvm.Cond.laysFinal "PalaceOfRooms$Apart" "PalaceOfRooms$Apart" "n" "I") ∈ lw_all := lw_g (lw_at lw_m3 140 rfl) rfl
theorem q669 : (Jvm.Cond.soleField "PalaceOfRooms$Apart" "n") ∈ lw_all := lw_g (lw_at lw_m3 141 rfl) rfl
theorem q670 : (Jvm.Cond.superclass "PalaceOfRooms$Apart" "PalaceOfRooms$Line") ∈ lw_all := lw_g (lw_at lw_m3 142 rfl) rfl
theorem q702 : (Jvm.Cond.selects "PalaceOfRooms$Apart" ({ cls := "PalaceOfRooms$Line", name := "again", desc := "()I" } : Jvm.MethodName) ({ cls := "PalaceOfRooms$Line", name := "again", desc := "()I" } : Jvm.MethodName)) ∈ lw_all := lw_g (lw_at lw_m3 174 rfl) rfl
theorem q710 : (Jvm.Cond.selects "PalaceOfRooms$Apart" ({ cls := "PalaceOfRooms$Line", name := "apart", desc := "()I" } : Jvm.MethodName) ({ cls := "PalaceOfRooms$Apart", name := "apart", desc := "()I" } : Jvm.MethodName)) ∈ lw_all := lw_g (lw_at lw_m3 182 rfl) rfl
theorem q711 : (Jvm.Cond.instanceMethod ({ cls := "PalaceOfRooms$Apart", name := "apart", desc := "()I" } : Jvm.MethodName)) ∈ lw_all := lw_g (lw_at lw_m3 183 rfl) rfl
theorem q712 : (Jvm.Cond.code ({ cls := "PalaceOfRooms$Apart", name := "apart", desc := "()I" } : Jvm.MethodName) prog_3_method_2_code (1 : Nat) (Option.some Jvm.ClassFile.FieldType.int)) ∈ lw_all := lw_g (lw_at lw_m3 184 rfl) rfl
theorem q724 : (Jvm.Cond.selects "PalaceOfRooms$Apart" ({ cls := "PalaceOfRooms$Line", name := "room", desc := "(I)I" } : Jvm.MethodName) ({ cls := "PalaceOfRooms$Line", name := "room", desc := "(I)I" } : Jvm.MethodName)) ∈ lw_all := lw_g (lw_at lw_m3 196 rfl) rfl
theorem q748 : (Jvm.Cond.selects "PalaceOfRooms$Apart" ({ cls := "PalaceOfRooms$Line", name := "every", desc := "(I)I" } : Jvm.MethodName) ({ cls := "PalaceOfRooms$Line", name := "every", desc := "(I)I" } : Jvm.MethodName)) ∈ lw_all := lw_g (lw_at lw_m3 220 rfl) rfl
theorem q1374 : (Jvm.Cond.castable "PalaceOfRooms$Apart" "PalaceOfRooms$Line") ∈ lw_tbl := lw_at lw_m6 126 rfl
theorem in_X15 : ∀ w ∈ wsX150, w ∈ lw_all := lw_in wsX150 [668] (by decide +kernel) (by decide +kernel)
def RX16 : String := "PalaceOfRooms$Every"
def TX16 : u_T := fun k => match k with
  | 0 => ("PalaceOfRooms$Every", "room", "I", true)
  | _ => ("PalaceOfRooms$Every", "days", "I", true)
def tyX16 : Nat → FieldType := fun k => match k with
  | 0 => .int
  | _ => .int
abbrev wsX160 : List Cond := u_ws RX16 TX16 2
theorem nmX16 : ∀ a, a < 2 → ∀ b, b < 2 → a ≠ b → (TX16 a).2.1 ≠ (TX16 b).2.1 := by decide +kernel
theorem tyX16_ok : ∀ k, k < 2 → parseFieldDescriptor (TX16 k).2.2.1 = some (tyX16 k) := by decide +kernel
abbrev cX16_init : ByteArray := prog_6_method_1_code
def yX16_init : MethodName := ⟨RX16, "<init>", "(II)V"⟩
abbrev cX16_every : ByteArray := prog_6_method_2_code
def yX16_every : MethodName := ⟨RX16, "every", "(I)I"⟩
theorem q73 : (Jvm.Cond.initialized "PalaceOfRooms$Every") ∈ lw_all := lw_g (lw_at lw_m1 25 rfl) rfl
theorem q674 : (Jvm.Cond.instantiable "PalaceOfRooms$Every" (2 : Nat)) ∈ lw_all := lw_g (lw_at lw_m3 146 rfl) rfl
theorem q676 : (Jvm.Cond.instanceMethod ({ cls := "PalaceOfRooms$Every", name := "<init>", desc := "(II)V" } : Jvm.MethodName)) ∈ lw_all := lw_g (lw_at lw_m3 148 rfl) rfl
theorem q677 : (Jvm.Cond.code ({ cls := "PalaceOfRooms$Every", name := "<init>", desc := "(II)V" } : Jvm.MethodName) prog_6_method_1_code (3 : Nat) (Option.none : Option Jvm.ClassFile.FieldType)) ∈ lw_all := lw_g (lw_at lw_m3 149 rfl) rfl
theorem q678 : (Jvm.Cond.methodLinkNest "PalaceOfRooms$Every" (1 : Nat) ({ cls := "PalaceOfRooms$Line", name := "<init>", desc := "()V" } : Jvm.MethodName) "PalaceOfRooms") ∈ lw_tbl := lw_at lw_m3 150 rfl
theorem q679 : (Jvm.Cond.fieldLink "PalaceOfRooms$Every" (7 : Nat) "PalaceOfRooms$Every" "room" "I") ∈ lw_all := lw_g (lw_at lw_m3 151 rfl) rfl
theorem q680 : (Jvm.Cond.fieldLink "PalaceOfRooms$Every" (13 : Nat) "PalaceOfRooms$Every" "days" "I") ∈ lw_all := lw_g (lw_at lw_m3 152 rfl) rfl
theorem q681 : (Jvm.Cond.laysFinal "PalaceOfRooms$Every" "PalaceOfRooms$Every" "room" "I") ∈ lw_all := lw_g (lw_at lw_m3 153 rfl) rfl
theorem q682 : (Jvm.Cond.soleField "PalaceOfRooms$Every" "room") ∈ lw_all := lw_g (lw_at lw_m3 154 rfl) rfl
theorem q683 : (Jvm.Cond.laysFinal "PalaceOfRooms$Every" "PalaceOfRooms$Every" "days" "I") ∈ lw_all := lw_g (lw_at lw_m3 155 rfl) rfl
theorem q684 : (Jvm.Cond.soleField "PalaceOfRooms$Every" "days") ∈ lw_all := lw_g (lw_at lw_m3 156 rfl) rfl
theorem q685 : (Jvm.Cond.superclass "PalaceOfRooms$Every" "PalaceOfRooms$Line") ∈ lw_all := lw_g (lw_at lw_m3 157 rfl) rfl
theorem q703 : (Jvm.Cond.selects "PalaceOfRooms$Every" ({ cls := "PalaceOfRooms$Line", name := "again", desc := "()I" } : Jvm.MethodName) ({ cls := "PalaceOfRooms$Line", name := "again", desc := "()I" } : Jvm.MethodName)) ∈ lw_all := lw_g (lw_at lw_m3 175 rfl) rfl
theorem q713 : (Jvm.Cond.selects "PalaceOfRooms$Every" ({ cls := "PalaceOfRooms$Line", name := "apart", desc := "()I" } : Jvm.MethodName) ({ cls := "PalaceOfRooms$Line", name := "apart", desc := "()I" } : Jvm.MethodName)) ∈ lw_all := lw_g (lw_at lw_m3 185 rfl) rfl
theorem q725 : (Jvm.Cond.selects "PalaceOfRooms$Every" ({ cls := "PalaceOfRooms$Line", name := "room", desc := "(I)I" } : Jvm.MethodName) ({ cls := "PalaceOfRooms$Line", name := "room", desc := "(I)I" } : Jvm.MethodName)) ∈ lw_all := lw_g (lw_at lw_m3 197 rfl) rfl
theorem q749 : (Jvm.Cond.selects "PalaceOfRooms$Every" ({ cls := "PalaceOfRooms$Line", name := "every", desc := "(I)I" } : Jvm.MethodName) ({ cls := "PalaceOfRooms$Every", name := "every", desc := "(I)I" } : Jvm.MethodName)) ∈ lw_all := lw_g (lw_at lw_m3 221 rfl) rfl
theorem q750 : (Jvm.Cond.instanceMethod ({ cls := "PalaceOfRooms$Every", name := "every", desc := "(I)I" } : Jvm.MethodName)) ∈ lw_all := lw_g (lw_at lw_m3 222 rfl) rfl
theorem q751 : (Jvm.Cond.code ({ cls := "PalaceOfRooms$Every", name := "every", desc := "(I)I" } : Jvm.MethodName) prog_6_method_2_code (2 : Nat) (Option.some Jvm.ClassFile.FieldType.int)) ∈ lw_all := lw_g (lw_at lw_m3 223 rfl) rfl
theorem q752 : (Jvm.Cond.methodLink "PalaceOfRooms$Every" (16 : Nat) ({ cls := "PalaceOfRooms$Line", name := "every", desc := "(I)I" } : Jvm.MethodName)) ∈ lw_all := lw_g (lw_at lw_m3 224 rfl) rfl
theorem q1375 : (Jvm.Cond.castable "PalaceOfRooms$Every" "PalaceOfRooms$Line") ∈ lw_tbl := lw_at lw_m6 127 rfl
theorem in_X16 : ∀ w ∈ wsX160, w ∈ lw_all := lw_in wsX160 [681, 683] (by decide +kernel) (by decide +kernel)
theorem q86 : (Jvm.Cond.arrayOver (Jvm.ClassFile.FieldType.array Jvm.ClassFile.FieldType.boolean)) ∈ lw_tbl := lw_at lw_m1 38 rfl
theorem q94 : (Jvm.Cond.arrayOver (Jvm.ClassFile.FieldType.object "PalaceOfRooms$Corner")) ∈ lw_tbl := lw_at lw_m1 46 rfl
theorem q130 : (Jvm.Cond.arrayClass Jvm.ClassFile.FieldType.boolean) ∈ lw_all := lw_g (lw_at lw_m1 82 rfl) rfl
theorem q131 : (Jvm.Cond.arrayClass Jvm.ClassFile.FieldType.int) ∈ lw_all := lw_g (lw_at lw_m1 83 rfl) rfl
theorem q153 : (Jvm.Cond.arrayOver (Jvm.ClassFile.FieldType.object "PalaceOfRooms$Line")) ∈ lw_tbl := lw_at lw_m1 105 rfl
theorem q181 : (Jvm.Cond.arrayClass Jvm.ClassFile.FieldType.byte) ∈ lw_all := lw_g (lw_at lw_m1 133 rfl) rfl
theorem q183 : (Jvm.Cond.arrayOver (Jvm.ClassFile.FieldType.array Jvm.ClassFile.FieldType.int)) ∈ lw_tbl := lw_at lw_m1 135 rfl
theorem q230 : (Jvm.Cond.arrayOver (Jvm.ClassFile.FieldType.object "PalaceOfRooms$Pupil")) ∈ lw_tbl := lw_at lw_m1 182 rfl
theorem q48 : (Jvm.Cond.initialized "PalaceOfRoomsLaw") ∈ lw_all := lw_g (lw_at lw_m1 0 rfl) rfl
theorem q77 : (Jvm.Cond.classLink "PalaceOfRoomsLaw" (7 : Nat) "PalaceOfRooms") ∈ lw_all := lw_g (lw_at lw_m1 29 rfl) rfl
theorem q79 : (Jvm.Cond.methodLink "PalaceOfRoomsLaw" (9 : Nat) ({ cls := "PalaceOfRooms", name := "<init>", desc := "()V" } : Jvm.MethodName)) ∈ lw_all := lw_g (lw_at lw_m1 31 rfl) rfl
theorem q323 : (Jvm.Cond.methodLink "PalaceOfRoomsLaw" (13 : Nat) ({ cls := "PalaceOfRooms", name := "door", desc := "(II)I" } : Jvm.MethodName)) ∈ lw_all := lw_g (lw_at lw_m2 35 rfl) rfl
theorem q334 : (Jvm.Cond.methodLink "PalaceOfRoomsLaw" (18 : Nat) ({ cls := "PalaceOfRooms", name := "away", desc := "(II)I" } : Jvm.MethodName)) ∈ lw_all := lw_g (lw_at lw_m2 46 rfl) rfl
theorem q342 : (Jvm.Cond.methodLink "PalaceOfRoomsLaw" (22 : Nat) ({ cls := "PalaceOfRooms", name := "marks", desc := "(II)I" } : Jvm.MethodName)) ∈ lw_all := lw_g (lw_at lw_m2 54 rfl) rfl
theorem q351 : (Jvm.Cond.methodLink "PalaceOfRoomsLaw" (26 : Nat) ({ cls := "PalaceOfRooms", name := "like", desc := "(II)I" } : Jvm.MethodName)) ∈ lw_all := lw_g (lw_at lw_m2 63 rfl) rfl
theorem q365 : (Jvm.Cond.methodLink "PalaceOfRoomsLaw" (30 : Nat) ({ cls := "PalaceOfRooms", name := "set", desc := "(II)I" } : Jvm.MethodName)) ∈ lw_all := lw_g (lw_at lw_m2 77 rfl) rfl
theorem q371 : (Jvm.Cond.methodLink "PalaceOfRoomsLaw" (34 : Nat) ({ cls := "PalaceOfRooms", name := "fall", desc := "(II)I" } : Jvm.MethodName)) ∈ lw_all := lw_g (lw_at lw_m2 83 rfl) rfl
theorem q377 : (Jvm.Cond.methodLink "PalaceOfRoomsLaw" (38 : Nat) ({ cls := "PalaceOfRooms", name := "put", desc := "(II)I" } : Jvm.MethodName)) ∈ lw_all := lw_g (lw_at lw_m2 89 rfl) rfl
theorem q402 : (Jvm.Cond.methodLink "PalaceOfRoomsLaw" (42 : Nat) ({ cls := "PalaceOfRooms", name := "clear", desc := "(I)I" } : Jvm.MethodName)) ∈ lw_all := lw_g (lw_at lw_m2 114 rfl) rfl
theorem q414 : (Jvm.Cond.methodLink "PalaceOfRoomsLaw" (47 : Nat) ({ cls := "PalaceOfRooms", name := "corner", desc := "(II)I" } : Jvm.MethodName)) ∈ lw_all := lw_g (lw_at lw_m2 126 rfl) rfl
theorem q423 : (Jvm.Cond.methodLink "PalaceOfRoomsLaw" (51 : Nat) ({ cls := "PalaceOfRooms", name := "where", desc := "(I)I" } : Jvm.MethodName)) ∈ lw_all := lw_g (lw_at lw_m2 135 rfl) rfl
theorem q427 : (Jvm.Cond.methodLink "PalaceOfRoomsLaw" (55 : Nat) ({ cls := "PalaceOfRooms", name := "days", desc := "(I)I" } : Jvm.MethodName)) ∈ lw_all := lw_g (lw_at lw_m2 139 rfl) rfl
theorem q461 : (Jvm.Cond.methodLink "PalaceOfRoomsLaw" (59 : Nat) ({ cls := "PalaceOfRooms", name := "walk", desc := "(I)I" } : Jvm.MethodName)) ∈ lw_all := lw_g (lw_at lw_m2 173 rfl) rfl
theorem q469 : (Jvm.Cond.methodLink "PalaceOfRoomsLaw" (65 : Nat) ({ cls := "PalaceOfRooms", name := "write", desc := "(JI)I" } : Jvm.MethodName)) ∈ lw_all := lw_g (lw_at lw_m2 181 rfl) rfl
theorem q473 : (Jvm.Cond.methodLink "PalaceOfRoomsLaw" (70 : Nat) ({ cls := "PalaceOfRooms", name := "erase", desc := "()I" } : Jvm.MethodName)) ∈ lw_all := lw_g (lw_at lw_m2 185 rfl) rfl
theorem q477 : (Jvm.Cond.methodLink "PalaceOfRoomsLaw" (75 : Nat) ({ cls := "PalaceOfRooms", name := "fault", desc := "()I" } : Jvm.MethodName)) ∈ lw_all := lw_g (lw_at lw_m2 189 rfl) rfl
theorem q687 : (Jvm.Cond.methodLink "PalaceOfRoomsLaw" (79 : Nat) ({ cls := "PalaceOfRooms", name := "rules", desc := "()I" } : Jvm.MethodName)) ∈ lw_all := lw_g (lw_at lw_m3 159 rfl) rfl
theorem q692 : (Jvm.Cond.methodLink "PalaceOfRoomsLaw" (83 : Nat) ({ cls := "PalaceOfRooms", name := "bars", desc := "(II)I" } : Jvm.MethodName)) ∈ lw_all := lw_g (lw_at lw_m3 164 rfl) rfl
theorem q740 : (Jvm.Cond.methodLink "PalaceOfRoomsLaw" (87 : Nat) ({ cls := "PalaceOfRooms", name := "due", desc := "()I" } : Jvm.MethodName)) ∈ lw_all := lw_g (lw_at lw_m3 212 rfl) rfl
theorem q755 : (Jvm.Cond.methodLink "PalaceOfRoomsLaw" (91 : Nat) ({ cls := "PalaceOfRooms", name := "laid", desc := "(JII)I" } : Jvm.MethodName)) ∈ lw_all := lw_g (lw_at lw_m3 227 rfl) rfl
theorem q841 : (Jvm.Cond.methodLink "PalaceOfRoomsLaw" (138 : Nat) ({ cls := "PalaceOfRooms", name := "code", desc := "(JII)I" } : Jvm.MethodName)) ∈ lw_all := lw_g (lw_at lw_m4 73 rfl) rfl
theorem q845 : (Jvm.Cond.methodLink "PalaceOfRoomsLaw" (134 : Nat) ({ cls := "PalaceOfRooms", name := "figures", desc := "(III)I" } : Jvm.MethodName)) ∈ lw_all := lw_g (lw_at lw_m4 77 rfl) rfl
theorem q850 : (Jvm.Cond.methodLink "PalaceOfRoomsLaw" (96 : Nat) ({ cls := "PalaceOfRooms", name := "cost", desc := "(I)I" } : Jvm.MethodName)) ∈ lw_all := lw_g (lw_at lw_m4 82 rfl) rfl
theorem q858 : (Jvm.Cond.methodLink "PalaceOfRoomsLaw" (100 : Nat) ({ cls := "PalaceOfRooms", name := "plan", desc := "(III)I" } : Jvm.MethodName)) ∈ lw_all := lw_g (lw_at lw_m4 90 rfl) rfl
theorem q902 : (Jvm.Cond.methodLink "PalaceOfRoomsLaw" (105 : Nat) ({ cls := "PalaceOfRooms", name := "judge", desc := "(III)I" } : Jvm.MethodName)) ∈ lw_all := lw_g (lw_at lw_m4 134 rfl) rfl
theorem q906 : (Jvm.Cond.methodLink "PalaceOfRoomsLaw" (109 : Nat) ({ cls := "PalaceOfRooms", name := "right", desc := "(II)I" } : Jvm.MethodName)) ∈ lw_all := lw_g (lw_at lw_m4 138 rfl) rfl
theorem q911 : (Jvm.Cond.methodLink "PalaceOfRoomsLaw" (113 : Nat) ({ cls := "PalaceOfRooms", name := "causes", desc := "(II)I" } : Jvm.MethodName)) ∈ lw_all := lw_g (lw_at lw_m4 143 rfl) rfl
theorem q915 : (Jvm.Cond.methodLink "PalaceOfRoomsLaw" (117 : Nat) ({ cls := "PalaceOfRooms", name := "asked", desc := "(II)I" } : Jvm.MethodName)) ∈ lw_all := lw_g (lw_at lw_m4 147 rfl) rfl
theorem q919 : (Jvm.Cond.methodLink "PalaceOfRoomsLaw" (121 : Nat) ({ cls := "PalaceOfRooms", name := "beside", desc := "(II)I" } : Jvm.MethodName)) ∈ lw_all := lw_g (lw_at lw_m4 151 rfl) rfl
theorem q923 : (Jvm.Cond.methodLink "PalaceOfRoomsLaw" (125 : Nat) ({ cls := "PalaceOfRooms", name := "answer", desc := "(IIZ)I" } : Jvm.MethodName)) ∈ lw_all := lw_g (lw_at lw_m4 155 rfl) rfl
theorem q931 : (Jvm.Cond.methodLink "PalaceOfRoomsLaw" (130 : Nat) ({ cls := "PalaceOfRooms", name := "pupil", desc := "(II)I" } : Jvm.MethodName)) ∈ lw_all := lw_g (lw_at lw_m4 163 rfl) rfl
theorem q963 : (Jvm.Cond.methodLink "PalaceOfRoomsLaw" (142 : Nat) ({ cls := "PalaceOfRooms", name := "enough", desc := "(I)I" } : Jvm.MethodName)) ∈ lw_all := lw_g (lw_at lw_m4 195 rfl) rfl
theorem q969 : (Jvm.Cond.methodLink "PalaceOfRoomsLaw" (146 : Nat) ({ cls := "PalaceOfRooms", name := "count", desc := "(I)I" } : Jvm.MethodName)) ∈ lw_all := lw_g (lw_at lw_m4 201 rfl) rfl
theorem q973 : (Jvm.Cond.classLink "PalaceOfRoomsLaw" (10 : Nat) "PalaceOfRoomsModel") ∈ lw_all := lw_g (lw_at lw_m4 205 rfl) rfl
theorem q975 : (Jvm.Cond.methodLink "PalaceOfRoomsLaw" (12 : Nat) ({ cls := "PalaceOfRoomsModel", name := "<init>", desc := "()V" } : Jvm.MethodName)) ∈ lw_all := lw_g (lw_at lw_m4 207 rfl) rfl
theorem q1097 : (Jvm.Cond.methodLink "PalaceOfRoomsLaw" (17 : Nat) ({ cls := "PalaceOfRoomsModel", name := "door", desc := "(II)I" } : Jvm.MethodName)) ∈ lw_all := lw_g (lw_at lw_m5 89 rfl) rfl
theorem q1111 : (Jvm.Cond.methodLink "PalaceOfRoomsLaw" (21 : Nat) ({ cls := "PalaceOfRoomsModel", name := "away", desc := "(II)I" } : Jvm.MethodName)) ∈ lw_all := lw_g (lw_at lw_m5 103 rfl) rfl
theorem q1119 : (Jvm.Cond.methodLink "PalaceOfRoomsLaw" (25 : Nat) ({ cls := "PalaceOfRoomsModel", name := "marks", desc := "(II)I" } : Jvm.MethodName)) ∈ lw_all := lw_g (lw_at lw_m5 111 rfl) rfl
theorem q1126 : (Jvm.Cond.methodLink "PalaceOfRoomsLaw" (29 : Nat) ({ cls := "PalaceOfRoomsModel", name := "like", desc := "(II)I" } : Jvm.MethodName)) ∈ lw_all := lw_g (lw_at lw_m5 118 rfl) rfl
theorem q1134 : (Jvm.Cond.methodLink "PalaceOfRoomsLaw" (33 : Nat) ({ cls := "PalaceOfRoomsModel", name := "set", desc := "(II)I" } : Jvm.MethodName)) ∈ lw_all := lw_g (lw_at lw_m5 126 rfl) rfl
theorem q1138 : (Jvm.Cond.methodLink "PalaceOfRoomsLaw" (37 : Nat) ({ cls := "PalaceOfRoomsModel", name := "fall", desc := "(II)I" } : Jvm.MethodName)) ∈ lw_all := lw_g (lw_at lw_m5 130 rfl) rfl
theorem q1142 : (Jvm.Cond.methodLink "PalaceOfRoomsLaw" (41 : Nat) ({ cls := "PalaceOfRoomsModel", name := "put", desc := "(II)I" } : Jvm.MethodName)) ∈ lw_all := lw_g (lw_at lw_m5 134 rfl) rfl
theorem q1153 : (Jvm.Cond.methodLink "PalaceOfRoomsLaw" (46 : Nat) ({ cls := "PalaceOfRoomsModel", name := "clear", desc := "(I)I" } : Jvm.MethodName)) ∈ lw_all := lw_g (lw_at lw_m5 145 rfl) rfl
theorem q1157 : (Jvm.Cond.methodLink "PalaceOfRoomsLaw" (50 : Nat) ({ cls := "PalaceOfRoomsModel", name := "corner", desc := "(II)I" } : Jvm.MethodName)) ∈ lw_all := lw_g (lw_at lw_m5 149 rfl) rfl
theorem q1161 : (Jvm.Cond.methodLink "PalaceOfRoomsLaw" (54 : Nat) ({ cls := "PalaceOfRoomsModel", name := "where", desc := "(I)I" } : Jvm.MethodName)) ∈ lw_all := lw_g (lw_at lw_m5 153 rfl) rfl
theorem q1165 : (Jvm.Cond.methodLink "PalaceOfRoomsLaw" (58 : Nat) ({ cls := "PalaceOfRoomsModel", name := "days", desc := "(I)I" } : Jvm.MethodName)) ∈ lw_all := lw_g (lw_at lw_m5 157 rfl) rfl
theorem q1181 : (Jvm.Cond.methodLink "PalaceOfRoomsLaw" (62 : Nat) ({ cls := "PalaceOfRoomsModel", name := "walk", desc := "(I)I" } : Jvm.MethodName)) ∈ lw_all := lw_g (lw_at lw_m5 173 rfl) rfl
theorem q1189 : (Jvm.Cond.methodLink "PalaceOfRoomsLaw" (69 : Nat) ({ cls := "PalaceOfRoomsModel", name := "write", desc := "(JI)I" } : Jvm.MethodName)) ∈ lw_all := lw_g (lw_at lw_m5 181 rfl) rfl
theorem q1194 : (Jvm.Cond.methodLink "PalaceOfRoomsLaw" (74 : Nat) ({ cls := "PalaceOfRoomsModel", name := "erase", desc := "()I" } : Jvm.MethodName)) ∈ lw_all := lw_g (lw_at lw_m5 186 rfl) rfl
theorem q1198 : (Jvm.Cond.methodLink "PalaceOfRoomsLaw" (78 : Nat) ({ cls := "PalaceOfRoomsModel", name := "fault", desc := "()I" } : Jvm.MethodName)) ∈ lw_all := lw_g (lw_at lw_m5 190 rfl) rfl
theorem q1237 : (Jvm.Cond.methodLink "PalaceOfRoomsLaw" (82 : Nat) ({ cls := "PalaceOfRoomsModel", name := "rules", desc := "()I" } : Jvm.MethodName)) ∈ lw_all := lw_g (lw_at lw_m5 229 rfl) rfl
theorem q1241 : (Jvm.Cond.methodLink "PalaceOfRoomsLaw" (86 : Nat) ({ cls := "PalaceOfRoomsModel", name := "bars", desc := "(II)I" } : Jvm.MethodName)) ∈ lw_all := lw_g (lw_at lw_m5 233 rfl) rfl
theorem q1257 : (Jvm.Cond.methodLink "PalaceOfRoomsLaw" (90 : Nat) ({ cls := "PalaceOfRoomsModel", name := "due", desc := "()I" } : Jvm.MethodName)) ∈ lw_all := lw_g (lw_at lw_m6 9 rfl) rfl
theorem q1261 : (Jvm.Cond.methodLink "PalaceOfRoomsLaw" (95 : Nat) ({ cls := "PalaceOfRoomsModel", name := "laid", desc := "(JII)I" } : Jvm.MethodName)) ∈ lw_all := lw_g (lw_at lw_m6 13 rfl) rfl
theorem q1282 : (Jvm.Cond.methodLink "PalaceOfRoomsLaw" (99 : Nat) ({ cls := "PalaceOfRoomsModel", name := "cost", desc := "(I)I" } : Jvm.MethodName)) ∈ lw_all := lw_g (lw_at lw_m6 34 rfl) rfl
theorem q1290 : (Jvm.Cond.methodLink "PalaceOfRoomsLaw" (104 : Nat) ({ cls := "PalaceOfRoomsModel", name := "plan", desc := "(III)I" } : Jvm.MethodName)) ∈ lw_all := lw_g (lw_at lw_m6 42 rfl) rfl
theorem q1305 : (Jvm.Cond.methodLink "PalaceOfRoomsLaw" (108 : Nat) ({ cls := "PalaceOfRoomsModel", name := "judge", desc := "(III)I" } : Jvm.MethodName)) ∈ lw_all := lw_g (lw_at lw_m6 57 rfl) rfl
theorem q1309 : (Jvm.Cond.methodLink "PalaceOfRoomsLaw" (112 : Nat) ({ cls := "PalaceOfRoomsModel", name := "right", desc := "(II)I" } : Jvm.MethodName)) ∈ lw_all := lw_g (lw_at lw_m6 61 rfl) rfl
theorem q1313 : (Jvm.Cond.methodLink "PalaceOfRoomsLaw" (116 : Nat) ({ cls := "PalaceOfRoomsModel", name := "causes", desc := "(II)I" } : Jvm.MethodName)) ∈ lw_all := lw_g (lw_at lw_m6 65 rfl) rfl
theorem q1317 : (Jvm.Cond.methodLink "PalaceOfRoomsLaw" (120 : Nat) ({ cls := "PalaceOfRoomsModel", name := "asked", desc := "(II)I" } : Jvm.MethodName)) ∈ lw_all := lw_g (lw_at lw_m6 69 rfl) rfl
theorem q1321 : (Jvm.Cond.methodLink "PalaceOfRoomsLaw" (124 : Nat) ({ cls := "PalaceOfRoomsModel", name := "beside", desc := "(II)I" } : Jvm.MethodName)) ∈ lw_all := lw_g (lw_at lw_m6 73 rfl) rfl
theorem q1325 : (Jvm.Cond.methodLink "PalaceOfRoomsLaw" (129 : Nat) ({ cls := "PalaceOfRoomsModel", name := "answer", desc := "(IIZ)I" } : Jvm.MethodName)) ∈ lw_all := lw_g (lw_at lw_m6 77 rfl) rfl
theorem q1332 : (Jvm.Cond.methodLink "PalaceOfRoomsLaw" (133 : Nat) ({ cls := "PalaceOfRoomsModel", name := "pupil", desc := "(II)I" } : Jvm.MethodName)) ∈ lw_all := lw_g (lw_at lw_m6 84 rfl) rfl
theorem q1347 : (Jvm.Cond.methodLink "PalaceOfRoomsLaw" (137 : Nat) ({ cls := "PalaceOfRoomsModel", name := "figures", desc := "(III)I" } : Jvm.MethodName)) ∈ lw_all := lw_g (lw_at lw_m6 99 rfl) rfl
theorem q1351 : (Jvm.Cond.methodLink "PalaceOfRoomsLaw" (141 : Nat) ({ cls := "PalaceOfRoomsModel", name := "code", desc := "(JII)I" } : Jvm.MethodName)) ∈ lw_all := lw_g (lw_at lw_m6 103 rfl) rfl
theorem q1355 : (Jvm.Cond.methodLink "PalaceOfRoomsLaw" (145 : Nat) ({ cls := "PalaceOfRoomsModel", name := "enough", desc := "(I)I" } : Jvm.MethodName)) ∈ lw_all := lw_g (lw_at lw_m6 107 rfl) rfl
theorem q1359 : (Jvm.Cond.methodLink "PalaceOfRoomsLaw" (149 : Nat) ({ cls := "PalaceOfRoomsModel", name := "count", desc := "(I)I" } : Jvm.MethodName)) ∈ lw_all := lw_g (lw_at lw_m6 111 rfl) rfl
theorem q1363 : (Jvm.Cond.constantLong "PalaceOfRoomsLaw" (63 : Nat) (4294967295 : Int64)) ∈ lw_all := lw_g (lw_at lw_m6 115 rfl) rfl
theorem q76 : (Jvm.Cond.initialized "java/lang/System") ∈ lw_all := lw_g (lw_at lw_m1 28 rfl) rfl
theorem q799 : (Jvm.Cond.static ({ cls := "java/lang/System", name := "arraycopy", desc := "(Ljava/lang/Object;ILjava/lang/Object;II)V" } : Jvm.MethodName)) ∈ lw_all := lw_g (lw_at lw_m4 31 rfl) rfl
theorem q800 : (Jvm.Cond.native ({ cls := "java/lang/System", name := "arraycopy", desc := "(Ljava/lang/Object;ILjava/lang/Object;II)V" } : Jvm.MethodName)) ∈ lw_all := lw_g (lw_at lw_m4 32 rfl) rfl
theorem q789 : (Jvm.Cond.sameMethod "[I" "java/lang/Object" "clone" "()Ljava/lang/Object;") ∈ lw_all := lw_g (lw_at lw_m4 21 rfl) rfl
theorem q792 : (Jvm.Cond.selects "[I" ({ cls := "[I", name := "clone", desc := "()Ljava/lang/Object;" } : Jvm.MethodName) ({ cls := "java/lang/Object", name := "clone", desc := "()Ljava/lang/Object;" } : Jvm.MethodName)) ∈ lw_all := lw_g (lw_at lw_m4 24 rfl) rfl
theorem q793 : (Jvm.Cond.castable "[I" "java/lang/Cloneable") ∈ lw_tbl := lw_at lw_m4 25 rfl
